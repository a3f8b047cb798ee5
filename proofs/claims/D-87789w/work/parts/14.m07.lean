set_option maxRecDepth 100000
set_option maxHeartbeats 1000000
/-! methods of the class side: decode rows, denotations c_.., walks u_.. (written by wip/gen/cmain.py) -/
theorem dX15_path_0 : decode cX15_path 0 = .ok (.aload_n 0, 1) := by decide +kernel
theorem dX15_path_1 : decode cX15_path 1 = .ok (.aload_n 0, 1) := by decide +kernel
theorem dX15_path_2 : decode cX15_path 2 = .ok (.invokevirtual 20, 3) := by decide +kernel
theorem dX15_path_5 : decode cX15_path 5 = .ok (.bipush 47, 2) := by decide +kernel
theorem dX15_path_7 : decode cX15_path 7 = .ok (.if_icmp .ne 7, 3) := by decide +kernel
theorem dX15_path_10 : decode cX15_path 10 = .ok (.iconst 1, 1) := by decide +kernel
theorem dX15_path_11 : decode cX15_path 11 = .ok (.goto 4, 3) := by decide +kernel
theorem dX15_path_14 : decode cX15_path 14 = .ok (.iconst 0, 1) := by decide +kernel
theorem dX15_path_15 : decode cX15_path 15 = .ok (.putfield 24, 3) := by decide +kernel
theorem dX15_path_18 : decode cX15_path 18 = .ok (.aload_n 0, 1) := by decide +kernel
theorem dX15_path_19 : decode cX15_path 19 = .ok (.ldc 28, 2) := by decide +kernel
theorem dX15_path_21 : decode cX15_path 21 = .ok (.invokevirtual 30, 3) := by decide +kernel
theorem dX15_path_24 : decode cX15_path 24 = .ok (.ifCond .eq 34, 3) := by decide +kernel
theorem dX15_path_27 : decode cX15_path 27 = .ok (.aload_n 0, 1) := by decide +kernel
theorem dX15_path_28 : decode cX15_path 28 = .ok (.ldc 34, 2) := by decide +kernel
theorem dX15_path_30 : decode cX15_path 30 = .ok (.invokevirtual 30, 3) := by decide +kernel
theorem dX15_path_33 : decode cX15_path 33 = .ok (.ifCond .ne 25, 3) := by decide +kernel
theorem dX15_path_36 : decode cX15_path 36 = .ok (.aload_n 0, 1) := by decide +kernel
theorem dX15_path_37 : decode cX15_path 37 = .ok (.ldc 28, 2) := by decide +kernel
theorem dX15_path_39 : decode cX15_path 39 = .ok (.invokevirtual 36, 3) := by decide +kernel
theorem dX15_path_42 : decode cX15_path 42 = .ok (.aload_n 0, 1) := by decide +kernel
theorem dX15_path_43 : decode cX15_path 43 = .ok (.invokevirtual 20, 3) := by decide +kernel
theorem dX15_path_46 : decode cX15_path 46 = .ok (.ifCond .ge 4, 3) := by decide +kernel
theorem dX15_path_49 : decode cX15_path 49 = .ok (.return_, 1) := by decide +kernel
theorem dX15_path_50 : decode cX15_path 50 = .ok (.aload_n 0, 1) := by decide +kernel
theorem dX15_path_51 : decode cX15_path 51 = .ok (.iconst 0, 1) := by decide +kernel
theorem dX15_path_52 : decode cX15_path 52 = .ok (.invokevirtual 40, 3) := by decide +kernel
theorem dX15_path_55 : decode cX15_path 55 = .ok (.goto 13, 3) := by decide +kernel
theorem dX15_path_58 : decode cX15_path 58 = .ok (.aload_n 0, 1) := by decide +kernel
theorem dX15_path_59 : decode cX15_path 59 = .ok (.aload_n 0, 1) := by decide +kernel
theorem dX15_path_60 : decode cX15_path 60 = .ok (.ldc 34, 2) := by decide +kernel
theorem dX15_path_62 : decode cX15_path 62 = .ok (.invokevirtual 44, 3) := by decide +kernel
theorem dX15_path_65 : decode cX15_path 65 = .ok (.invokevirtual 40, 3) := by decide +kernel
theorem dX15_path_68 : decode cX15_path 68 = .ok (.aload_n 0, 1) := by decide +kernel
theorem dX15_path_69 : decode cX15_path 69 = .ok (.invokevirtual 20, 3) := by decide +kernel
theorem dX15_path_72 : decode cX15_path 72 = .ok (.ifCond .lt 50, 3) := by decide +kernel
theorem dX15_path_75 : decode cX15_path 75 = .ok (.aload_n 0, 1) := by decide +kernel
theorem dX15_path_76 : decode cX15_path 76 = .ok (.invokevirtual 20, 3) := by decide +kernel
theorem dX15_path_79 : decode cX15_path 79 = .ok (.bipush 47, 2) := by decide +kernel
theorem dX15_path_81 : decode cX15_path 81 = .ok (.if_icmp .eq 16, 3) := by decide +kernel
theorem dX15_path_84 : decode cX15_path 84 = .ok (.new 47, 3) := by decide +kernel
theorem dX15_path_87 : decode cX15_path 87 = .ok (.dup, 1) := by decide +kernel
theorem dX15_path_88 : decode cX15_path 88 = .ok (.iconst (-1), 1) := by decide +kernel
theorem dX15_path_89 : decode cX15_path 89 = .ok (.aload_n 0, 1) := by decide +kernel
theorem dX15_path_90 : decode cX15_path 90 = .ok (.invokevirtual 49, 3) := by decide +kernel
theorem dX15_path_93 : decode cX15_path 93 = .ok (.invokespecial 52, 3) := by decide +kernel
theorem dX15_path_96 : decode cX15_path 96 = .ok (.athrow, 1) := by decide +kernel
theorem dX15_path_97 : decode cX15_path 97 = .ok (.aload_n 0, 1) := by decide +kernel
theorem dX15_path_98 : decode cX15_path 98 = .ok (.ldc 34, 2) := by decide +kernel
theorem dX15_path_100 : decode cX15_path 100 = .ok (.invokevirtual 44, 3) := by decide +kernel
theorem dX15_path_103 : decode cX15_path 103 = .ok (.istore_n 1, 1) := by decide +kernel
theorem dX15_path_104 : decode cX15_path 104 = .ok (.iload_n 1, 1) := by decide +kernel
theorem dX15_path_105 : decode cX15_path 105 = .ok (.ifCond .ne 9, 3) := by decide +kernel
theorem dX15_path_108 : decode cX15_path 108 = .ok (.aload_n 0, 1) := by decide +kernel
theorem dX15_path_109 : decode cX15_path 109 = .ok (.ldc 28, 2) := by decide +kernel
theorem dX15_path_111 : decode cX15_path 111 = .ok (.invokevirtual 36, 3) := by decide +kernel
theorem dX15_path_114 : decode cX15_path 114 = .ok (.aload_n 0, 1) := by decide +kernel
theorem dX15_path_115 : decode cX15_path 115 = .ok (.iload_n 1, 1) := by decide +kernel
theorem dX15_path_116 : decode cX15_path 116 = .ok (.invokevirtual 40, 3) := by decide +kernel
theorem dX15_path_119 : decode cX15_path 119 = .ok (.goto (-51), 3) := by decide +kernel
theorem dX15_path_122 : decode cX15_path 122 = .ok (.return_, 1) := by decide +kernel
def c_X15_path_68 : Nat → MEM → Int → Option zc_O
  | 0, _, _ => none
  | n + 1, μ, x0 => ck (zt [15] (μ x0 (-1)) = true) (bc (c_X2_here μ x0) (fun r2 μ3 => if r2 < 0 then (some (0, 0, μ3)) else (ck (zt [15] (μ3 x0 (-1)) = true) (bc (c_X2_here μ3 x0) (fun r6 μ7 => if r6 = 47 then (ck (zt [15] (μ7 x0 (-1)) = true) (bc (c_X2_takes μ7 x0 (-33)) (fun r10 μ11 => if r10 = 0 then (ck (zt [15] (μ11 x0 (-1)) = true) (bc (c_X2_must μ11 x0 (-32)) (fun _ μ14 => ck (zt [15] (μ14 x0 (-1)) = true) (bc (c_X15_step μ14 x0 r10) (fun _ μ16 => c_X15_path_68 n μ16 x0))))) else (ck (zt [15] (μ11 x0 (-1)) = true) (bc (c_X15_step μ11 x0 r10) (fun _ μ18 => c_X15_path_68 n μ18 x0)))))) else (ck (1 ≤ μ7 0 1 ∧ (8 : Int) ≤ μ7 0 2) (nu (mnew μ7 22 0 8) (fun μ19 => ck (zt [15] (μ19 x0 (-1)) = true) (bc (c_X2_place μ19 x0) (fun r22 μ23 => ck (zt [22] (μ23 (μ7 0 0) (-1)) = true) (bc (b_finit μ23 (μ7 0 0) (-1) r22) (fun _ μ26 => ck (0 < (μ7 0 0)) (some (1, (μ7 0 0), μ26))))))))))))))
theorem u_X15_path_68 {C : zv_Cx zc_O} {G : zc_G} {μ0 : MEM} (h : zv_Ok C cX15_path "TreePress$PathReader") (hc : zc_C C G μ0 2 (Option.none : Option FieldType) 0 11 231 "path" []) : ∀ (n : Nat) (μ : MEM) (x0 : Int), VV C (c_X15_path_68 n μ x0) μ [(0, zc_rv G x0)] [] 68 := by
  have hN : ∀ i, i < 2 → i < zv_n C := fun i q => by rw [hc.2.1]; exact q
  intro n
  induction n with
  | zero => intros; exact r_none
  | succ n ih =>
    intro μ x0 
    rw [c_X15_path_68]
    refine c_aload_n (x := x0) h 0 dX15_path_68 rfl rfl ?_
    refine r_ck (fun ht1 => ?_)
    refine c_callU (x := x0) (xm := ⟨"TreePress$PathReader", "here", "()I"⟩) (owner := "TreePress$Reader") h hc (As := []) (fun o1 e1 => u_X2_here _ x0 o1 e1) [15] ht1 (by decide) q1243 q1244 (va_Decl.of (h.2.2.2.2 _ q493) (h.2.2.2.2 _ q494)) ⟨by decide, by decide⟩ q493 (fun t ht => by cases List.mem_singleton.mp ht; exact q1245) q494 q137 (by omega) (by omega) zc_s0 (by omega) (fun z hz => by cases hz) (n := 0) (by decide +kernel) rfl rfl dX15_path_69 (fun r2 μ3 hr4 => r_k1 ?_)
    refine r_if_lt (x := r2) h hr4 122 dX15_path_72 rfl ?_ ?_
    · exact c_vret h hc rfl dX15_path_122
    · refine c_aload_n (x := x0) h 0 dX15_path_75 rfl rfl ?_
      refine r_ck (fun ht5 => ?_)
      refine c_callU (x := x0) (xm := ⟨"TreePress$PathReader", "here", "()I"⟩) (owner := "TreePress$Reader") h hc (As := []) (fun o1 e1 => u_X2_here _ x0 o1 e1) [15] ht5 (by decide) q1243 q1244 (va_Decl.of (h.2.2.2.2 _ q493) (h.2.2.2.2 _ q494)) ⟨by decide, by decide⟩ q493 (fun t ht => by cases List.mem_singleton.mp ht; exact q1245) q494 q137 (by omega) (by omega) zc_s0 (by omega) (fun z hz => by cases hz) (n := 0) (by decide +kernel) rfl rfl dX15_path_76 (fun r6 μ7 hr8 => r_k1 ?_)
      refine r_bipush h dX15_path_79 (by decide) ?_
      refine r_icmp_eq (x := r6) (y := 47) h hr8 (by decide) 97 dX15_path_81 rfl ?_ ?_
      · refine c_aload_n (x := x0) h 0 dX15_path_97 rfl rfl ?_
        refine c_ldcs (tx := "//") h hc 33 (by decide) (-33) rfl (by decide) dX15_path_98 ?_
        refine r_ck (fun ht9 => ?_)
        refine c_callU (x := x0) (xm := ⟨"TreePress$PathReader", "takes", "(Ljava/lang/String;)Z"⟩) (owner := "TreePress$Reader") h hc (As := [zc_rv G (-33)]) (fun o1 e1 => u_X2_takes _ x0 (-33) o1 e1) [15] ht9 (by decide) q1295 q1296 (va_Decl.of (h.2.2.2.2 _ q570) (h.2.2.2.2 _ q574)) ⟨by decide, by decide⟩ q570 (fun t ht => by cases List.mem_singleton.mp ht; exact q1297) q574 q137 (by omega) (by omega) zc_s0 (by omega) (fun z hz => by cases hz) (n := 1) (by decide +kernel) rfl rfl dX15_path_100 (fun r10 μ11 hr12 => r_k3 ?_)
        refine r_istore_n (i := 1) (lv' := [(1, iv r10), (0, zc_rv G x0)]) h dX15_path_103 rfl (hN _ (by decide)) (by simp [zc_rv_cat]) ?_
        refine r_iload_n h 0 dX15_path_104 rfl rfl ?_
        refine r_if_ne (x := r10) h hr12.r 114 dX15_path_105 rfl ?_ ?_
        · refine c_aload_n (x := x0) h 1 dX15_path_108 rfl rfl ?_
          refine c_ldcs (tx := "/") h hc 32 (by decide) (-32) rfl (by decide) dX15_path_109 ?_
          refine r_ck (fun ht13 => ?_)
          refine c_callU (x := x0) (xm := ⟨"TreePress$PathReader", "must", "(Ljava/lang/String;)V"⟩) (owner := "TreePress$Reader") h hc (As := [zc_rv G (-32)]) (fun o1 e1 => u_X2_must _ x0 (-32) o1 e1) [15] ht13 (by decide) q1251 q1252 (va_Decl.of (h.2.2.2.2 _ q567) (h.2.2.2.2 _ q568)) ⟨by decide, by decide⟩ q567 (fun t ht => by cases List.mem_singleton.mp ht; exact q1253) q568 q137 (by omega) (by omega) zc_s0 (by omega) (fun z hz => by cases hz) (n := 1) (by decide +kernel) rfl rfl dX15_path_111 (fun _ μ14 _ => r_k0 ?_)
          refine c_aload_n (x := x0) h 1 dX15_path_114 rfl rfl ?_
          refine r_iload_n h 0 dX15_path_115 rfl rfl ?_
          refine r_ck (fun ht15 => ?_)
          refine c_callV (x := x0) h hc (As := [iv r10]) (fun o1 e1 => u_X15_step _ x0 r10 hr12 o1 e1) [15] ht15 (by decide) q1254 q1256 (fun t ht => by cases List.mem_singleton.mp ht; exact qs42) q1257 q162 (by omega) (by omega) zc_s0 (by omega) (fun z hz => by cases hz) ⟨by decide, by decide⟩ (n := 1) (by decide +kernel) rfl rfl dX15_path_116 (fun _ μ16 _ => r_k0 ?_)
          refine r_goto h 68 dX15_path_119 rfl ?_
          exact r_lv [1] rfl (ih _ x0)
        · refine c_aload_n (x := x0) h 1 dX15_path_114 rfl rfl ?_
          refine r_iload_n h 0 dX15_path_115 rfl rfl ?_
          refine r_ck (fun ht17 => ?_)
          refine c_callV (x := x0) h hc (As := [iv r10]) (fun o1 e1 => u_X15_step _ x0 r10 hr12 o1 e1) [15] ht17 (by decide) q1254 q1256 (fun t ht => by cases List.mem_singleton.mp ht; exact qs42) q1257 q162 (by omega) (by omega) zc_s0 (by omega) (fun z hz => by cases hz) ⟨by decide, by decide⟩ (n := 1) (by decide +kernel) rfl rfl dX15_path_116 (fun _ μ18 _ => r_k0 ?_)
          refine r_goto h 68 dX15_path_119 rfl ?_
          exact r_lv [1] rfl (ih _ x0)
      · refine c_newF h hc q1264 q577 q153 dX15_path_84 (fun _ μ19 he20 => ?_)
        refine r_dup h dX15_path_87 (zc_rv_cat G _) ?_
        refine r_iconst h dX15_path_88 ?_
        refine c_aload_n (x := x0) h 0 dX15_path_89 rfl rfl ?_
        refine r_ck (fun ht21 => ?_)
        refine c_callU (x := x0) (xm := ⟨"TreePress$PathReader", "place", "()I"⟩) (owner := "TreePress$Reader") h hc (As := []) (fun o1 e1 => u_X2_place _ x0 o1 e1) [15] ht21 (by decide) q1258 q1259 (va_Decl.of (h.2.2.2.2 _ q487) (h.2.2.2.2 _ q488)) ⟨by decide, by decide⟩ q487 (fun t ht => by cases List.mem_singleton.mp ht; exact q1260) q488 q137 (by omega) (by omega) (zc_sc (iv_cat _) (zc_sc (zc_rv_cat G _) (zc_sc (zc_rv_cat G _) zc_s0))) (by omega) (fun z hz => by cases hz) (n := 0) (by decide +kernel) rfl rfl dX15_path_90 (fun r22 μ23 hr24 => r_k1 ?_)
        refine r_ck (fun ht25 => ?_)
        refine c_callI (x := (μ7 0 0)) h hc (As := [iv (-1), iv r22]) (fun o1 e1 => w_finit _ (μ7 0 0) (-1) r22 (by decide) hr24 o1 e1) [22] ht25 (by decide) q1265 q616 rfl q617 q153 (by omega) (by omega) (zc_sc (zc_rv_cat G _) zc_s0) (by omega) (fun z hz => by cases hz) ⟨by decide, by decide⟩ (n := 2) (by decide +kernel) rfl rfl dX15_path_93 (fun _ μ26 _ => r_k0 ?_)
        exact c_athrow h hc (fun z hz => by cases hz) dX15_path_96
def c_X15_path_15 (μ : MEM) (x0 s0 s1 : Int) : Option zc_O := ck (zt [15] (μ s0 (-1)) = true) (nu (mup μ s0 4 s1) (fun μ2 => ck (zt [15] (μ2 x0 (-1)) = true) (bc (c_X2_isAt μ2 x0 (-32)) (fun r5 μ6 => if r5 = 0 then (ck (zt [15] (μ6 x0 (-1)) = true) (bc (c_X2_takes μ6 x0 (-33)) (fun r9 μ10 => ck (zt [15] (μ10 x0 (-1)) = true) (bc (c_X15_step μ10 x0 r9) (fun _ μ13 => c_X15_path_68 zF μ13 x0))))) else (ck (zt [15] (μ6 x0 (-1)) = true) (bc (c_X2_isAt μ6 x0 (-33)) (fun r15 μ16 => if r15 = 0 then (ck (zt [15] (μ16 x0 (-1)) = true) (bc (c_X2_must μ16 x0 (-32)) (fun _ μ19 => ck (zt [15] (μ19 x0 (-1)) = true) (bc (c_X2_here μ19 x0) (fun r21 μ22 => if 0 ≤ r21 then (ck (zt [15] (μ22 x0 (-1)) = true) (bc (c_X15_step μ22 x0 0) (fun _ μ25 => c_X15_path_68 zF μ25 x0))) else (some (0, 0, μ22))))))) else (ck (zt [15] (μ16 x0 (-1)) = true) (bc (c_X2_takes μ16 x0 (-33)) (fun r27 μ28 => ck (zt [15] (μ28 x0 (-1)) = true) (bc (c_X15_step μ28 x0 r27) (fun _ μ31 => c_X15_path_68 zF μ31 x0))))))))))))
theorem u_X15_path_15 {C : zv_Cx zc_O} {G : zc_G} {μ0 : MEM} (h : zv_Ok C cX15_path "TreePress$PathReader") (hc : zc_C C G μ0 2 (Option.none : Option FieldType) 0 11 231 "path" []) (μ : MEM) (x0 s0 s1 : Int) (hs1 : isB s1) : VV C (c_X15_path_15 μ x0 s0 s1) μ [(0, zc_rv G x0)] [iv s1, zc_rv G s0] 15 := by
  have hN : ∀ i, i < 2 → i < zv_n C := fun i q => by rw [hc.2.1]; exact q
  unfold c_X15_path_15
  refine r_ck (fun ht1 => ?_)
  refine c_putZ (x := s0) (y := s1) h hc [15] 4 false (zc_lk1 h q1229) ht1 (by decide) (Or.inl rfl) hs1 dX15_path_15 (fun μ2 he3 => ?_)
  refine c_aload_n (x := x0) h 0 dX15_path_18 rfl rfl ?_
  refine c_ldcs (tx := "/") h hc 32 (by decide) (-32) rfl (by decide) dX15_path_19 ?_
  refine r_ck (fun ht4 => ?_)
  refine c_callU (x := x0) (xm := ⟨"TreePress$PathReader", "isAt", "(Ljava/lang/String;)Z"⟩) (owner := "TreePress$Reader") h hc (As := [zc_rv G (-32)]) (fun o1 e1 => u_X2_isAt _ x0 (-32) o1 e1) [15] ht4 (by decide) q1247 q1248 (va_Decl.of (h.2.2.2.2 _ q509) (h.2.2.2.2 _ q510)) ⟨by decide, by decide⟩ q509 (fun t ht => by cases List.mem_singleton.mp ht; exact q1249) q510 q137 (by omega) (by omega) zc_s0 (by omega) (fun z hz => by cases hz) (n := 1) (by decide +kernel) rfl rfl dX15_path_21 (fun r5 μ6 hr7 => r_k3 ?_)
  refine r_if_eq (x := r5) h hr7.r 58 dX15_path_24 rfl ?_ ?_
  · refine c_aload_n (x := x0) h 0 dX15_path_58 rfl rfl ?_
    refine c_aload_n (x := x0) h 0 dX15_path_59 rfl rfl ?_
    refine c_ldcs (tx := "//") h hc 33 (by decide) (-33) rfl (by decide) dX15_path_60 ?_
    refine r_ck (fun ht8 => ?_)
    refine c_callU (x := x0) (xm := ⟨"TreePress$PathReader", "takes", "(Ljava/lang/String;)Z"⟩) (owner := "TreePress$Reader") h hc (As := [zc_rv G (-33)]) (fun o1 e1 => u_X2_takes _ x0 (-33) o1 e1) [15] ht8 (by decide) q1295 q1296 (va_Decl.of (h.2.2.2.2 _ q570) (h.2.2.2.2 _ q574)) ⟨by decide, by decide⟩ q570 (fun t ht => by cases List.mem_singleton.mp ht; exact q1297) q574 q137 (by omega) (by omega) (zc_sc (zc_rv_cat G _) zc_s0) (by omega) (fun z hz => by cases hz) (n := 1) (by decide +kernel) rfl rfl dX15_path_62 (fun r9 μ10 hr11 => r_k3 ?_)
    refine r_ck (fun ht12 => ?_)
    refine c_callV (x := x0) h hc (As := [iv r9]) (fun o1 e1 => u_X15_step _ x0 r9 hr11 o1 e1) [15] ht12 (by decide) q1254 q1256 (fun t ht => by cases List.mem_singleton.mp ht; exact qs42) q1257 q162 (by omega) (by omega) zc_s0 (by omega) (fun z hz => by cases hz) ⟨by decide, by decide⟩ (n := 1) (by decide +kernel) rfl rfl dX15_path_65 (fun _ μ13 _ => r_k0 ?_)
    exact r_lv [0] rfl (u_X15_path_68 h hc zF _ x0)
  · refine c_aload_n (x := x0) h 0 dX15_path_27 rfl rfl ?_
    refine c_ldcs (tx := "//") h hc 33 (by decide) (-33) rfl (by decide) dX15_path_28 ?_
    refine r_ck (fun ht14 => ?_)
    refine c_callU (x := x0) (xm := ⟨"TreePress$PathReader", "isAt", "(Ljava/lang/String;)Z"⟩) (owner := "TreePress$Reader") h hc (As := [zc_rv G (-33)]) (fun o1 e1 => u_X2_isAt _ x0 (-33) o1 e1) [15] ht14 (by decide) q1247 q1248 (va_Decl.of (h.2.2.2.2 _ q509) (h.2.2.2.2 _ q510)) ⟨by decide, by decide⟩ q509 (fun t ht => by cases List.mem_singleton.mp ht; exact q1249) q510 q137 (by omega) (by omega) zc_s0 (by omega) (fun z hz => by cases hz) (n := 1) (by decide +kernel) rfl rfl dX15_path_30 (fun r15 μ16 hr17 => r_k3 ?_)
    refine r_if_ne (x := r15) h hr17.r 58 dX15_path_33 rfl ?_ ?_
    · refine c_aload_n (x := x0) h 0 dX15_path_36 rfl rfl ?_
      refine c_ldcs (tx := "/") h hc 32 (by decide) (-32) rfl (by decide) dX15_path_37 ?_
      refine r_ck (fun ht18 => ?_)
      refine c_callU (x := x0) (xm := ⟨"TreePress$PathReader", "must", "(Ljava/lang/String;)V"⟩) (owner := "TreePress$Reader") h hc (As := [zc_rv G (-32)]) (fun o1 e1 => u_X2_must _ x0 (-32) o1 e1) [15] ht18 (by decide) q1251 q1252 (va_Decl.of (h.2.2.2.2 _ q567) (h.2.2.2.2 _ q568)) ⟨by decide, by decide⟩ q567 (fun t ht => by cases List.mem_singleton.mp ht; exact q1253) q568 q137 (by omega) (by omega) zc_s0 (by omega) (fun z hz => by cases hz) (n := 1) (by decide +kernel) rfl rfl dX15_path_39 (fun _ μ19 _ => r_k0 ?_)
      refine c_aload_n (x := x0) h 0 dX15_path_42 rfl rfl ?_
      refine r_ck (fun ht20 => ?_)
      refine c_callU (x := x0) (xm := ⟨"TreePress$PathReader", "here", "()I"⟩) (owner := "TreePress$Reader") h hc (As := []) (fun o1 e1 => u_X2_here _ x0 o1 e1) [15] ht20 (by decide) q1243 q1244 (va_Decl.of (h.2.2.2.2 _ q493) (h.2.2.2.2 _ q494)) ⟨by decide, by decide⟩ q493 (fun t ht => by cases List.mem_singleton.mp ht; exact q1245) q494 q137 (by omega) (by omega) zc_s0 (by omega) (fun z hz => by cases hz) (n := 0) (by decide +kernel) rfl rfl dX15_path_43 (fun r21 μ22 hr23 => r_k1 ?_)
      refine r_if_ge (x := r21) h hr23 50 dX15_path_46 rfl ?_ ?_
      · refine c_aload_n (x := x0) h 0 dX15_path_50 rfl rfl ?_
        refine r_iconst h dX15_path_51 ?_
        refine r_ck (fun ht24 => ?_)
        refine c_callV (x := x0) h hc (As := [iv 0]) (fun o1 e1 => u_X15_step _ x0 0 (by decide) o1 e1) [15] ht24 (by decide) q1254 q1256 (fun t ht => by cases List.mem_singleton.mp ht; exact qs42) q1257 q162 (by omega) (by omega) zc_s0 (by omega) (fun z hz => by cases hz) ⟨by decide, by decide⟩ (n := 1) (by decide +kernel) rfl rfl dX15_path_52 (fun _ μ25 _ => r_k0 ?_)
        refine r_goto h 68 dX15_path_55 rfl ?_
        exact r_lv [0] rfl (u_X15_path_68 h hc zF _ x0)
      · exact c_vret h hc rfl dX15_path_49
    · refine c_aload_n (x := x0) h 0 dX15_path_58 rfl rfl ?_
      refine c_aload_n (x := x0) h 0 dX15_path_59 rfl rfl ?_
      refine c_ldcs (tx := "//") h hc 33 (by decide) (-33) rfl (by decide) dX15_path_60 ?_
      refine r_ck (fun ht26 => ?_)
      refine c_callU (x := x0) (xm := ⟨"TreePress$PathReader", "takes", "(Ljava/lang/String;)Z"⟩) (owner := "TreePress$Reader") h hc (As := [zc_rv G (-33)]) (fun o1 e1 => u_X2_takes _ x0 (-33) o1 e1) [15] ht26 (by decide) q1295 q1296 (va_Decl.of (h.2.2.2.2 _ q570) (h.2.2.2.2 _ q574)) ⟨by decide, by decide⟩ q570 (fun t ht => by cases List.mem_singleton.mp ht; exact q1297) q574 q137 (by omega) (by omega) (zc_sc (zc_rv_cat G _) zc_s0) (by omega) (fun z hz => by cases hz) (n := 1) (by decide +kernel) rfl rfl dX15_path_62 (fun r27 μ28 hr29 => r_k3 ?_)
      refine r_ck (fun ht30 => ?_)
      refine c_callV (x := x0) h hc (As := [iv r27]) (fun o1 e1 => u_X15_step _ x0 r27 hr29 o1 e1) [15] ht30 (by decide) q1254 q1256 (fun t ht => by cases List.mem_singleton.mp ht; exact qs42) q1257 q162 (by omega) (by omega) zc_s0 (by omega) (fun z hz => by cases hz) ⟨by decide, by decide⟩ (n := 1) (by decide +kernel) rfl rfl dX15_path_65 (fun _ μ31 _ => r_k0 ?_)
      exact r_lv [0] rfl (u_X15_path_68 h hc zF _ x0)
def c_X15_path (μ : MEM) (a0 : Int) : Option zc_O := ck (zt [15] (μ a0 (-1)) = true) (bc (c_X2_here μ a0) (fun r2 μ3 => if r2 = 47 then (c_X15_path_15 μ3 a0 a0 1) else (c_X15_path_15 μ3 a0 a0 0)))
theorem u_X15_path {G : zc_G} (μ : MEM) (a0 : Int) (o : zc_O) (hd : c_X15_path μ a0 = some o) : zc_Met G yX15_path cX15_path 2 (Option.none : Option FieldType) 0 11 231 μ [zc_rv G a0] o := by
  refine zc_intro hd (by decide) (by simp [lg_sl, zc_rv_cat, iv_cat, jv_cat]) (lv := [(0, zc_rv G a0)]) (by simp [lv_args, zc_rv_cat, iv_cat, jv_cat]) (fun C h hc => ?_)
  have h : zv_Ok C cX15_path "TreePress$PathReader" := h
  have hc : zc_C C G μ 2 (Option.none : Option FieldType) 0 11 231 "path" [] := hc
  have hN : ∀ i, i < 2 → i < zv_n C := fun i q => by rw [hc.2.1]; exact q
  unfold c_X15_path
  refine c_aload_n (x := a0) h 0 dX15_path_0 rfl rfl ?_
  refine c_aload_n (x := a0) h 0 dX15_path_1 rfl rfl ?_
  refine r_ck (fun ht1 => ?_)
  refine c_callU (x := a0) (xm := ⟨"TreePress$PathReader", "here", "()I"⟩) (owner := "TreePress$Reader") h hc (As := []) (fun o1 e1 => u_X2_here _ a0 o1 e1) [15] ht1 (by decide) q1243 q1244 (va_Decl.of (h.2.2.2.2 _ q493) (h.2.2.2.2 _ q494)) ⟨by decide, by decide⟩ q493 (fun t ht => by cases List.mem_singleton.mp ht; exact q1245) q494 q137 (by omega) (by omega) (zc_sc (zc_rv_cat G _) zc_s0) (by omega) (fun z hz => by cases hz) (n := 0) (by decide +kernel) rfl rfl dX15_path_2 (fun r2 μ3 hr4 => r_k1 ?_)
  refine r_bipush h dX15_path_5 (by decide) ?_
  refine r_icmp_ne (x := r2) (y := 47) h hr4 (by decide) 14 dX15_path_7 rfl ?_ ?_
  · refine r_iconst h dX15_path_10 ?_
    refine r_goto h 15 dX15_path_11 rfl ?_
    exact r_lv [0] rfl (u_X15_path_15 h hc _ a0 a0 1 (by decide))
  · refine r_iconst h dX15_path_14 ?_
    exact r_lv [0] rfl (u_X15_path_15 h hc _ a0 a0 0 (by decide))
theorem dX4_init_0 : decode cX4_init 0 = .ok (.aload_n 0, 1) := by decide +kernel
theorem dX4_init_1 : decode cX4_init 1 = .ok (.invokespecial 3, 3) := by decide +kernel
theorem dX4_init_4 : decode cX4_init 4 = .ok (.aload_n 0, 1) := by decide +kernel
theorem dX4_init_5 : decode cX4_init 5 = .ok (.new 9, 3) := by decide +kernel
theorem dX4_init_8 : decode cX4_init 8 = .ok (.dup, 1) := by decide +kernel
theorem dX4_init_9 : decode cX4_init 9 = .ok (.invokespecial 11, 3) := by decide +kernel
theorem dX4_init_12 : decode cX4_init 12 = .ok (.putfield 12, 3) := by decide +kernel
theorem dX4_init_15 : decode cX4_init 15 = .ok (.aload_n 0, 1) := by decide +kernel
theorem dX4_init_16 : decode cX4_init 16 = .ok (.new 18, 3) := by decide +kernel
theorem dX4_init_19 : decode cX4_init 19 = .ok (.dup, 1) := by decide +kernel
theorem dX4_init_20 : decode cX4_init 20 = .ok (.invokespecial 20, 3) := by decide +kernel
theorem dX4_init_23 : decode cX4_init 23 = .ok (.putfield 21, 3) := by decide +kernel
theorem dX4_init_26 : decode cX4_init 26 = .ok (.aload_n 0, 1) := by decide +kernel
theorem dX4_init_27 : decode cX4_init 27 = .ok (.new 18, 3) := by decide +kernel
theorem dX4_init_30 : decode cX4_init 30 = .ok (.dup, 1) := by decide +kernel
theorem dX4_init_31 : decode cX4_init 31 = .ok (.invokespecial 20, 3) := by decide +kernel
theorem dX4_init_34 : decode cX4_init 34 = .ok (.putfield 25, 3) := by decide +kernel
theorem dX4_init_37 : decode cX4_init 37 = .ok (.aload_n 0, 1) := by decide +kernel
theorem dX4_init_38 : decode cX4_init 38 = .ok (.new 18, 3) := by decide +kernel
theorem dX4_init_41 : decode cX4_init 41 = .ok (.dup, 1) := by decide +kernel
theorem dX4_init_42 : decode cX4_init 42 = .ok (.invokespecial 20, 3) := by decide +kernel
theorem dX4_init_45 : decode cX4_init 45 = .ok (.putfield 28, 3) := by decide +kernel
theorem dX4_init_48 : decode cX4_init 48 = .ok (.aload_n 0, 1) := by decide +kernel
theorem dX4_init_49 : decode cX4_init 49 = .ok (.new 18, 3) := by decide +kernel
theorem dX4_init_52 : decode cX4_init 52 = .ok (.dup, 1) := by decide +kernel
theorem dX4_init_53 : decode cX4_init 53 = .ok (.invokespecial 20, 3) := by decide +kernel
theorem dX4_init_56 : decode cX4_init 56 = .ok (.putfield 31, 3) := by decide +kernel
theorem dX4_init_59 : decode cX4_init 59 = .ok (.aload_n 0, 1) := by decide +kernel
theorem dX4_init_60 : decode cX4_init 60 = .ok (.new 18, 3) := by decide +kernel
theorem dX4_init_63 : decode cX4_init 63 = .ok (.dup, 1) := by decide +kernel
theorem dX4_init_64 : decode cX4_init 64 = .ok (.invokespecial 20, 3) := by decide +kernel
theorem dX4_init_67 : decode cX4_init 67 = .ok (.putfield 34, 3) := by decide +kernel
theorem dX4_init_70 : decode cX4_init 70 = .ok (.aload_n 0, 1) := by decide +kernel
theorem dX4_init_71 : decode cX4_init 71 = .ok (.aload_n 0, 1) := by decide +kernel
theorem dX4_init_72 : decode cX4_init 72 = .ok (.getfield 12, 3) := by decide +kernel
theorem dX4_init_75 : decode cX4_init 75 = .ok (.aconst_null, 1) := by decide +kernel
theorem dX4_init_76 : decode cX4_init 76 = .ok (.invokevirtual 37, 3) := by decide +kernel
theorem dX4_init_79 : decode cX4_init 79 = .ok (.return_, 1) := by decide +kernel
def c_X4_init (μ : MEM) (a0 : Int) : Option zc_O := ck (zt [4] (μ a0 (-1)) = true) (ck (1 ≤ μ 0 1 ∧ (4 : Int) ≤ μ 0 2) (nu (mnew μ 6 0 4) (fun μ2 => bc (c_X6_init μ2 (μ 0 0)) (fun _ μ4 => ck (zt [4] (μ4 a0 (-1)) = true) (nu (mup μ4 a0 0 (μ 0 0)) (fun μ6 => ck (1 ≤ μ6 0 1 ∧ (3 : Int) ≤ μ6 0 2) (nu (mnew μ6 21 0 3) (fun μ8 => bc (b_linit μ8 (μ6 0 0)) (fun _ μ10 => ck (zt [4] (μ10 a0 (-1)) = true) (nu (mup μ10 a0 1 (μ6 0 0)) (fun μ12 => ck (1 ≤ μ12 0 1 ∧ (3 : Int) ≤ μ12 0 2) (nu (mnew μ12 21 0 3) (fun μ14 => bc (b_linit μ14 (μ12 0 0)) (fun _ μ16 => ck (zt [4] (μ16 a0 (-1)) = true) (nu (mup μ16 a0 3 (μ12 0 0)) (fun μ18 => ck (1 ≤ μ18 0 1 ∧ (3 : Int) ≤ μ18 0 2) (nu (mnew μ18 21 0 3) (fun μ20 => bc (b_linit μ20 (μ18 0 0)) (fun _ μ22 => ck (zt [4] (μ22 a0 (-1)) = true) (nu (mup μ22 a0 4 (μ18 0 0)) (fun μ24 => ck (1 ≤ μ24 0 1 ∧ (3 : Int) ≤ μ24 0 2) (nu (mnew μ24 21 0 3) (fun μ26 => bc (b_linit μ26 (μ24 0 0)) (fun _ μ28 => ck (zt [4] (μ28 a0 (-1)) = true) (nu (mup μ28 a0 5 (μ24 0 0)) (fun μ30 => ck (1 ≤ μ30 0 1 ∧ (3 : Int) ≤ μ30 0 2) (nu (mnew μ30 21 0 3) (fun μ32 => bc (b_linit μ32 (μ30 0 0)) (fun _ μ34 => ck (zt [4] (μ34 a0 (-1)) = true) (nu (mup μ34 a0 7 (μ30 0 0)) (fun μ36 => bc (c_X4_add μ36 a0 (μ36 a0 0) 0) (fun _ μ38 => some (0, 0, μ38)))))))))))))))))))))))))))))))))
theorem u_X4_init {G : zc_G} (μ : MEM) (a0 : Int) (o : zc_O) (hd : c_X4_init μ a0 = some o) : zc_Met G yX4_init cX4_init 1 (Option.none : Option FieldType) 0 8 174 μ [zc_rv G a0] o := by
  refine zc_intro hd (by decide) (by simp [lg_sl, zc_rv_cat, iv_cat, jv_cat]) (lv := [(0, zc_rv G a0)]) (by simp [lv_args, zc_rv_cat, iv_cat, jv_cat]) (fun C h hc => ?_)
  have h : zv_Ok C cX4_init "TreePress$Document" := h
  have hc : zc_C C G μ 1 (Option.none : Option FieldType) 0 8 174 "<init>" [] := hc
  have hN : ∀ i, i < 1 → i < zv_n C := fun i q => by rw [hc.2.1]; exact q
  unfold c_X4_init
  refine c_aload_n (x := a0) h 0 dX4_init_0 rfl rfl ?_
  refine r_ck (fun ht1 => ?_)
  refine c_oinit h hc [4] ht1 (by decide) q290 q173 q174 (by omega) zc_s0 (by omega) dX4_init_1 ?_
  refine c_aload_n (x := a0) h 0 dX4_init_4 rfl rfl ?_
  refine c_new h hc 6 (N := 4) rfl (by decide) q291 q292 q142 dX4_init_5 (fun _ μ2 he3 => ?_)
  refine r_dup h dX4_init_8 (zc_rv_cat G _) ?_
  refine c_callIN (x := (μ 0 0)) h hc (As := []) (fun o1 e1 => u_X6_init _ (μ 0 0) o1 e1) [6] (zt_nw he3) (by decide) (host := "TreePress") (by decide) q294 rfl q295 q142 (by omega) (by omega) (zc_sc (zc_rv_cat G _) (zc_sc (zc_rv_cat G _) zc_s0)) (by omega) (fun z hz => by cases hz) ⟨by decide, by decide⟩ (n := 0) (by decide +kernel) rfl rfl dX4_init_9 (fun _ μ4 _ => r_k0 ?_)
  refine r_ck (fun ht5 => ?_)
  refine c_putR (x := a0) (y := (μ 0 0)) h hc [4] 0 true (zc_lk1 h q407) ht5 (by decide) (Or.inr ⟨rfl, rfl, rfl⟩) (ty := (.object "TreePress$Parent")) (by decide +kernel) (Or.inl ⟨_, rfl⟩) dX4_init_12 (fun μ6 he7 => ?_)
  refine c_aload_n (x := a0) h 0 dX4_init_15 rfl rfl ?_
  refine c_new h hc 21 (N := 3) rfl (by decide) q336 q178 q135 dX4_init_16 (fun _ μ8 he9 => ?_)
  refine r_dup h dX4_init_19 (zc_rv_cat G _) ?_
  refine c_callI (x := (μ6 0 0)) h hc (As := []) (fun o1 e1 => w_linit _ (μ6 0 0) o1 e1) [21] (zt_nw he9) (by decide) q337 q180 rfl q181 q135 (by omega) (by omega) (zc_sc (zc_rv_cat G _) (zc_sc (zc_rv_cat G _) zc_s0)) (by omega) (fun z hz => by cases hz) ⟨by decide, by decide⟩ (n := 0) (by decide +kernel) rfl rfl dX4_init_20 (fun _ μ10 _ => r_k0 ?_)
  refine r_ck (fun ht11 => ?_)
  refine c_putR (x := a0) (y := (μ6 0 0)) h hc [4] 1 true (zc_lk1 h q410) ht11 (by decide) (Or.inr ⟨rfl, rfl, rfl⟩) (ty := (.object "java/util/ArrayList")) (by decide +kernel) (Or.inl ⟨_, rfl⟩) dX4_init_23 (fun μ12 he13 => ?_)
  refine c_aload_n (x := a0) h 0 dX4_init_26 rfl rfl ?_
  refine c_new h hc 21 (N := 3) rfl (by decide) q336 q178 q135 dX4_init_27 (fun _ μ14 he15 => ?_)
  refine r_dup h dX4_init_30 (zc_rv_cat G _) ?_
  refine c_callI (x := (μ12 0 0)) h hc (As := []) (fun o1 e1 => w_linit _ (μ12 0 0) o1 e1) [21] (zt_nw he15) (by decide) q337 q180 rfl q181 q135 (by omega) (by omega) (zc_sc (zc_rv_cat G _) (zc_sc (zc_rv_cat G _) zc_s0)) (by omega) (fun z hz => by cases hz) ⟨by decide, by decide⟩ (n := 0) (by decide +kernel) rfl rfl dX4_init_31 (fun _ μ16 _ => r_k0 ?_)
  refine r_ck (fun ht17 => ?_)
  refine c_putR (x := a0) (y := (μ12 0 0)) h hc [4] 3 true (zc_lk1 h q416) ht17 (by decide) (Or.inr ⟨rfl, rfl, rfl⟩) (ty := (.object "java/util/ArrayList")) (by decide +kernel) (Or.inl ⟨_, rfl⟩) dX4_init_34 (fun μ18 he19 => ?_)
  refine c_aload_n (x := a0) h 0 dX4_init_37 rfl rfl ?_
  refine c_new h hc 21 (N := 3) rfl (by decide) q336 q178 q135 dX4_init_38 (fun _ μ20 he21 => ?_)
  refine r_dup h dX4_init_41 (zc_rv_cat G _) ?_
  refine c_callI (x := (μ18 0 0)) h hc (As := []) (fun o1 e1 => w_linit _ (μ18 0 0) o1 e1) [21] (zt_nw he21) (by decide) q337 q180 rfl q181 q135 (by omega) (by omega) (zc_sc (zc_rv_cat G _) (zc_sc (zc_rv_cat G _) zc_s0)) (by omega) (fun z hz => by cases hz) ⟨by decide, by decide⟩ (n := 0) (by decide +kernel) rfl rfl dX4_init_42 (fun _ μ22 _ => r_k0 ?_)
  refine r_ck (fun ht23 => ?_)
  refine c_putR (x := a0) (y := (μ18 0 0)) h hc [4] 4 true (zc_lk1 h q419) ht23 (by decide) (Or.inr ⟨rfl, rfl, rfl⟩) (ty := (.object "java/util/ArrayList")) (by decide +kernel) (Or.inl ⟨_, rfl⟩) dX4_init_45 (fun μ24 he25 => ?_)
  refine c_aload_n (x := a0) h 0 dX4_init_48 rfl rfl ?_
  refine c_new h hc 21 (N := 3) rfl (by decide) q336 q178 q135 dX4_init_49 (fun _ μ26 he27 => ?_)
  refine r_dup h dX4_init_52 (zc_rv_cat G _) ?_
  refine c_callI (x := (μ24 0 0)) h hc (As := []) (fun o1 e1 => w_linit _ (μ24 0 0) o1 e1) [21] (zt_nw he27) (by decide) q337 q180 rfl q181 q135 (by omega) (by omega) (zc_sc (zc_rv_cat G _) (zc_sc (zc_rv_cat G _) zc_s0)) (by omega) (fun z hz => by cases hz) ⟨by decide, by decide⟩ (n := 0) (by decide +kernel) rfl rfl dX4_init_53 (fun _ μ28 _ => r_k0 ?_)
  refine r_ck (fun ht29 => ?_)
  refine c_putR (x := a0) (y := (μ24 0 0)) h hc [4] 5 true (zc_lk1 h q422) ht29 (by decide) (Or.inr ⟨rfl, rfl, rfl⟩) (ty := (.object "java/util/ArrayList")) (by decide +kernel) (Or.inl ⟨_, rfl⟩) dX4_init_56 (fun μ30 he31 => ?_)
  refine c_aload_n (x := a0) h 0 dX4_init_59 rfl rfl ?_
  refine c_new h hc 21 (N := 3) rfl (by decide) q336 q178 q135 dX4_init_60 (fun _ μ32 he33 => ?_)
  refine r_dup h dX4_init_63 (zc_rv_cat G _) ?_
  refine c_callI (x := (μ30 0 0)) h hc (As := []) (fun o1 e1 => w_linit _ (μ30 0 0) o1 e1) [21] (zt_nw he33) (by decide) q337 q180 rfl q181 q135 (by omega) (by omega) (zc_sc (zc_rv_cat G _) (zc_sc (zc_rv_cat G _) zc_s0)) (by omega) (fun z hz => by cases hz) ⟨by decide, by decide⟩ (n := 0) (by decide +kernel) rfl rfl dX4_init_64 (fun _ μ34 _ => r_k0 ?_)
  refine r_ck (fun ht35 => ?_)
  refine c_putR (x := a0) (y := (μ30 0 0)) h hc [4] 7 true (zc_lk1 h q426) ht35 (by decide) (Or.inr ⟨rfl, rfl, rfl⟩) (ty := (.object "java/util/ArrayList")) (by decide +kernel) (Or.inl ⟨_, rfl⟩) dX4_init_67 (fun μ36 he37 => ?_)
  refine c_aload_n (x := a0) h 0 dX4_init_70 rfl rfl ?_
  refine c_aload_n (x := a0) h 0 dX4_init_71 rfl rfl ?_
  refine c_getR (fin := true) h hc [4] 0 (zc_lk1 h q407) (zt_mup he37 (by decide) ht35) (by decide) dX4_init_72 ?_
  refine c_null G h dX4_init_75 ?_
  refine c_callV (x := a0) h hc (As := [zc_rv G (μ36 a0 0), zc_rv G 0]) (fun o1 e1 => u_X4_add _ a0 (μ36 a0 0) 0 o1 e1) [4] (zt_mup he37 (by decide) ht35) (by decide) q338 q339 (fun t ht => by cases List.mem_singleton.mp ht; exact q340) q341 q140 (by omega) (by omega) zc_s0 (by omega) (fun z hz => by cases hz) ⟨by decide, by decide⟩ (n := 2) (by decide +kernel) rfl rfl dX4_init_76 (fun _ μ38 _ => r_k0 ?_)
  exact c_vret h hc rfl dX4_init_79
theorem dX3_init_0 : decode cX3_init 0 = .ok (.aload_n 0, 1) := by decide +kernel
theorem dX3_init_1 : decode cX3_init 1 = .ok (.aload_n 1, 1) := by decide +kernel
theorem dX3_init_2 : decode cX3_init 2 = .ok (.iload_n 2, 1) := by decide +kernel
theorem dX3_init_3 : decode cX3_init 3 = .ok (.invokespecial 3, 3) := by decide +kernel
theorem dX3_init_6 : decode cX3_init 6 = .ok (.aload_n 0, 1) := by decide +kernel
theorem dX3_init_7 : decode cX3_init 7 = .ok (.new 9, 3) := by decide +kernel
theorem dX3_init_10 : decode cX3_init 10 = .ok (.dup, 1) := by decide +kernel
theorem dX3_init_11 : decode cX3_init 11 = .ok (.invokespecial 11, 3) := by decide +kernel
theorem dX3_init_14 : decode cX3_init 14 = .ok (.putfield 14, 3) := by decide +kernel
theorem dX3_init_17 : decode cX3_init 17 = .ok (.aload_n 0, 1) := by decide +kernel
theorem dX3_init_18 : decode cX3_init 18 = .ok (.new 20, 3) := by decide +kernel
theorem dX3_init_21 : decode cX3_init 21 = .ok (.dup, 1) := by decide +kernel
theorem dX3_init_22 : decode cX3_init 22 = .ok (.invokespecial 22, 3) := by decide +kernel
theorem dX3_init_25 : decode cX3_init 25 = .ok (.putfield 23, 3) := by decide +kernel
theorem dX3_init_28 : decode cX3_init 28 = .ok (.aload_n 0, 1) := by decide +kernel
theorem dX3_init_29 : decode cX3_init 29 = .ok (.sipush 2000, 3) := by decide +kernel
theorem dX3_init_32 : decode cX3_init 32 = .ok (.newarray .byte, 2) := by decide +kernel
theorem dX3_init_34 : decode cX3_init 34 = .ok (.putfield 27, 3) := by decide +kernel
theorem dX3_init_37 : decode cX3_init 37 = .ok (.return_, 1) := by decide +kernel
def c_X3_init (μ : MEM) (a0 a1 a2 : Int) : Option zc_O := ck (zt [3] (μ a0 (-1)) = true) (bc (c_X2_init μ a0 a1 a2) (fun _ μ2 => ck (1 ≤ μ2 0 1 ∧ (8 : Int) ≤ μ2 0 2) (nu (mnew μ2 4 0 8) (fun μ3 => bc (c_X4_init μ3 (μ2 0 0)) (fun _ μ5 => ck (zt [3] (μ5 a0 (-1)) = true) (nu (mup μ5 a0 3 (μ2 0 0)) (fun μ7 => ck (1 ≤ μ7 0 1 ∧ (3 : Int) ≤ μ7 0 2) (nu (mnew μ7 21 0 3) (fun μ9 => bc (b_linit μ9 (μ7 0 0)) (fun _ μ11 => ck (zt [3] (μ11 a0 (-1)) = true) (nu (mup μ11 a0 4 (μ7 0 0)) (fun μ13 => ck ((0 : Int) ≤ 2000 ∧ 2000 ≤ 1000000) (ck (1 ≤ μ13 0 1 ∧ 2000 ≤ μ13 0 2) (nu (mnew μ13 31 2000 2000) (fun μ15 => ck (zt [3] (μ15 a0 (-1)) = true) (nu (mup μ15 a0 5 (μ13 0 0)) (fun μ18 => some (0, 0, μ18))))))))))))))))))
theorem u_X3_init {G : zc_G} (μ : MEM) (a0 a1 a2 : Int) (ha2 : inR a2) (o : zc_O) (hd : c_X3_init μ a0 a1 a2 = some o) : zc_Met G yX3_init cX3_init 3 (Option.none : Option FieldType) 0 9 194 μ [zc_rv G a0, zc_rv G a1, iv a2] o := by
  refine zc_intro hd (by decide) (by simp [lg_sl, zc_rv_cat, iv_cat, jv_cat]) (lv := [(0, zc_rv G a0), (1, zc_rv G a1), (2, iv a2)]) (by simp [lv_args, zc_rv_cat, iv_cat, jv_cat]) (fun C h hc => ?_)
  have h : zv_Ok C cX3_init "TreePress$Parser" := h
  have hc : zc_C C G μ 3 (Option.none : Option FieldType) 0 9 194 "<init>" [] := hc
  have hN : ∀ i, i < 3 → i < zv_n C := fun i q => by rw [hc.2.1]; exact q
  unfold c_X3_init
  refine c_aload_n (x := a0) h 0 dX3_init_0 rfl rfl ?_
  refine c_aload_n (x := a1) h 1 dX3_init_1 rfl rfl ?_
  refine r_iload_n h 2 dX3_init_2 rfl rfl ?_
  refine r_ck (fun ht1 => ?_)
  refine c_callI (x := a0) h hc (As := [zc_rv G a1, iv a2]) (fun o1 e1 => u_X2_init _ a0 a1 a2 ha2 o1 e1) [3] ht1 (by decide) q278 q279 rfl q280 q137 (by omega) (by omega) zc_s0 (by omega) (fun z hz => by cases hz) ⟨by decide, by decide⟩ (n := 2) (by decide +kernel) rfl rfl dX3_init_3 (fun _ μ2 _ => r_k0 ?_)
  refine c_aload_n (x := a0) h 0 dX3_init_6 rfl rfl ?_
  refine c_new h hc 4 (N := 8) rfl (by decide) q285 q286 q140 dX3_init_7 (fun _ μ3 he4 => ?_)
  refine r_dup h dX3_init_10 (zc_rv_cat G _) ?_
  refine c_callI (x := (μ2 0 0)) h hc (As := []) (fun o1 e1 => u_X4_init _ (μ2 0 0) o1 e1) [4] (zt_nw he4) (by decide) q287 q288 rfl q289 q140 (by omega) (by omega) (zc_sc (zc_rv_cat G _) (zc_sc (zc_rv_cat G _) zc_s0)) (by omega) (fun z hz => by cases hz) ⟨by decide, by decide⟩ (n := 0) (by decide +kernel) rfl rfl dX3_init_11 (fun _ μ5 _ => r_k0 ?_)
  refine r_ck (fun ht6 => ?_)
  refine c_putR (x := a0) (y := (μ2 0 0)) h hc [3] 3 true (zc_lk1 h q446) ht6 (by decide) (Or.inr ⟨rfl, rfl, rfl⟩) (ty := (.object "TreePress$Document")) (by decide +kernel) (Or.inl ⟨_, rfl⟩) dX3_init_14 (fun μ7 he8 => ?_)
  refine c_aload_n (x := a0) h 0 dX3_init_17 rfl rfl ?_
  refine c_new h hc 21 (N := 3) rfl (by decide) q444 q178 q135 dX3_init_18 (fun _ μ9 he10 => ?_)
  refine r_dup h dX3_init_21 (zc_rv_cat G _) ?_
  refine c_callI (x := (μ7 0 0)) h hc (As := []) (fun o1 e1 => w_linit _ (μ7 0 0) o1 e1) [21] (zt_nw he10) (by decide) q445 q180 rfl q181 q135 (by omega) (by omega) (zc_sc (zc_rv_cat G _) (zc_sc (zc_rv_cat G _) zc_s0)) (by omega) (fun z hz => by cases hz) ⟨by decide, by decide⟩ (n := 0) (by decide +kernel) rfl rfl dX3_init_22 (fun _ μ11 _ => r_k0 ?_)
  refine r_ck (fun ht12 => ?_)
  refine c_putR (x := a0) (y := (μ7 0 0)) h hc [3] 4 true (zc_lk1 h q447) ht12 (by decide) (Or.inr ⟨rfl, rfl, rfl⟩) (ty := (.object "java/util/ArrayList")) (by decide +kernel) (Or.inl ⟨_, rfl⟩) dX3_init_25 (fun μ13 he14 => ?_)
  refine c_aload_n (x := a0) h 0 dX3_init_28 rfl rfl ?_
  refine r_sipush h dX3_init_29 (by decide) ?_
  refine c_naB (x := 2000) h hc rfl q203 (by decide) dX3_init_32 (fun _ _ μ15 he16 => ?_)
  refine r_ck (fun ht17 => ?_)
  refine c_putR (x := a0) (y := (μ13 0 0)) h hc [3] 5 true (zc_lk1 h q448) ht17 (by decide) (Or.inr ⟨rfl, rfl, rfl⟩) (ty := (.array .byte)) (by decide +kernel) (Or.inr ⟨_, rfl⟩) dX3_init_34 (fun μ18 he19 => ?_)
  exact c_vret h hc rfl dX3_init_37
theorem dX3_misc_0 : decode cX3_misc 0 = .ok (.iconst 1, 1) := by decide +kernel
theorem dX3_misc_1 : decode cX3_misc 1 = .ok (.istore_n 1, 1) := by decide +kernel
theorem dX3_misc_2 : decode cX3_misc 2 = .ok (.iload_n 1, 1) := by decide +kernel
theorem dX3_misc_3 : decode cX3_misc 3 = .ok (.ifCond .eq 26, 3) := by decide +kernel
theorem dX3_misc_6 : decode cX3_misc 6 = .ok (.aload_n 0, 1) := by decide +kernel
theorem dX3_misc_7 : decode cX3_misc 7 = .ok (.invokevirtual 46, 3) := by decide +kernel
theorem dX3_misc_10 : decode cX3_misc 10 = .ok (.pop, 1) := by decide +kernel
theorem dX3_misc_11 : decode cX3_misc 11 = .ok (.aload_n 0, 1) := by decide +kernel
theorem dX3_misc_12 : decode cX3_misc 12 = .ok (.ldc 55, 2) := by decide +kernel
theorem dX3_misc_14 : decode cX3_misc 14 = .ok (.invokevirtual 63, 3) := by decide +kernel
theorem dX3_misc_17 : decode cX3_misc 17 = .ok (.istore_n 1, 1) := by decide +kernel
theorem dX3_misc_18 : decode cX3_misc 18 = .ok (.iload_n 1, 1) := by decide +kernel
theorem dX3_misc_19 : decode cX3_misc 19 = .ok (.ifCond .eq (-17), 3) := by decide +kernel
theorem dX3_misc_22 : decode cX3_misc 22 = .ok (.aload_n 0, 1) := by decide +kernel
theorem dX3_misc_23 : decode cX3_misc 23 = .ok (.invokevirtual 72, 3) := by decide +kernel
theorem dX3_misc_26 : decode cX3_misc 26 = .ok (.goto (-24), 3) := by decide +kernel
theorem dX3_misc_29 : decode cX3_misc 29 = .ok (.return_, 1) := by decide +kernel
def c_X3_misc_2 : Nat → MEM → Int → Int → Option zc_O
  | 0, _, _, _ => none
  | n + 1, μ, x0, x1 => if x1 = 0 then (some (0, 0, μ)) else (ck (zt [3] (μ x0 (-1)) = true) (bc (c_X3_space μ x0) (fun r2 μ3 => ck (zt [3] (μ3 x0 (-1)) = true) (bc (c_X2_isAt μ3 x0 (-1)) (fun r6 μ7 => if r6 = 0 then (c_X3_misc_2 n μ7 x0 r6) else (ck (zt [3] (μ7 x0 (-1)) = true) (bc (c_X3_comment μ7 x0) (fun _ μ10 => c_X3_misc_2 n μ10 x0 r6))))))))
theorem u_X3_misc_2 {C : zv_Cx zc_O} {G : zc_G} {μ0 : MEM} (h : zv_Ok C cX3_misc "TreePress$Parser") (hc : zc_C C G μ0 2 (Option.none : Option FieldType) 0 9 183 "misc" []) : ∀ (n : Nat) (μ : MEM) (x0 x1 : Int), isB x1 → VV C (c_X3_misc_2 n μ x0 x1) μ [(0, zc_rv G x0), (1, iv x1)] [] 2 := by
  have hN : ∀ i, i < 2 → i < zv_n C := fun i q => by rw [hc.2.1]; exact q
  intro n
  induction n with
  | zero => intros; exact r_none
  | succ n ih =>
    intro μ x0 x1 hx1
    rw [c_X3_misc_2]
    refine r_iload_n h 1 dX3_misc_2 rfl rfl ?_
    refine r_if_eq (x := x1) h hx1.r 29 dX3_misc_3 rfl ?_ ?_
    · exact c_vret h hc rfl dX3_misc_29
    · refine c_aload_n (x := x0) h 0 dX3_misc_6 rfl rfl ?_
      refine r_ck (fun ht1 => ?_)
      refine c_callV (x := x0) h hc (As := []) (fun o1 e1 => u_X3_space _ x0 o1 e1) [3] ht1 (by decide) q479 q481 (fun t ht => by cases List.mem_singleton.mp ht; exact qs5) q482 q138 (by omega) (by omega) zc_s0 (by omega) (fun z hz => by cases hz) ⟨by decide, by decide⟩ (n := 0) (by decide +kernel) rfl rfl dX3_misc_7 (fun r2 μ3 hr4 => r_k3 ?_)
      refine r_pop h dX3_misc_10 (iv_cat _) ?_
      refine c_aload_n (x := x0) h 0 dX3_misc_11 rfl rfl ?_
      refine c_ldcs (tx := "<!--") h hc 1 (by decide) (-1) rfl (by decide) dX3_misc_12 ?_
      refine r_ck (fun ht5 => ?_)
      refine c_callU (x := x0) (xm := ⟨"TreePress$Parser", "isAt", "(Ljava/lang/String;)Z"⟩) (owner := "TreePress$Reader") h hc (As := [zc_rv G (-1)]) (fun o1 e1 => u_X2_isAt _ x0 (-1) o1 e1) [3] ht5 (by decide) q505 q506 (va_Decl.of (h.2.2.2.2 _ q509) (h.2.2.2.2 _ q510)) ⟨by decide, by decide⟩ q509 (fun t ht => by cases List.mem_singleton.mp ht; exact q508) q510 q137 (by omega) (by omega) zc_s0 (by omega) (fun z hz => by cases hz) (n := 1) (by decide +kernel) rfl rfl dX3_misc_14 (fun r6 μ7 hr8 => r_k3 ?_)
      refine r_istore_n (i := 1) (lv' := [(1, iv r6), (0, zc_rv G x0)]) h dX3_misc_17 rfl (hN _ (by decide)) (by simp [zc_rv_cat]) ?_
      refine r_iload_n h 0 dX3_misc_18 rfl rfl ?_
      refine r_if_eq (x := r6) h hr8.r 2 dX3_misc_19 rfl ?_ ?_
      · exact r_lv [1, 0] rfl (ih _ x0 r6 hr8)
      · refine c_aload_n (x := x0) h 1 dX3_misc_22 rfl rfl ?_
        refine r_ck (fun ht9 => ?_)
        refine c_callV (x := x0) h hc (As := []) (fun o1 e1 => u_X3_comment _ x0 o1 e1) [3] ht9 (by decide) q559 q561 (fun t ht => by cases List.mem_singleton.mp ht; exact qs6) q562 q138 (by omega) (by omega) zc_s0 (by omega) (fun z hz => by cases hz) ⟨by decide, by decide⟩ (n := 0) (by decide +kernel) rfl rfl dX3_misc_23 (fun _ μ10 _ => r_k0 ?_)
        refine r_goto h 2 dX3_misc_26 rfl ?_
        exact r_lv [1, 0] rfl (ih _ x0 r6 hr8)
def c_X3_misc (μ : MEM) (a0 : Int) : Option zc_O := c_X3_misc_2 zF μ a0 1
theorem u_X3_misc {G : zc_G} (μ : MEM) (a0 : Int) (o : zc_O) (hd : c_X3_misc μ a0 = some o) : zc_Met G yX3_misc cX3_misc 2 (Option.none : Option FieldType) 0 9 183 μ [zc_rv G a0] o := by
  refine zc_intro hd (by decide) (by simp [lg_sl, zc_rv_cat, iv_cat, jv_cat]) (lv := [(0, zc_rv G a0)]) (by simp [lv_args, zc_rv_cat, iv_cat, jv_cat]) (fun C h hc => ?_)
  have h : zv_Ok C cX3_misc "TreePress$Parser" := h
  have hc : zc_C C G μ 2 (Option.none : Option FieldType) 0 9 183 "misc" [] := hc
  have hN : ∀ i, i < 2 → i < zv_n C := fun i q => by rw [hc.2.1]; exact q
  unfold c_X3_misc
  refine r_iconst h dX3_misc_0 ?_
  refine r_istore_n (i := 1) (lv' := [(1, iv 1), (0, zc_rv G a0)]) h dX3_misc_1 rfl (hN _ (by decide)) (by simp [zc_rv_cat]) ?_
  exact r_lv [1, 0] rfl (u_X3_misc_2 h hc zF _ a0 1 (by decide))
theorem dX3_mustSpace_0 : decode cX3_mustSpace 0 = .ok (.aload_n 0, 1) := by decide +kernel
theorem dX3_mustSpace_1 : decode cX3_mustSpace 1 = .ok (.invokevirtual 46, 3) := by decide +kernel
theorem dX3_mustSpace_4 : decode cX3_mustSpace 4 = .ok (.ifCond .ne 16, 3) := by decide +kernel
theorem dX3_mustSpace_7 : decode cX3_mustSpace 7 = .ok (.new 50, 3) := by decide +kernel
theorem dX3_mustSpace_10 : decode cX3_mustSpace 10 = .ok (.dup, 1) := by decide +kernel
theorem dX3_mustSpace_11 : decode cX3_mustSpace 11 = .ok (.iconst (-1), 1) := by decide +kernel
theorem dX3_mustSpace_12 : decode cX3_mustSpace 12 = .ok (.aload_n 0, 1) := by decide +kernel
theorem dX3_mustSpace_13 : decode cX3_mustSpace 13 = .ok (.invokevirtual 31, 3) := by decide +kernel
theorem dX3_mustSpace_16 : decode cX3_mustSpace 16 = .ok (.invokespecial 52, 3) := by decide +kernel
theorem dX3_mustSpace_19 : decode cX3_mustSpace 19 = .ok (.athrow, 1) := by decide +kernel
theorem dX3_mustSpace_20 : decode cX3_mustSpace 20 = .ok (.return_, 1) := by decide +kernel
def c_X3_mustSpace (μ : MEM) (a0 : Int) : Option zc_O := ck (zt [3] (μ a0 (-1)) = true) (bc (c_X3_space μ a0) (fun r2 μ3 => if r2 = 0 then (ck (1 ≤ μ3 0 1 ∧ (8 : Int) ≤ μ3 0 2) (nu (mnew μ3 22 0 8) (fun μ5 => ck (zt [3] (μ5 a0 (-1)) = true) (bc (c_X2_place μ5 a0) (fun r8 μ9 => ck (zt [22] (μ9 (μ3 0 0) (-1)) = true) (bc (b_finit μ9 (μ3 0 0) (-1) r8) (fun _ μ12 => ck (0 < (μ3 0 0)) (some (1, (μ3 0 0), μ12))))))))) else (some (0, 0, μ3))))
theorem u_X3_mustSpace {G : zc_G} (μ : MEM) (a0 : Int) (o : zc_O) (hd : c_X3_mustSpace μ a0 = some o) : zc_Met G yX3_mustSpace cX3_mustSpace 1 (Option.none : Option FieldType) 0 7 142 μ [zc_rv G a0] o := by
  refine zc_intro hd (by decide) (by simp [lg_sl, zc_rv_cat, iv_cat, jv_cat]) (lv := [(0, zc_rv G a0)]) (by simp [lv_args, zc_rv_cat, iv_cat, jv_cat]) (fun C h hc => ?_)
  have h : zv_Ok C cX3_mustSpace "TreePress$Parser" := h
  have hc : zc_C C G μ 1 (Option.none : Option FieldType) 0 7 142 "mustSpace" [] := hc
  have hN : ∀ i, i < 1 → i < zv_n C := fun i q => by rw [hc.2.1]; exact q
  unfold c_X3_mustSpace
  refine c_aload_n (x := a0) h 0 dX3_mustSpace_0 rfl rfl ?_
  refine r_ck (fun ht1 => ?_)
  refine c_callV (x := a0) h hc (As := []) (fun o1 e1 => u_X3_space _ a0 o1 e1) [3] ht1 (by decide) q479 q481 (fun t ht => by cases List.mem_singleton.mp ht; exact qs5) q482 q138 (by omega) (by omega) zc_s0 (by omega) (fun z hz => by cases hz) ⟨by decide, by decide⟩ (n := 0) (by decide +kernel) rfl rfl dX3_mustSpace_1 (fun r2 μ3 hr4 => r_k3 ?_)
  refine r_if_ne (x := r2) h hr4.r 20 dX3_mustSpace_4 rfl ?_ ?_
  · refine c_newF h hc q650 q577 q153 dX3_mustSpace_7 (fun _ μ5 he6 => ?_)
    refine r_dup h dX3_mustSpace_10 (zc_rv_cat G _) ?_
    refine r_iconst h dX3_mustSpace_11 ?_
    refine c_aload_n (x := a0) h 0 dX3_mustSpace_12 rfl rfl ?_
    refine r_ck (fun ht7 => ?_)
    refine c_callU (x := a0) (xm := ⟨"TreePress$Parser", "place", "()I"⟩) (owner := "TreePress$Reader") h hc (As := []) (fun o1 e1 => u_X2_place _ a0 o1 e1) [3] ht7 (by decide) q483 q484 (va_Decl.of (h.2.2.2.2 _ q487) (h.2.2.2.2 _ q488)) ⟨by decide, by decide⟩ q487 (fun t ht => by cases List.mem_singleton.mp ht; exact q486) q488 q137 (by omega) (by omega) (zc_sc (iv_cat _) (zc_sc (zc_rv_cat G _) (zc_sc (zc_rv_cat G _) zc_s0))) (by omega) (fun z hz => by cases hz) (n := 0) (by decide +kernel) rfl rfl dX3_mustSpace_13 (fun r8 μ9 hr10 => r_k1 ?_)
    refine r_ck (fun ht11 => ?_)
    refine c_callI (x := (μ3 0 0)) h hc (As := [iv (-1), iv r8]) (fun o1 e1 => w_finit _ (μ3 0 0) (-1) r8 (by decide) hr10 o1 e1) [22] ht11 (by decide) q651 q616 rfl q617 q153 (by omega) (by omega) (zc_sc (zc_rv_cat G _) zc_s0) (by omega) (fun z hz => by cases hz) ⟨by decide, by decide⟩ (n := 2) (by decide +kernel) rfl rfl dX3_mustSpace_16 (fun _ μ12 _ => r_k0 ?_)
    exact c_athrow h hc (fun z hz => by cases hz) dX3_mustSpace_19
  · exact c_vret h hc rfl dX3_mustSpace_20
theorem dX8_init_0 : decode cX8_init 0 = .ok (.aload_n 0, 1) := by decide +kernel
theorem dX8_init_1 : decode cX8_init 1 = .ok (.invokespecial 3, 3) := by decide +kernel
theorem dX8_init_4 : decode cX8_init 4 = .ok (.aload_n 0, 1) := by decide +kernel
theorem dX8_init_5 : decode cX8_init 5 = .ok (.new 9, 3) := by decide +kernel
theorem dX8_init_8 : decode cX8_init 8 = .ok (.dup, 1) := by decide +kernel
theorem dX8_init_9 : decode cX8_init 9 = .ok (.invokespecial 11, 3) := by decide +kernel
theorem dX8_init_12 : decode cX8_init 12 = .ok (.putfield 12, 3) := by decide +kernel
theorem dX8_init_15 : decode cX8_init 15 = .ok (.aload_n 0, 1) := by decide +kernel
theorem dX8_init_16 : decode cX8_init 16 = .ok (.bipush 40, 2) := by decide +kernel
theorem dX8_init_18 : decode cX8_init 18 = .ok (.newarray .long, 2) := by decide +kernel
theorem dX8_init_20 : decode cX8_init 20 = .ok (.putfield 18, 3) := by decide +kernel
theorem dX8_init_23 : decode cX8_init 23 = .ok (.aload_n 0, 1) := by decide +kernel
theorem dX8_init_24 : decode cX8_init 24 = .ok (.aload_n 1, 1) := by decide +kernel
theorem dX8_init_25 : decode cX8_init 25 = .ok (.putfield 22, 3) := by decide +kernel
theorem dX8_init_28 : decode cX8_init 28 = .ok (.return_, 1) := by decide +kernel
def c_X8_init (μ : MEM) (a0 a1 : Int) : Option zc_O := ck (zt [8] (μ a0 (-1)) = true) (ck (1 ≤ μ 0 1 ∧ (3 : Int) ≤ μ 0 2) (nu (mnew μ 21 0 3) (fun μ2 => bc (b_linit μ2 (μ 0 0)) (fun _ μ4 => ck (zt [8] (μ4 a0 (-1)) = true) (nu (mup μ4 a0 2 (μ 0 0)) (fun μ6 => ck ((0 : Int) ≤ 40 ∧ 40 ≤ 1000000) (ck (1 ≤ μ6 0 1 ∧ 40 ≤ μ6 0 2) (nu (mnew μ6 34 40 40) (fun μ8 => ck (zt [8] (μ8 a0 (-1)) = true) (nu (mup μ8 a0 3 (μ6 0 0)) (fun μ11 => nu (mup μ11 a0 0 a1) (fun μ13 => some (0, 0, μ13)))))))))))))
theorem u_X8_init {G : zc_G} (μ : MEM) (a0 a1 : Int) (o : zc_O) (hd : c_X8_init μ a0 a1 = some o) : zc_Met G yX8_init cX8_init 2 (Option.none : Option FieldType) 0 4 80 μ [zc_rv G a0, zc_rv G a1] o := by
  refine zc_intro hd (by decide) (by simp [lg_sl, zc_rv_cat, iv_cat, jv_cat]) (lv := [(0, zc_rv G a0), (1, zc_rv G a1)]) (by simp [lv_args, zc_rv_cat, iv_cat, jv_cat]) (fun C h hc => ?_)
  have h : zv_Ok C cX8_init "TreePress$Spec" := h
  have hc : zc_C C G μ 2 (Option.none : Option FieldType) 0 4 80 "<init>" [] := hc
  have hN : ∀ i, i < 2 → i < zv_n C := fun i q => by rw [hc.2.1]; exact q
  unfold c_X8_init
  refine c_aload_n (x := a0) h 0 dX8_init_0 rfl rfl ?_
  refine r_ck (fun ht1 => ?_)
  refine c_oinit h hc [8] ht1 (by decide) q701 q173 q174 (by omega) zc_s0 (by omega) dX8_init_1 ?_
  refine c_aload_n (x := a0) h 0 dX8_init_4 rfl rfl ?_
  refine c_new h hc 21 (N := 3) rfl (by decide) q702 q178 q135 dX8_init_5 (fun _ μ2 he3 => ?_)
  refine r_dup h dX8_init_8 (zc_rv_cat G _) ?_
  refine c_callI (x := (μ 0 0)) h hc (As := []) (fun o1 e1 => w_linit _ (μ 0 0) o1 e1) [21] (zt_nw he3) (by decide) q703 q180 rfl q181 q135 (by omega) (by omega) (zc_sc (zc_rv_cat G _) (zc_sc (zc_rv_cat G _) zc_s0)) (by omega) (fun z hz => by cases hz) ⟨by decide, by decide⟩ (n := 0) (by decide +kernel) rfl rfl dX8_init_9 (fun _ μ4 _ => r_k0 ?_)
  refine r_ck (fun ht5 => ?_)
  refine c_putR (x := a0) (y := (μ 0 0)) h hc [8] 2 true (zc_lk1 h q708) ht5 (by decide) (Or.inr ⟨rfl, rfl, rfl⟩) (ty := (.object "java/util/ArrayList")) (by decide +kernel) (Or.inl ⟨_, rfl⟩) dX8_init_12 (fun μ6 he7 => ?_)
  refine c_aload_n (x := a0) h 0 dX8_init_15 rfl rfl ?_
  refine r_bipush h dX8_init_16 (by decide) ?_
  refine c_naJ (x := 40) h hc rfl q733 (by decide) dX8_init_18 (fun _ _ μ8 he9 => ?_)
  refine r_ck (fun ht10 => ?_)
  refine c_putR (x := a0) (y := (μ6 0 0)) h hc [8] 3 true (zc_lk1 h q710) ht10 (by decide) (Or.inr ⟨rfl, rfl, rfl⟩) (ty := (.array .long)) (by decide +kernel) (Or.inr ⟨_, rfl⟩) dX8_init_20 (fun μ11 he12 => ?_)
  refine c_aload_n (x := a0) h 0 dX8_init_23 rfl rfl ?_
  refine c_aload_n (x := a1) h 1 dX8_init_24 rfl rfl ?_
  refine c_putR (x := a0) (y := a1) h hc [8] 0 true (zc_lk1 h q704) (zt_mup he12 (by decide) ht10) (by decide) (Or.inr ⟨rfl, rfl, rfl⟩) (ty := (.array .byte)) (by decide +kernel) (Or.inr ⟨_, rfl⟩) dX8_init_25 (fun μ13 he14 => ?_)
  exact c_vret h hc rfl dX8_init_28
theorem dX3_content_0 : decode cX3_content 0 = .ok (.aload_n 0, 1) := by decide +kernel
theorem dX3_content_1 : decode cX3_content 1 = .ok (.ldc 159, 2) := by decide +kernel
theorem dX3_content_3 : decode cX3_content 3 = .ok (.invokevirtual 57, 3) := by decide +kernel
theorem dX3_content_6 : decode cX3_content 6 = .ok (.aload_n 0, 1) := by decide +kernel
theorem dX3_content_7 : decode cX3_content 7 = .ok (.invokevirtual 46, 3) := by decide +kernel
theorem dX3_content_10 : decode cX3_content 10 = .ok (.pop, 1) := by decide +kernel
theorem dX3_content_11 : decode cX3_content 11 = .ok (.aload_n 0, 1) := by decide +kernel
theorem dX3_content_12 : decode cX3_content 12 = .ok (.ldc 161, 2) := by decide +kernel
theorem dX3_content_14 : decode cX3_content 14 = .ok (.invokevirtual 140, 3) := by decide +kernel
theorem dX3_content_17 : decode cX3_content 17 = .ok (.ifCond .ne 45, 3) := by decide +kernel
theorem dX3_content_20 : decode cX3_content 20 = .ok (.aload_n 1, 1) := by decide +kernel
theorem dX3_content_21 : decode cX3_content 21 = .ok (.iconst 3, 1) := by decide +kernel
theorem dX3_content_22 : decode cX3_content 22 = .ok (.putfield 143, 3) := by decide +kernel
theorem dX3_content_25 : decode cX3_content 25 = .ok (.aload_n 0, 1) := by decide +kernel
theorem dX3_content_26 : decode cX3_content 26 = .ok (.aload_n 1, 1) := by decide +kernel
theorem dX3_content_27 : decode cX3_content 27 = .ok (.aload_n 0, 1) := by decide +kernel
theorem dX3_content_28 : decode cX3_content 28 = .ok (.aload_n 1, 1) := by decide +kernel
theorem dX3_content_29 : decode cX3_content 29 = .ok (.iconst 1, 1) := by decide +kernel
theorem dX3_content_30 : decode cX3_content 30 = .ok (.invokevirtual 163, 3) := by decide +kernel
theorem dX3_content_33 : decode cX3_content 33 = .ok (.invokevirtual 167, 3) := by decide +kernel
theorem dX3_content_36 : decode cX3_content 36 = .ok (.astore_n 2, 1) := by decide +kernel
theorem dX3_content_37 : decode cX3_content 37 = .ok (.aload_n 1, 1) := by decide +kernel
theorem dX3_content_38 : decode cX3_content 38 = .ok (.aload_n 2, 1) := by decide +kernel
theorem dX3_content_39 : decode cX3_content 39 = .ok (.getfield 171, 3) := by decide +kernel
theorem dX3_content_42 : decode cX3_content 42 = .ok (.putfield 177, 3) := by decide +kernel
theorem dX3_content_45 : decode cX3_content 45 = .ok (.aload_n 1, 1) := by decide +kernel
theorem dX3_content_46 : decode cX3_content 46 = .ok (.aload_n 2, 1) := by decide +kernel
theorem dX3_content_47 : decode cX3_content 47 = .ok (.getfield 178, 3) := by decide +kernel
theorem dX3_content_50 : decode cX3_content 50 = .ok (.putfield 180, 3) := by decide +kernel
theorem dX3_content_53 : decode cX3_content 53 = .ok (.aload_n 1, 1) := by decide +kernel
theorem dX3_content_54 : decode cX3_content 54 = .ok (.aload_n 2, 1) := by decide +kernel
theorem dX3_content_55 : decode cX3_content 55 = .ok (.getfield 181, 3) := by decide +kernel
theorem dX3_content_58 : decode cX3_content 58 = .ok (.putfield 185, 3) := by decide +kernel
theorem dX3_content_61 : decode cX3_content 61 = .ok (.return_, 1) := by decide +kernel
theorem dX3_content_62 : decode cX3_content 62 = .ok (.aload_n 1, 1) := by decide +kernel
theorem dX3_content_63 : decode cX3_content 63 = .ok (.iconst 2, 1) := by decide +kernel
theorem dX3_content_64 : decode cX3_content 64 = .ok (.putfield 143, 3) := by decide +kernel
theorem dX3_content_67 : decode cX3_content 67 = .ok (.aload_n 0, 1) := by decide +kernel
theorem dX3_content_68 : decode cX3_content 68 = .ok (.invokevirtual 46, 3) := by decide +kernel
theorem dX3_content_71 : decode cX3_content 71 = .ok (.pop, 1) := by decide +kernel
theorem dX3_content_72 : decode cX3_content 72 = .ok (.aload_n 0, 1) := by decide +kernel
theorem dX3_content_73 : decode cX3_content 73 = .ok (.ldc 186, 2) := by decide +kernel
theorem dX3_content_75 : decode cX3_content 75 = .ok (.invokevirtual 140, 3) := by decide +kernel
theorem dX3_content_78 : decode cX3_content 78 = .ok (.ifCond .eq 22, 3) := by decide +kernel
theorem dX3_content_81 : decode cX3_content 81 = .ok (.aload_n 0, 1) := by decide +kernel
theorem dX3_content_82 : decode cX3_content 82 = .ok (.invokevirtual 46, 3) := by decide +kernel
theorem dX3_content_85 : decode cX3_content 85 = .ok (.pop, 1) := by decide +kernel
theorem dX3_content_86 : decode cX3_content 86 = .ok (.aload_n 0, 1) := by decide +kernel
theorem dX3_content_87 : decode cX3_content 87 = .ok (.aload_n 1, 1) := by decide +kernel
theorem dX3_content_88 : decode cX3_content 88 = .ok (.invokevirtual 188, 3) := by decide +kernel
theorem dX3_content_91 : decode cX3_content 91 = .ok (.istore_n 2, 1) := by decide +kernel
theorem dX3_content_92 : decode cX3_content 92 = .ok (.aload_n 0, 1) := by decide +kernel
theorem dX3_content_93 : decode cX3_content 93 = .ok (.invokevirtual 46, 3) := by decide +kernel
theorem dX3_content_96 : decode cX3_content 96 = .ok (.pop, 1) := by decide +kernel
theorem dX3_content_97 : decode cX3_content 97 = .ok (.goto (-25), 3) := by decide +kernel
theorem dX3_content_100 : decode cX3_content 100 = .ok (.aload_n 0, 1) := by decide +kernel
theorem dX3_content_101 : decode cX3_content 101 = .ok (.ldc 192, 2) := by decide +kernel
theorem dX3_content_103 : decode cX3_content 103 = .ok (.invokevirtual 57, 3) := by decide +kernel
theorem dX3_content_106 : decode cX3_content 106 = .ok (.aload_n 1, 1) := by decide +kernel
theorem dX3_content_107 : decode cX3_content 107 = .ok (.getfield 156, 3) := by decide +kernel
theorem dX3_content_110 : decode cX3_content 110 = .ok (.invokevirtual 94, 3) := by decide +kernel
theorem dX3_content_113 : decode cX3_content 113 = .ok (.ifCond .le 12, 3) := by decide +kernel
theorem dX3_content_116 : decode cX3_content 116 = .ok (.aload_n 0, 1) := by decide +kernel
theorem dX3_content_117 : decode cX3_content 117 = .ok (.ldc 194, 2) := by decide +kernel
theorem dX3_content_119 : decode cX3_content 119 = .ok (.invokevirtual 57, 3) := by decide +kernel
theorem dX3_content_122 : decode cX3_content 122 = .ok (.goto 18, 3) := by decide +kernel
theorem dX3_content_125 : decode cX3_content 125 = .ok (.aload_n 0, 1) := by decide +kernel
theorem dX3_content_126 : decode cX3_content 126 = .ok (.invokevirtual 35, 3) := by decide +kernel
theorem dX3_content_129 : decode cX3_content 129 = .ok (.bipush 42, 2) := by decide +kernel
theorem dX3_content_131 : decode cX3_content 131 = .ok (.if_icmp .ne 9, 3) := by decide +kernel
theorem dX3_content_134 : decode cX3_content 134 = .ok (.aload_n 0, 1) := by decide +kernel
theorem dX3_content_135 : decode cX3_content 135 = .ok (.ldc 194, 2) := by decide +kernel
theorem dX3_content_137 : decode cX3_content 137 = .ok (.invokevirtual 57, 3) := by decide +kernel
theorem dX3_content_140 : decode cX3_content 140 = .ok (.return_, 1) := by decide +kernel
def c_X3_content_72 : Nat → MEM → Int → Int → Option zc_O
  | 0, _, _, _ => none
  | n + 1, μ, x0, x1 => ck (zt [3] (μ x0 (-1)) = true) (bc (c_X2_takes μ x0 (-13)) (fun r2 μ3 => if r2 = 0 then (ck (zt [3] (μ3 x0 (-1)) = true) (bc (c_X2_must μ3 x0 (-12)) (fun _ μ6 => ck (zt [8] (μ6 x1 (-1)) = true) (ck (zt [40] (μ6 (μ6 x1 2) (-1)) = true) (bc (b_lsize μ6 (μ6 x1 2)) (fun r9 μ10 => if r9 ≤ 0 then (ck (zt [3] (μ10 x0 (-1)) = true) (bc (c_X2_here μ10 x0) (fun r13 μ14 => if r13 = 42 then (ck (zt [3] (μ14 x0 (-1)) = true) (bc (c_X2_must μ14 x0 (-14)) (fun _ μ17 => some (0, 0, μ17)))) else (some (0, 0, μ14))))) else (ck (zt [3] (μ10 x0 (-1)) = true) (bc (c_X2_must μ10 x0 (-14)) (fun _ μ19 => some (0, 0, μ19)))))))))) else (ck (zt [3] (μ3 x0 (-1)) = true) (bc (c_X3_space μ3 x0) (fun r21 μ22 => ck (zt [3] (μ22 x0 (-1)) = true) (bc (c_X3_nameOf μ22 x0 x1) (fun r25 μ26 => ck (zt [3] (μ26 x0 (-1)) = true) (bc (c_X3_space μ26 x0) (fun r29 μ30 => c_X3_content_72 n μ30 x0 x1)))))))))
theorem u_X3_content_72 {C : zv_Cx zc_O} {G : zc_G} {μ0 : MEM} (h : zv_Ok C cX3_content "TreePress$Parser") (hc : zc_C C G μ0 3 (Option.none : Option FieldType) 0 97 2028 "content" []) : ∀ (n : Nat) (μ : MEM) (x0 x1 : Int), VV C (c_X3_content_72 n μ x0 x1) μ [(0, zc_rv G x0), (1, zc_rv G x1)] [] 72 := by
  have hN : ∀ i, i < 3 → i < zv_n C := fun i q => by rw [hc.2.1]; exact q
  intro n
  induction n with
  | zero => intros; exact r_none
  | succ n ih =>
    intro μ x0 x1 
    rw [c_X3_content_72]
    refine c_aload_n (x := x0) h 0 dX3_content_72 rfl rfl ?_
    refine c_ldcs (tx := "|") h hc 13 (by decide) (-13) rfl (by decide) dX3_content_73 ?_
    refine r_ck (fun ht1 => ?_)
    refine c_callU (x := x0) (xm := ⟨"TreePress$Parser", "takes", "(Ljava/lang/String;)Z"⟩) (owner := "TreePress$Reader") h hc (As := [zc_rv G (-13)]) (fun o1 e1 => u_X2_takes _ x0 (-13) o1 e1) [3] ht1 (by decide) q735 q736 (va_Decl.of (h.2.2.2.2 _ q570) (h.2.2.2.2 _ q574)) ⟨by decide, by decide⟩ q570 (fun t ht => by cases List.mem_singleton.mp ht; exact q738) q574 q137 (by omega) (by omega) zc_s0 (by omega) (fun z hz => by cases hz) (n := 1) (by decide +kernel) rfl rfl dX3_content_75 (fun r2 μ3 hr4 => r_k3 ?_)
    refine r_if_eq (x := r2) h hr4.r 100 dX3_content_78 rfl ?_ ?_
    · refine c_aload_n (x := x0) h 0 dX3_content_100 rfl rfl ?_
      refine c_ldcs (tx := ")") h hc 12 (by decide) (-12) rfl (by decide) dX3_content_101 ?_
      refine r_ck (fun ht5 => ?_)
      refine c_callU (x := x0) (xm := ⟨"TreePress$Parser", "must", "(Ljava/lang/String;)V"⟩) (owner := "TreePress$Reader") h hc (As := [zc_rv G (-12)]) (fun o1 e1 => u_X2_must _ x0 (-12) o1 e1) [3] ht5 (by decide) q563 q564 (va_Decl.of (h.2.2.2.2 _ q567) (h.2.2.2.2 _ q568)) ⟨by decide, by decide⟩ q567 (fun t ht => by cases List.mem_singleton.mp ht; exact q566) q568 q137 (by omega) (by omega) zc_s0 (by omega) (fun z hz => by cases hz) (n := 1) (by decide +kernel) rfl rfl dX3_content_103 (fun _ μ6 _ => r_k0 ?_)
      refine c_aload_n (x := x1) h 1 dX3_content_106 rfl rfl ?_
      refine r_ck (fun ht7 => ?_)
      refine c_getR (fin := true) h hc [8] 2 (zc_lk3 hc (O := "TreePress$Spec") (n := "places") (ds := "Ljava/util/ArrayList;") (host := "TreePress") (by decide)) ht7 (by decide) dX3_content_107 ?_
      refine r_ck (fun ht8 => ?_)
      refine c_callV (x := (μ6 x1 2)) h hc (As := []) (fun o1 e1 => w_lsize _ (μ6 x1 2) o1 e1) [40] ht8 (by decide) q695 q343 (fun t ht => by cases List.mem_singleton.mp ht; exact q344) q345 q135 (by omega) (by omega) zc_s0 (by omega) (fun z hz => by cases hz) ⟨by decide, by decide⟩ (n := 0) (by decide +kernel) rfl rfl dX3_content_110 (fun r9 μ10 hr11 => r_k1 ?_)
      refine r_if_le (x := r9) h hr11 125 dX3_content_113 rfl ?_ ?_
      · refine c_aload_n (x := x0) h 0 dX3_content_125 rfl rfl ?_
        refine r_ck (fun ht12 => ?_)
        refine c_callU (x := x0) (xm := ⟨"TreePress$Parser", "here", "()I"⟩) (owner := "TreePress$Reader") h hc (As := []) (fun o1 e1 => u_X2_here _ x0 o1 e1) [3] ht12 (by decide) q489 q490 (va_Decl.of (h.2.2.2.2 _ q493) (h.2.2.2.2 _ q494)) ⟨by decide, by decide⟩ q493 (fun t ht => by cases List.mem_singleton.mp ht; exact q492) q494 q137 (by omega) (by omega) zc_s0 (by omega) (fun z hz => by cases hz) (n := 0) (by decide +kernel) rfl rfl dX3_content_126 (fun r13 μ14 hr15 => r_k1 ?_)
        refine r_bipush h dX3_content_129 (by decide) ?_
        refine r_icmp_ne (x := r13) (y := 42) h hr15 (by decide) 140 dX3_content_131 rfl ?_ ?_
        · refine c_aload_n (x := x0) h 0 dX3_content_134 rfl rfl ?_
          refine c_ldcs (tx := "*") h hc 14 (by decide) (-14) rfl (by decide) dX3_content_135 ?_
          refine r_ck (fun ht16 => ?_)
          refine c_callU (x := x0) (xm := ⟨"TreePress$Parser", "must", "(Ljava/lang/String;)V"⟩) (owner := "TreePress$Reader") h hc (As := [zc_rv G (-14)]) (fun o1 e1 => u_X2_must _ x0 (-14) o1 e1) [3] ht16 (by decide) q563 q564 (va_Decl.of (h.2.2.2.2 _ q567) (h.2.2.2.2 _ q568)) ⟨by decide, by decide⟩ q567 (fun t ht => by cases List.mem_singleton.mp ht; exact q566) q568 q137 (by omega) (by omega) zc_s0 (by omega) (fun z hz => by cases hz) (n := 1) (by decide +kernel) rfl rfl dX3_content_137 (fun _ μ17 _ => r_k0 ?_)
          exact c_vret h hc rfl dX3_content_140
        · exact c_vret h hc rfl dX3_content_140
      · refine c_aload_n (x := x0) h 0 dX3_content_116 rfl rfl ?_
        refine c_ldcs (tx := "*") h hc 14 (by decide) (-14) rfl (by decide) dX3_content_117 ?_
        refine r_ck (fun ht18 => ?_)
        refine c_callU (x := x0) (xm := ⟨"TreePress$Parser", "must", "(Ljava/lang/String;)V"⟩) (owner := "TreePress$Reader") h hc (As := [zc_rv G (-14)]) (fun o1 e1 => u_X2_must _ x0 (-14) o1 e1) [3] ht18 (by decide) q563 q564 (va_Decl.of (h.2.2.2.2 _ q567) (h.2.2.2.2 _ q568)) ⟨by decide, by decide⟩ q567 (fun t ht => by cases List.mem_singleton.mp ht; exact q566) q568 q137 (by omega) (by omega) zc_s0 (by omega) (fun z hz => by cases hz) (n := 1) (by decide +kernel) rfl rfl dX3_content_119 (fun _ μ19 _ => r_k0 ?_)
        refine r_goto h 140 dX3_content_122 rfl ?_
        exact c_vret h hc rfl dX3_content_140
    · refine c_aload_n (x := x0) h 0 dX3_content_81 rfl rfl ?_
      refine r_ck (fun ht20 => ?_)
      refine c_callV (x := x0) h hc (As := []) (fun o1 e1 => u_X3_space _ x0 o1 e1) [3] ht20 (by decide) q479 q481 (fun t ht => by cases List.mem_singleton.mp ht; exact qs5) q482 q138 (by omega) (by omega) zc_s0 (by omega) (fun z hz => by cases hz) ⟨by decide, by decide⟩ (n := 0) (by decide +kernel) rfl rfl dX3_content_82 (fun r21 μ22 hr23 => r_k3 ?_)
      refine r_pop h dX3_content_85 (iv_cat _) ?_
      refine c_aload_n (x := x0) h 0 dX3_content_86 rfl rfl ?_
      refine c_aload_n (x := x1) h 1 dX3_content_87 rfl rfl ?_
      refine r_ck (fun ht24 => ?_)
      refine c_callV (x := x0) h hc (As := [zc_rv G x1]) (fun o1 e1 => u_X3_nameOf _ x0 x1 o1 e1) [3] ht24 (by decide) q761 q763 (fun t ht => by cases List.mem_singleton.mp ht; exact qs15) q764 q138 (by omega) (by omega) zc_s0 (by omega) (fun z hz => by cases hz) ⟨by decide, by decide⟩ (n := 1) (by decide +kernel) rfl rfl dX3_content_88 (fun r25 μ26 hr27 => r_k1 ?_)
      refine r_istore_n (i := 2) (lv' := [(2, iv r25), (0, zc_rv G x0), (1, zc_rv G x1)]) h dX3_content_91 rfl (hN _ (by decide)) (by simp [zc_rv_cat]) ?_
      refine c_aload_n (x := x0) h 1 dX3_content_92 rfl rfl ?_
      refine r_ck (fun ht28 => ?_)
      refine c_callV (x := x0) h hc (As := []) (fun o1 e1 => u_X3_space _ x0 o1 e1) [3] ht28 (by decide) q479 q481 (fun t ht => by cases List.mem_singleton.mp ht; exact qs5) q482 q138 (by omega) (by omega) zc_s0 (by omega) (fun z hz => by cases hz) ⟨by decide, by decide⟩ (n := 0) (by decide +kernel) rfl rfl dX3_content_93 (fun r29 μ30 hr31 => r_k3 ?_)
      refine r_pop h dX3_content_96 (iv_cat _) ?_
      refine r_goto h 72 dX3_content_97 rfl ?_
      exact r_lv [1, 2] rfl (ih _ x0 x1)
def c_X3_content (μ : MEM) (a0 a1 : Int) : Option zc_O := ck (zt [3] (μ a0 (-1)) = true) (bc (c_X2_must μ a0 (-10)) (fun _ μ2 => ck (zt [3] (μ2 a0 (-1)) = true) (bc (c_X3_space μ2 a0) (fun r4 μ5 => ck (zt [3] (μ5 a0 (-1)) = true) (bc (c_X2_takes μ5 a0 (-11)) (fun r8 μ9 => if r8 = 0 then (ck (zt [8] (μ9 a1 (-1)) = true) (nu (mup μ9 a1 1 3) (fun μ12 => ck (zt [3] (μ12 a0 (-1)) = true) (bc (fz_rest 8 μ12 a0 a1 1) (fun r15 μ16 => ck (zt [3] (μ16 a0 (-1)) = true) (bc (c_X3_sign μ16 a0 a1 r15) (fun r19 μ20 => ck (zt [9] (μ20 r19 (-1)) = true) (ck (zt [8] (μ20 a1 (-1)) = true) (nu (mup μ20 a1 4 (μ20 r19 0)) (fun μ25 => nu (mup μ25 a1 5 (μ25 r19 1)) (fun μ28 => nu (mup μ28 a1 6 (μ28 r19 2)) (fun μ31 => some (0, 0, μ31))))))))))))) else (ck (zt [8] (μ9 a1 (-1)) = true) (nu (mup μ9 a1 1 2) (fun μ34 => ck (zt [3] (μ34 a0 (-1)) = true) (bc (c_X3_space μ34 a0) (fun r37 μ38 => c_X3_content_72 zF μ38 a0 a1)))))))))))
theorem u_X3_content {G : zc_G} (μ : MEM) (a0 a1 : Int) (o : zc_O) (hd : c_X3_content μ a0 a1 = some o) : zc_Met G yX3_content cX3_content 3 (Option.none : Option FieldType) 0 97 2028 μ [zc_rv G a0, zc_rv G a1] o := by
  refine zc_intro hd (by decide) (by simp [lg_sl, zc_rv_cat, iv_cat, jv_cat]) (lv := [(0, zc_rv G a0), (1, zc_rv G a1)]) (by simp [lv_args, zc_rv_cat, iv_cat, jv_cat]) (fun C h hc => ?_)
  have h : zv_Ok C cX3_content "TreePress$Parser" := h
  have hc : zc_C C G μ 3 (Option.none : Option FieldType) 0 97 2028 "content" [] := hc
  have hN : ∀ i, i < 3 → i < zv_n C := fun i q => by rw [hc.2.1]; exact q
  unfold c_X3_content
  refine c_aload_n (x := a0) h 0 dX3_content_0 rfl rfl ?_
  refine c_ldcs (tx := "(") h hc 10 (by decide) (-10) rfl (by decide) dX3_content_1 ?_
  refine r_ck (fun ht1 => ?_)
  refine c_callU (x := a0) (xm := ⟨"TreePress$Parser", "must", "(Ljava/lang/String;)V"⟩) (owner := "TreePress$Reader") h hc (As := [zc_rv G (-10)]) (fun o1 e1 => u_X2_must _ a0 (-10) o1 e1) [3] ht1 (by decide) q563 q564 (va_Decl.of (h.2.2.2.2 _ q567) (h.2.2.2.2 _ q568)) ⟨by decide, by decide⟩ q567 (fun t ht => by cases List.mem_singleton.mp ht; exact q566) q568 q137 (by omega) (by omega) zc_s0 (by omega) (fun z hz => by cases hz) (n := 1) (by decide +kernel) rfl rfl dX3_content_3 (fun _ μ2 _ => r_k0 ?_)
  refine c_aload_n (x := a0) h 0 dX3_content_6 rfl rfl ?_
  refine r_ck (fun ht3 => ?_)
  refine c_callV (x := a0) h hc (As := []) (fun o1 e1 => u_X3_space _ a0 o1 e1) [3] ht3 (by decide) q479 q481 (fun t ht => by cases List.mem_singleton.mp ht; exact qs5) q482 q138 (by omega) (by omega) zc_s0 (by omega) (fun z hz => by cases hz) ⟨by decide, by decide⟩ (n := 0) (by decide +kernel) rfl rfl dX3_content_7 (fun r4 μ5 hr6 => r_k3 ?_)
  refine r_pop h dX3_content_10 (iv_cat _) ?_
  refine c_aload_n (x := a0) h 0 dX3_content_11 rfl rfl ?_
  refine c_ldcs (tx := "#PCDATA") h hc 11 (by decide) (-11) rfl (by decide) dX3_content_12 ?_
  refine r_ck (fun ht7 => ?_)
  refine c_callU (x := a0) (xm := ⟨"TreePress$Parser", "takes", "(Ljava/lang/String;)Z"⟩) (owner := "TreePress$Reader") h hc (As := [zc_rv G (-11)]) (fun o1 e1 => u_X2_takes _ a0 (-11) o1 e1) [3] ht7 (by decide) q735 q736 (va_Decl.of (h.2.2.2.2 _ q570) (h.2.2.2.2 _ q574)) ⟨by decide, by decide⟩ q570 (fun t ht => by cases List.mem_singleton.mp ht; exact q738) q574 q137 (by omega) (by omega) zc_s0 (by omega) (fun z hz => by cases hz) (n := 1) (by decide +kernel) rfl rfl dX3_content_14 (fun r8 μ9 hr10 => r_k3 ?_)
  refine r_if_ne (x := r8) h hr10.r 62 dX3_content_17 rfl ?_ ?_
  · refine c_aload_n (x := a1) h 1 dX3_content_20 rfl rfl ?_
    refine r_iconst h dX3_content_21 ?_
    refine r_ck (fun ht11 => ?_)
    refine c_putI (x := a1) (y := 3) h hc [8] 1 false (zc_lk3 hc (O := "TreePress$Spec") (n := "kind") (ds := "I") (host := "TreePress") (by decide)) ht11 (by decide) (Or.inl rfl) (by decide) dX3_content_22 (fun μ12 he13 => ?_)
    refine c_aload_n (x := a0) h 0 dX3_content_25 rfl rfl ?_
    refine c_aload_n (x := a1) h 1 dX3_content_26 rfl rfl ?_
    refine c_aload_n (x := a0) h 0 dX3_content_27 rfl rfl ?_
    refine c_aload_n (x := a1) h 1 dX3_content_28 rfl rfl ?_
    refine r_iconst h dX3_content_29 ?_
    refine r_ck (fun ht14 => ?_)
    refine c_callV (x := a0) h hc (As := [zc_rv G a1, iv 1]) (fun o1 e1 => fm_rest 8 _ a0 a1 1 (by decide) o1 e1) [3] ht14 (by decide) q746 q748 (fun t ht => by cases List.mem_singleton.mp ht; exact qs12) q749 q138 (by omega) (by omega) (zc_sc (zc_rv_cat G _) (zc_sc (zc_rv_cat G _) zc_s0)) (by omega) (fun z hz => by cases hz) ⟨by decide, by decide⟩ (n := 2) (by decide +kernel) rfl rfl dX3_content_30 (fun r15 μ16 hr17 => r_k4 ?_)
    refine r_ck (fun ht18 => ?_)
    refine c_callV (x := a0) h hc (As := [zc_rv G a1, zc_rv G r15]) (fun o1 e1 => u_X3_sign _ a0 a1 r15 o1 e1) [3] ht18 (by decide) q754 q756 (fun t ht => by cases List.mem_singleton.mp ht; exact qs14) q757 q138 (by omega) (by omega) zc_s0 (by omega) (fun z hz => by cases hz) ⟨by decide, by decide⟩ (n := 2) (by decide +kernel) rfl rfl dX3_content_33 (fun r19 μ20 hr21 => r_k4 ?_)
    refine c_astore_n (i := 2) (lv' := [(2, zc_rv G r19), (0, zc_rv G a0), (1, zc_rv G a1)]) h dX3_content_36 rfl (hN _ (by decide)) (by simp [zc_rv_cat]) ?_
    refine c_aload_n (x := a1) h 2 dX3_content_37 rfl rfl ?_
    refine c_aload_n (x := r19) h 0 dX3_content_38 rfl rfl ?_
    refine r_ck (fun ht22 => ?_)
    refine c_getJ (fin := false) h hc [9] 0 (zc_lk3 hc (O := "TreePress$Part") (n := "first") (ds := "J") (host := "TreePress") (by decide)) ht22 (by decide) dX3_content_39 (fun hr23 => ?_)
    refine r_ck (fun ht24 => ?_)
    refine c_putJ (x := a1) (y := (μ20 r19 0)) h hc [8] 4 false (zc_lk3 hc (O := "TreePress$Spec") (n := "first") (ds := "J") (host := "TreePress") (by decide)) ht24 (by decide) (Or.inl rfl) hr23 dX3_content_42 (fun μ25 he26 => ?_)
    refine c_aload_n (x := a1) h 2 dX3_content_45 rfl rfl ?_
    refine c_aload_n (x := r19) h 0 dX3_content_46 rfl rfl ?_
    refine c_getJ (fin := false) h hc [9] 1 (zc_lk3 hc (O := "TreePress$Part") (n := "last") (ds := "J") (host := "TreePress") (by decide)) (zt_mup he26 (by decide) ht22) (by decide) dX3_content_47 (fun hr27 => ?_)
    refine c_putJ (x := a1) (y := (μ25 r19 1)) h hc [8] 5 false (zc_lk3 hc (O := "TreePress$Spec") (n := "last") (ds := "J") (host := "TreePress") (by decide)) (zt_mup he26 (by decide) ht24) (by decide) (Or.inl rfl) hr27 dX3_content_50 (fun μ28 he29 => ?_)
    refine c_aload_n (x := a1) h 2 dX3_content_53 rfl rfl ?_
    refine c_aload_n (x := r19) h 0 dX3_content_54 rfl rfl ?_
    refine c_getZ (fin := false) h hc [9] 2 (zc_lk3 hc (O := "TreePress$Part") (n := "nothing") (ds := "Z") (host := "TreePress") (by decide)) (zt_mup he29 (by decide) (zt_mup he26 (by decide) ht22)) (by decide) dX3_content_55 (fun hr30 => ?_)
    refine c_putZ (x := a1) (y := (μ28 r19 2)) h hc [8] 6 false (zc_lk3 hc (O := "TreePress$Spec") (n := "nothing") (ds := "Z") (host := "TreePress") (by decide)) (zt_mup he29 (by decide) (zt_mup he26 (by decide) ht24)) (by decide) (Or.inl rfl) hr30 dX3_content_58 (fun μ31 he32 => ?_)
    exact c_vret h hc rfl dX3_content_61
  · refine c_aload_n (x := a1) h 1 dX3_content_62 rfl rfl ?_
    refine r_iconst h dX3_content_63 ?_
    refine r_ck (fun ht33 => ?_)
    refine c_putI (x := a1) (y := 2) h hc [8] 1 false (zc_lk3 hc (O := "TreePress$Spec") (n := "kind") (ds := "I") (host := "TreePress") (by decide)) ht33 (by decide) (Or.inl rfl) (by decide) dX3_content_64 (fun μ34 he35 => ?_)
    refine c_aload_n (x := a0) h 0 dX3_content_67 rfl rfl ?_
    refine r_ck (fun ht36 => ?_)
    refine c_callV (x := a0) h hc (As := []) (fun o1 e1 => u_X3_space _ a0 o1 e1) [3] ht36 (by decide) q479 q481 (fun t ht => by cases List.mem_singleton.mp ht; exact qs5) q482 q138 (by omega) (by omega) zc_s0 (by omega) (fun z hz => by cases hz) ⟨by decide, by decide⟩ (n := 0) (by decide +kernel) rfl rfl dX3_content_68 (fun r37 μ38 hr39 => r_k3 ?_)
    refine r_pop h dX3_content_71 (iv_cat _) ?_
    exact r_lv [0, 1] rfl (u_X3_content_72 h hc zF _ a0 a1)
theorem dX3_specs_0 : decode cX3_specs 0 = .ok (.aload_n 0, 1) := by decide +kernel
theorem dX3_specs_1 : decode cX3_specs 1 = .ok (.getfield 14, 3) := by decide +kernel
theorem dX3_specs_4 : decode cX3_specs 4 = .ok (.getfield 131, 3) := by decide +kernel
theorem dX3_specs_7 : decode cX3_specs 7 = .ok (.invokevirtual 94, 3) := by decide +kernel
theorem dX3_specs_10 : decode cX3_specs 10 = .ok (.bipush 30, 2) := by decide +kernel
theorem dX3_specs_12 : decode cX3_specs 12 = .ok (.if_icmp .ne 17, 3) := by decide +kernel
theorem dX3_specs_15 : decode cX3_specs 15 = .ok (.new 50, 3) := by decide +kernel
theorem dX3_specs_18 : decode cX3_specs 18 = .ok (.dup, 1) := by decide +kernel
theorem dX3_specs_19 : decode cX3_specs 19 = .ok (.bipush (-3), 2) := by decide +kernel
theorem dX3_specs_21 : decode cX3_specs 21 = .ok (.aload_n 0, 1) := by decide +kernel
theorem dX3_specs_22 : decode cX3_specs 22 = .ok (.invokevirtual 31, 3) := by decide +kernel
theorem dX3_specs_25 : decode cX3_specs 25 = .ok (.invokespecial 52, 3) := by decide +kernel
theorem dX3_specs_28 : decode cX3_specs 28 = .ok (.athrow, 1) := by decide +kernel
theorem dX3_specs_29 : decode cX3_specs 29 = .ok (.aload_n 0, 1) := by decide +kernel
theorem dX3_specs_30 : decode cX3_specs 30 = .ok (.ldc 121, 2) := by decide +kernel
theorem dX3_specs_32 : decode cX3_specs 32 = .ok (.invokevirtual 57, 3) := by decide +kernel
theorem dX3_specs_35 : decode cX3_specs 35 = .ok (.aload_n 0, 1) := by decide +kernel
theorem dX3_specs_36 : decode cX3_specs 36 = .ok (.invokevirtual 110, 3) := by decide +kernel
theorem dX3_specs_39 : decode cX3_specs 39 = .ok (.new 133, 3) := by decide +kernel
theorem dX3_specs_42 : decode cX3_specs 42 = .ok (.dup, 1) := by decide +kernel
theorem dX3_specs_43 : decode cX3_specs 43 = .ok (.aload_n 0, 1) := by decide +kernel
theorem dX3_specs_44 : decode cX3_specs 44 = .ok (.invokevirtual 113, 3) := by decide +kernel
theorem dX3_specs_47 : decode cX3_specs 47 = .ok (.invokespecial 135, 3) := by decide +kernel
theorem dX3_specs_50 : decode cX3_specs 50 = .ok (.astore_n 1, 1) := by decide +kernel
theorem dX3_specs_51 : decode cX3_specs 51 = .ok (.aload_n 0, 1) := by decide +kernel
theorem dX3_specs_52 : decode cX3_specs 52 = .ok (.invokevirtual 110, 3) := by decide +kernel
theorem dX3_specs_55 : decode cX3_specs 55 = .ok (.aload_n 0, 1) := by decide +kernel
theorem dX3_specs_56 : decode cX3_specs 56 = .ok (.ldc 138, 2) := by decide +kernel
theorem dX3_specs_58 : decode cX3_specs 58 = .ok (.invokevirtual 140, 3) := by decide +kernel
theorem dX3_specs_61 : decode cX3_specs 61 = .ok (.ifCond .eq 11, 3) := by decide +kernel
theorem dX3_specs_64 : decode cX3_specs 64 = .ok (.aload_n 1, 1) := by decide +kernel
theorem dX3_specs_65 : decode cX3_specs 65 = .ok (.iconst 0, 1) := by decide +kernel
theorem dX3_specs_66 : decode cX3_specs 66 = .ok (.putfield 143, 3) := by decide +kernel
theorem dX3_specs_69 : decode cX3_specs 69 = .ok (.goto 25, 3) := by decide +kernel
theorem dX3_specs_72 : decode cX3_specs 72 = .ok (.aload_n 0, 1) := by decide +kernel
theorem dX3_specs_73 : decode cX3_specs 73 = .ok (.ldc 146, 2) := by decide +kernel
theorem dX3_specs_75 : decode cX3_specs 75 = .ok (.invokevirtual 140, 3) := by decide +kernel
theorem dX3_specs_78 : decode cX3_specs 78 = .ok (.ifCond .eq 11, 3) := by decide +kernel
theorem dX3_specs_81 : decode cX3_specs 81 = .ok (.aload_n 1, 1) := by decide +kernel
theorem dX3_specs_82 : decode cX3_specs 82 = .ok (.iconst 1, 1) := by decide +kernel
theorem dX3_specs_83 : decode cX3_specs 83 = .ok (.putfield 143, 3) := by decide +kernel
theorem dX3_specs_86 : decode cX3_specs 86 = .ok (.goto 8, 3) := by decide +kernel
theorem dX3_specs_89 : decode cX3_specs 89 = .ok (.aload_n 0, 1) := by decide +kernel
theorem dX3_specs_90 : decode cX3_specs 90 = .ok (.aload_n 1, 1) := by decide +kernel
theorem dX3_specs_91 : decode cX3_specs 91 = .ok (.invokevirtual 148, 3) := by decide +kernel
theorem dX3_specs_94 : decode cX3_specs 94 = .ok (.aload_n 0, 1) := by decide +kernel
theorem dX3_specs_95 : decode cX3_specs 95 = .ok (.invokevirtual 46, 3) := by decide +kernel
theorem dX3_specs_98 : decode cX3_specs 98 = .ok (.pop, 1) := by decide +kernel
theorem dX3_specs_99 : decode cX3_specs 99 = .ok (.aload_n 0, 1) := by decide +kernel
theorem dX3_specs_100 : decode cX3_specs 100 = .ok (.ldc 70, 2) := by decide +kernel
theorem dX3_specs_102 : decode cX3_specs 102 = .ok (.invokevirtual 57, 3) := by decide +kernel
theorem dX3_specs_105 : decode cX3_specs 105 = .ok (.aload_n 0, 1) := by decide +kernel
theorem dX3_specs_106 : decode cX3_specs 106 = .ok (.getfield 23, 3) := by decide +kernel
theorem dX3_specs_109 : decode cX3_specs 109 = .ok (.iconst 2, 1) := by decide +kernel
theorem dX3_specs_110 : decode cX3_specs 110 = .ok (.newarray .int, 2) := by decide +kernel
theorem dX3_specs_112 : decode cX3_specs 112 = .ok (.dup, 1) := by decide +kernel
theorem dX3_specs_113 : decode cX3_specs 113 = .ok (.iconst 0, 1) := by decide +kernel
theorem dX3_specs_114 : decode cX3_specs 114 = .ok (.iconst 0, 1) := by decide +kernel
theorem dX3_specs_115 : decode cX3_specs 115 = .ok (.iastore, 1) := by decide +kernel
theorem dX3_specs_116 : decode cX3_specs 116 = .ok (.dup, 1) := by decide +kernel
theorem dX3_specs_117 : decode cX3_specs 117 = .ok (.iconst 1, 1) := by decide +kernel
theorem dX3_specs_118 : decode cX3_specs 118 = .ok (.aload_n 0, 1) := by decide +kernel
theorem dX3_specs_119 : decode cX3_specs 119 = .ok (.getfield 14, 3) := by decide +kernel
theorem dX3_specs_122 : decode cX3_specs 122 = .ok (.getfield 131, 3) := by decide +kernel
theorem dX3_specs_125 : decode cX3_specs 125 = .ok (.invokevirtual 94, 3) := by decide +kernel
theorem dX3_specs_128 : decode cX3_specs 128 = .ok (.iastore, 1) := by decide +kernel
theorem dX3_specs_129 : decode cX3_specs 129 = .ok (.invokevirtual 152, 3) := by decide +kernel
theorem dX3_specs_132 : decode cX3_specs 132 = .ok (.pop, 1) := by decide +kernel
theorem dX3_specs_133 : decode cX3_specs 133 = .ok (.aload_n 0, 1) := by decide +kernel
theorem dX3_specs_134 : decode cX3_specs 134 = .ok (.getfield 14, 3) := by decide +kernel
theorem dX3_specs_137 : decode cX3_specs 137 = .ok (.getfield 131, 3) := by decide +kernel
theorem dX3_specs_140 : decode cX3_specs 140 = .ok (.aload_n 1, 1) := by decide +kernel
theorem dX3_specs_141 : decode cX3_specs 141 = .ok (.invokevirtual 152, 3) := by decide +kernel
theorem dX3_specs_144 : decode cX3_specs 144 = .ok (.pop, 1) := by decide +kernel
theorem dX3_specs_145 : decode cX3_specs 145 = .ok (.return_, 1) := by decide +kernel
def c_X3_specs_94 (μ : MEM) (x0 x1 : Int) : Option zc_O := ck (zt [3] (μ x0 (-1)) = true) (bc (c_X3_space μ x0) (fun r2 μ3 => ck (zt [3] (μ3 x0 (-1)) = true) (bc (c_X2_must μ3 x0 (-3)) (fun _ μ6 => ck (zt [3] (μ6 x0 (-1)) = true) (ck ((0 : Int) ≤ 2 ∧ 2 ≤ 1000000) (ck (1 ≤ μ6 0 1 ∧ 2 ≤ μ6 0 2) (nu (mnew μ6 33 2 2) (fun μ8 => ck ((0 : Int) ≤ 0 ∧ 0 < μ8 (μ6 0 0) (-2)) (nu (mup μ8 (μ6 0 0) 0 0) (fun μ10 => ck (zt [3] (μ10 x0 (-1)) = true) (ck (zt [4] (μ10 (μ10 x0 3) (-1)) = true) (ck (zt [40] (μ10 (μ10 (μ10 x0 3) 3) (-1)) = true) (bc (b_lsize μ10 (μ10 (μ10 x0 3) 3)) (fun r16 μ17 => ck (zt [33] (μ17 (μ6 0 0) (-1)) = true) (ck ((0 : Int) ≤ 1 ∧ 1 < μ17 (μ6 0 0) (-2)) (nu (mup μ17 (μ6 0 0) 1 r16) (fun μ20 => ck (zt [40] (μ20 (μ6 x0 4) (-1)) = true) (bc (b_ladd μ20 (μ6 x0 4) (μ6 0 0)) (fun r24 μ25 => ck (zt [3] (μ25 x0 (-1)) = true) (ck (zt [4] (μ25 (μ25 x0 3) (-1)) = true) (ck (zt [40] (μ25 (μ25 (μ25 x0 3) 3) (-1)) = true) (bc (b_ladd μ25 (μ25 (μ25 x0 3) 3) x1) (fun r30 μ31 => some (0, 0, μ31))))))))))))))))))))))))
theorem u_X3_specs_94 {C : zv_Cx zc_O} {G : zc_G} {μ0 : MEM} (h : zv_Ok C cX3_specs "TreePress$Parser") (hc : zc_C C G μ0 2 (Option.none : Option FieldType) 0 98 2050 "specs" []) (μ : MEM) (x0 x1 : Int) : VV C (c_X3_specs_94 μ x0 x1) μ [(0, zc_rv G x0), (1, zc_rv G x1)] [] 94 := by
  have hN : ∀ i, i < 2 → i < zv_n C := fun i q => by rw [hc.2.1]; exact q
  unfold c_X3_specs_94
  refine c_aload_n (x := x0) h 0 dX3_specs_94 rfl rfl ?_
  refine r_ck (fun ht1 => ?_)
  refine c_callV (x := x0) h hc (As := []) (fun o1 e1 => u_X3_space _ x0 o1 e1) [3] ht1 (by decide) q479 q481 (fun t ht => by cases List.mem_singleton.mp ht; exact qs5) q482 q138 (by omega) (by omega) zc_s0 (by omega) (fun z hz => by cases hz) ⟨by decide, by decide⟩ (n := 0) (by decide +kernel) rfl rfl dX3_specs_95 (fun r2 μ3 hr4 => r_k3 ?_)
  refine r_pop h dX3_specs_98 (iv_cat _) ?_
  refine c_aload_n (x := x0) h 0 dX3_specs_99 rfl rfl ?_
  refine c_ldcs (tx := ">") h hc 3 (by decide) (-3) rfl (by decide) dX3_specs_100 ?_
  refine r_ck (fun ht5 => ?_)
  refine c_callU (x := x0) (xm := ⟨"TreePress$Parser", "must", "(Ljava/lang/String;)V"⟩) (owner := "TreePress$Reader") h hc (As := [zc_rv G (-3)]) (fun o1 e1 => u_X2_must _ x0 (-3) o1 e1) [3] ht5 (by decide) q563 q564 (va_Decl.of (h.2.2.2.2 _ q567) (h.2.2.2.2 _ q568)) ⟨by decide, by decide⟩ q567 (fun t ht => by cases List.mem_singleton.mp ht; exact q566) q568 q137 (by omega) (by omega) zc_s0 (by omega) (fun z hz => by cases hz) (n := 1) (by decide +kernel) rfl rfl dX3_specs_102 (fun _ μ6 _ => r_k0 ?_)
  refine c_aload_n (x := x0) h 0 dX3_specs_105 rfl rfl ?_
  refine r_ck (fun ht7 => ?_)
  refine c_getR (fin := true) h hc [3] 4 (zc_lk1 h q447) ht7 (by decide) dX3_specs_106 ?_
  refine r_iconst h dX3_specs_109 ?_
  refine c_naI (x := 2) h hc rfl q842 (by decide) dX3_specs_110 (fun _ _ μ8 he9 => ?_)
  refine r_dup h dX3_specs_112 (zc_rv_cat G _) ?_
  refine r_iconst h dX3_specs_113 ?_
  refine r_iconst h dX3_specs_114 ?_
  refine c_stI (x := (μ6 0 0)) (y := 0) (z := 0) h hc (zt_nw he9) (by decide) dX3_specs_115 (fun hb12 μ10 he11 => ?_)
  refine r_dup h dX3_specs_116 (zc_rv_cat G _) ?_
  refine r_iconst h dX3_specs_117 ?_
  refine c_aload_n (x := x0) h 0 dX3_specs_118 rfl rfl ?_
  refine r_ck (fun ht13 => ?_)
  refine c_getR (fin := true) h hc [3] 3 (zc_lk1 h q446) ht13 (by decide) dX3_specs_119 ?_
  refine r_ck (fun ht14 => ?_)
  refine c_getR (fin := true) h hc [4] 3 (zc_lk3 hc (O := "TreePress$Document") (n := "specs") (ds := "Ljava/util/ArrayList;") (host := "TreePress") (by decide)) ht14 (by decide) dX3_specs_122 ?_
  refine r_ck (fun ht15 => ?_)
  refine c_callV (x := (μ10 (μ10 x0 3) 3)) h hc (As := []) (fun o1 e1 => w_lsize _ (μ10 (μ10 x0 3) 3) o1 e1) [40] ht15 (by decide) q695 q343 (fun t ht => by cases List.mem_singleton.mp ht; exact q344) q345 q135 (by omega) (by omega) (zc_sc (iv_cat _) (zc_sc (zc_rv_cat G _) (zc_sc (zc_rv_cat G _) (zc_sc (zc_rv_cat G _) zc_s0)))) (by omega) (fun z hz => by cases hz) ⟨by decide, by decide⟩ (n := 0) (by decide +kernel) rfl rfl dX3_specs_125 (fun r16 μ17 hr18 => r_k1 ?_)
  refine r_ck (fun ht19 => ?_)
  refine c_stI (x := (μ6 0 0)) (y := 1) (z := r16) h hc ht19 hr18 dX3_specs_128 (fun hb22 μ20 he21 => ?_)
  refine r_ck (fun ht23 => ?_)
  refine c_callV (x := (μ6 x0 4)) h hc (As := [zc_rv G (μ6 0 0)]) (fun o1 e1 => w_ladd _ (μ6 x0 4) (μ6 0 0) o1 e1) [40] ht23 (by decide) q765 q347 (fun t ht => by cases List.mem_singleton.mp ht; exact q348) q349 q135 (by omega) (by omega) zc_s0 (by omega) (fun z hz => by cases hz) ⟨by decide, by decide⟩ (n := 1) (by decide +kernel) rfl rfl dX3_specs_129 (fun r24 μ25 hr26 => r_k3 ?_)
  refine r_pop h dX3_specs_132 (iv_cat _) ?_
  refine c_aload_n (x := x0) h 0 dX3_specs_133 rfl rfl ?_
  refine r_ck (fun ht27 => ?_)
  refine c_getR (fin := true) h hc [3] 3 (zc_lk1 h q446) ht27 (by decide) dX3_specs_134 ?_
  refine r_ck (fun ht28 => ?_)
  refine c_getR (fin := true) h hc [4] 3 (zc_lk3 hc (O := "TreePress$Document") (n := "specs") (ds := "Ljava/util/ArrayList;") (host := "TreePress") (by decide)) ht28 (by decide) dX3_specs_137 ?_
  refine c_aload_n (x := x1) h 1 dX3_specs_140 rfl rfl ?_
  refine r_ck (fun ht29 => ?_)
  refine c_callV (x := (μ25 (μ25 x0 3) 3)) h hc (As := [zc_rv G x1]) (fun o1 e1 => w_ladd _ (μ25 (μ25 x0 3) 3) x1 o1 e1) [40] ht29 (by decide) q765 q347 (fun t ht => by cases List.mem_singleton.mp ht; exact q348) q349 q135 (by omega) (by omega) zc_s0 (by omega) (fun z hz => by cases hz) ⟨by decide, by decide⟩ (n := 1) (by decide +kernel) rfl rfl dX3_specs_141 (fun r30 μ31 hr32 => r_k3 ?_)
  refine r_pop h dX3_specs_144 (iv_cat _) ?_
  exact c_vret h hc rfl dX3_specs_145
def c_X3_specs (μ : MEM) (a0 : Int) : Option zc_O := ck (zt [3] (μ a0 (-1)) = true) (ck (zt [4] (μ (μ a0 3) (-1)) = true) (ck (zt [40] (μ (μ (μ a0 3) 3) (-1)) = true) (bc (b_lsize μ (μ (μ a0 3) 3)) (fun r4 μ5 => if r4 = 30 then (ck (1 ≤ μ5 0 1 ∧ (8 : Int) ≤ μ5 0 2) (nu (mnew μ5 22 0 8) (fun μ7 => ck (zt [3] (μ7 a0 (-1)) = true) (bc (c_X2_place μ7 a0) (fun r10 μ11 => ck (zt [22] (μ11 (μ5 0 0) (-1)) = true) (bc (b_finit μ11 (μ5 0 0) (-3) r10) (fun _ μ14 => ck (0 < (μ5 0 0)) (some (1, (μ5 0 0), μ14))))))))) else (ck (zt [3] (μ5 a0 (-1)) = true) (bc (c_X2_must μ5 a0 (-7)) (fun _ μ16 => ck (zt [3] (μ16 a0 (-1)) = true) (bc (c_X3_mustSpace μ16 a0) (fun _ μ18 => ck (1 ≤ μ18 0 1 ∧ (7 : Int) ≤ μ18 0 2) (nu (mnew μ18 8 0 7) (fun μ19 => ck (zt [3] (μ19 a0 (-1)) = true) (bc (c_X2_name μ19 a0) (fun r22 μ23 => ck (zt [8] (μ23 (μ18 0 0) (-1)) = true) (bc (c_X8_init μ23 (μ18 0 0) r22) (fun _ μ26 => ck (zt [3] (μ26 a0 (-1)) = true) (bc (c_X3_mustSpace μ26 a0) (fun _ μ28 => ck (zt [3] (μ28 a0 (-1)) = true) (bc (c_X2_takes μ28 a0 (-8)) (fun r30 μ31 => if r30 = 0 then (ck (zt [3] (μ31 a0 (-1)) = true) (bc (c_X2_takes μ31 a0 (-9)) (fun r34 μ35 => if r34 = 0 then (ck (zt [3] (μ35 a0 (-1)) = true) (bc (c_X3_content μ35 a0 (μ18 0 0)) (fun _ μ38 => c_X3_specs_94 μ38 a0 (μ18 0 0)))) else (ck (zt [8] (μ35 (μ18 0 0) (-1)) = true) (nu (mup μ35 (μ18 0 0) 1 1) (fun μ40 => c_X3_specs_94 μ40 a0 (μ18 0 0))))))) else (ck (zt [8] (μ31 (μ18 0 0) (-1)) = true) (nu (mup μ31 (μ18 0 0) 1 0) (fun μ43 => c_X3_specs_94 μ43 a0 (μ18 0 0)))))))))))))))))))))))
theorem u_X3_specs {G : zc_G} (μ : MEM) (a0 : Int) (o : zc_O) (hd : c_X3_specs μ a0 = some o) : zc_Met G yX3_specs cX3_specs 2 (Option.none : Option FieldType) 0 98 2050 μ [zc_rv G a0] o := by
  refine zc_intro hd (by decide) (by simp [lg_sl, zc_rv_cat, iv_cat, jv_cat]) (lv := [(0, zc_rv G a0)]) (by simp [lv_args, zc_rv_cat, iv_cat, jv_cat]) (fun C h hc => ?_)
  have h : zv_Ok C cX3_specs "TreePress$Parser" := h
  have hc : zc_C C G μ 2 (Option.none : Option FieldType) 0 98 2050 "specs" [] := hc
  have hN : ∀ i, i < 2 → i < zv_n C := fun i q => by rw [hc.2.1]; exact q
  unfold c_X3_specs
  refine c_aload_n (x := a0) h 0 dX3_specs_0 rfl rfl ?_
  refine r_ck (fun ht1 => ?_)
  refine c_getR (fin := true) h hc [3] 3 (zc_lk1 h q446) ht1 (by decide) dX3_specs_1 ?_
  refine r_ck (fun ht2 => ?_)
  refine c_getR (fin := true) h hc [4] 3 (zc_lk3 hc (O := "TreePress$Document") (n := "specs") (ds := "Ljava/util/ArrayList;") (host := "TreePress") (by decide)) ht2 (by decide) dX3_specs_4 ?_
  refine r_ck (fun ht3 => ?_)
  refine c_callV (x := (μ (μ a0 3) 3)) h hc (As := []) (fun o1 e1 => w_lsize _ (μ (μ a0 3) 3) o1 e1) [40] ht3 (by decide) q695 q343 (fun t ht => by cases List.mem_singleton.mp ht; exact q344) q345 q135 (by omega) (by omega) zc_s0 (by omega) (fun z hz => by cases hz) ⟨by decide, by decide⟩ (n := 0) (by decide +kernel) rfl rfl dX3_specs_7 (fun r4 μ5 hr6 => r_k1 ?_)
  refine r_bipush h dX3_specs_10 (by decide) ?_
  refine r_icmp_ne (x := r4) (y := 30) h hr6 (by decide) 29 dX3_specs_12 rfl ?_ ?_
  · refine c_newF h hc q650 q577 q153 dX3_specs_15 (fun _ μ7 he8 => ?_)
    refine r_dup h dX3_specs_18 (zc_rv_cat G _) ?_
    refine r_bipush h dX3_specs_19 (by decide) ?_
    refine c_aload_n (x := a0) h 0 dX3_specs_21 rfl rfl ?_
    refine r_ck (fun ht9 => ?_)
    refine c_callU (x := a0) (xm := ⟨"TreePress$Parser", "place", "()I"⟩) (owner := "TreePress$Reader") h hc (As := []) (fun o1 e1 => u_X2_place _ a0 o1 e1) [3] ht9 (by decide) q483 q484 (va_Decl.of (h.2.2.2.2 _ q487) (h.2.2.2.2 _ q488)) ⟨by decide, by decide⟩ q487 (fun t ht => by cases List.mem_singleton.mp ht; exact q486) q488 q137 (by omega) (by omega) (zc_sc (iv_cat _) (zc_sc (zc_rv_cat G _) (zc_sc (zc_rv_cat G _) zc_s0))) (by omega) (fun z hz => by cases hz) (n := 0) (by decide +kernel) rfl rfl dX3_specs_22 (fun r10 μ11 hr12 => r_k1 ?_)
    refine r_ck (fun ht13 => ?_)
    refine c_callI (x := (μ5 0 0)) h hc (As := [iv (-3), iv r10]) (fun o1 e1 => w_finit _ (μ5 0 0) (-3) r10 (by decide) hr12 o1 e1) [22] ht13 (by decide) q651 q616 rfl q617 q153 (by omega) (by omega) (zc_sc (zc_rv_cat G _) zc_s0) (by omega) (fun z hz => by cases hz) ⟨by decide, by decide⟩ (n := 2) (by decide +kernel) rfl rfl dX3_specs_25 (fun _ μ14 _ => r_k0 ?_)
    exact c_athrow h hc (fun z hz => by cases hz) dX3_specs_28
  · refine c_aload_n (x := a0) h 0 dX3_specs_29 rfl rfl ?_
    refine c_ldcs (tx := "<!ELEMENT") h hc 7 (by decide) (-7) rfl (by decide) dX3_specs_30 ?_
    refine r_ck (fun ht15 => ?_)
    refine c_callU (x := a0) (xm := ⟨"TreePress$Parser", "must", "(Ljava/lang/String;)V"⟩) (owner := "TreePress$Reader") h hc (As := [zc_rv G (-7)]) (fun o1 e1 => u_X2_must _ a0 (-7) o1 e1) [3] ht15 (by decide) q563 q564 (va_Decl.of (h.2.2.2.2 _ q567) (h.2.2.2.2 _ q568)) ⟨by decide, by decide⟩ q567 (fun t ht => by cases List.mem_singleton.mp ht; exact q566) q568 q137 (by omega) (by omega) zc_s0 (by omega) (fun z hz => by cases hz) (n := 1) (by decide +kernel) rfl rfl dX3_specs_32 (fun _ μ16 _ => r_k0 ?_)
    refine c_aload_n (x := a0) h 0 dX3_specs_35 rfl rfl ?_
    refine r_ck (fun ht17 => ?_)
    refine c_callV (x := a0) h hc (As := []) (fun o1 e1 => u_X3_mustSpace _ a0 o1 e1) [3] ht17 (by decide) q658 q660 (fun t ht => by cases List.mem_singleton.mp ht; exact qs9) q661 q138 (by omega) (by omega) zc_s0 (by omega) (fun z hz => by cases hz) ⟨by decide, by decide⟩ (n := 0) (by decide +kernel) rfl rfl dX3_specs_36 (fun _ μ18 _ => r_k0 ?_)
    refine c_new h hc 8 (N := 7) rfl (by decide) q696 q697 q154 dX3_specs_39 (fun _ μ19 he20 => ?_)
    refine r_dup h dX3_specs_42 (zc_rv_cat G _) ?_
    refine c_aload_n (x := a0) h 0 dX3_specs_43 rfl rfl ?_
    refine r_ck (fun ht21 => ?_)
    refine c_callU (x := a0) (xm := ⟨"TreePress$Parser", "name", "()[B"⟩) (owner := "TreePress$Reader") h hc (As := []) (fun o1 e1 => u_X2_name _ a0 o1 e1) [3] ht21 (by decide) q662 q663 (va_Decl.of (h.2.2.2.2 _ q666) (h.2.2.2.2 _ q667)) ⟨by decide, by decide⟩ q666 (fun t ht => by cases List.mem_singleton.mp ht; exact q665) q667 q137 (by omega) (by omega) (zc_sc (zc_rv_cat G _) (zc_sc (zc_rv_cat G _) zc_s0)) (by omega) (fun z hz => by cases hz) (n := 0) (by decide +kernel) rfl rfl dX3_specs_44 (fun r22 μ23 hr24 => r_k4 ?_)
    refine r_ck (fun ht25 => ?_)
    refine c_callI (x := (μ18 0 0)) h hc (As := [zc_rv G r22]) (fun o1 e1 => u_X8_init _ (μ18 0 0) r22 o1 e1) [8] ht25 (by decide) q698 q699 rfl q700 q154 (by omega) (by omega) (zc_sc (zc_rv_cat G _) zc_s0) (by omega) (fun z hz => by cases hz) ⟨by decide, by decide⟩ (n := 1) (by decide +kernel) rfl rfl dX3_specs_47 (fun _ μ26 _ => r_k0 ?_)
    refine c_astore_n (i := 1) (lv' := [(1, zc_rv G (μ18 0 0)), (0, zc_rv G a0)]) h dX3_specs_50 rfl (hN _ (by decide)) (by simp [zc_rv_cat]) ?_
    refine c_aload_n (x := a0) h 1 dX3_specs_51 rfl rfl ?_
    refine r_ck (fun ht27 => ?_)
    refine c_callV (x := a0) h hc (As := []) (fun o1 e1 => u_X3_mustSpace _ a0 o1 e1) [3] ht27 (by decide) q658 q660 (fun t ht => by cases List.mem_singleton.mp ht; exact qs9) q661 q138 (by omega) (by omega) zc_s0 (by omega) (fun z hz => by cases hz) ⟨by decide, by decide⟩ (n := 0) (by decide +kernel) rfl rfl dX3_specs_52 (fun _ μ28 _ => r_k0 ?_)
    refine c_aload_n (x := a0) h 1 dX3_specs_55 rfl rfl ?_
    refine c_ldcs (tx := "EMPTY") h hc 8 (by decide) (-8) rfl (by decide) dX3_specs_56 ?_
    refine r_ck (fun ht29 => ?_)
    refine c_callU (x := a0) (xm := ⟨"TreePress$Parser", "takes", "(Ljava/lang/String;)Z"⟩) (owner := "TreePress$Reader") h hc (As := [zc_rv G (-8)]) (fun o1 e1 => u_X2_takes _ a0 (-8) o1 e1) [3] ht29 (by decide) q735 q736 (va_Decl.of (h.2.2.2.2 _ q570) (h.2.2.2.2 _ q574)) ⟨by decide, by decide⟩ q570 (fun t ht => by cases List.mem_singleton.mp ht; exact q738) q574 q137 (by omega) (by omega) zc_s0 (by omega) (fun z hz => by cases hz) (n := 1) (by decide +kernel) rfl rfl dX3_specs_58 (fun r30 μ31 hr32 => r_k3 ?_)
    refine r_if_eq (x := r30) h hr32.r 72 dX3_specs_61 rfl ?_ ?_
    · refine c_aload_n (x := a0) h 1 dX3_specs_72 rfl rfl ?_
      refine c_ldcs (tx := "ANY") h hc 9 (by decide) (-9) rfl (by decide) dX3_specs_73 ?_
      refine r_ck (fun ht33 => ?_)
      refine c_callU (x := a0) (xm := ⟨"TreePress$Parser", "takes", "(Ljava/lang/String;)Z"⟩) (owner := "TreePress$Reader") h hc (As := [zc_rv G (-9)]) (fun o1 e1 => u_X2_takes _ a0 (-9) o1 e1) [3] ht33 (by decide) q735 q736 (va_Decl.of (h.2.2.2.2 _ q570) (h.2.2.2.2 _ q574)) ⟨by decide, by decide⟩ q570 (fun t ht => by cases List.mem_singleton.mp ht; exact q738) q574 q137 (by omega) (by omega) zc_s0 (by omega) (fun z hz => by cases hz) (n := 1) (by decide +kernel) rfl rfl dX3_specs_75 (fun r34 μ35 hr36 => r_k3 ?_)
      refine r_if_eq (x := r34) h hr36.r 89 dX3_specs_78 rfl ?_ ?_
      · refine c_aload_n (x := a0) h 1 dX3_specs_89 rfl rfl ?_
        refine c_aload_n (x := (μ18 0 0)) h 0 dX3_specs_90 rfl rfl ?_
        refine r_ck (fun ht37 => ?_)
        refine c_callV (x := a0) h hc (As := [zc_rv G (μ18 0 0)]) (fun o1 e1 => u_X3_content _ a0 (μ18 0 0) o1 e1) [3] ht37 (by decide) q740 q742 (fun t ht => by cases List.mem_singleton.mp ht; exact qs11) q743 q138 (by omega) (by omega) zc_s0 (by omega) (fun z hz => by cases hz) ⟨by decide, by decide⟩ (n := 1) (by decide +kernel) rfl rfl dX3_specs_91 (fun _ μ38 _ => r_k0 ?_)
        exact r_lv [1, 0] rfl (u_X3_specs_94 h hc _ a0 (μ18 0 0))
      · refine c_aload_n (x := (μ18 0 0)) h 0 dX3_specs_81 rfl rfl ?_
        refine r_iconst h dX3_specs_82 ?_
        refine r_ck (fun ht39 => ?_)
        refine c_putI (x := (μ18 0 0)) (y := 1) h hc [8] 1 false (zc_lk3 hc (O := "TreePress$Spec") (n := "kind") (ds := "I") (host := "TreePress") (by decide)) ht39 (by decide) (Or.inl rfl) (by decide) dX3_specs_83 (fun μ40 he41 => ?_)
        refine r_goto h 94 dX3_specs_86 rfl ?_
        exact r_lv [1, 0] rfl (u_X3_specs_94 h hc _ a0 (μ18 0 0))
    · refine c_aload_n (x := (μ18 0 0)) h 0 dX3_specs_64 rfl rfl ?_
      refine r_iconst h dX3_specs_65 ?_
      refine r_ck (fun ht42 => ?_)
      refine c_putI (x := (μ18 0 0)) (y := 0) h hc [8] 1 false (zc_lk3 hc (O := "TreePress$Spec") (n := "kind") (ds := "I") (host := "TreePress") (by decide)) ht42 (by decide) (Or.inl rfl) (by decide) dX3_specs_66 (fun μ43 he44 => ?_)
      refine r_goto h 94 dX3_specs_69 rfl ?_
      exact r_lv [1, 0] rfl (u_X3_specs_94 h hc _ a0 (μ18 0 0))
theorem dX3_type_0 : decode cX3_type 0 = .ok (.aload_n 0, 1) := by decide +kernel
theorem dX3_type_1 : decode cX3_type 1 = .ok (.ldc 255, 2) := by decide +kernel
theorem dX3_type_3 : decode cX3_type 3 = .ok (.invokevirtual 140, 3) := by decide +kernel
theorem dX3_type_6 : decode cX3_type 6 = .ok (.ifCond .eq 11, 3) := by decide +kernel
theorem dX3_type_9 : decode cX3_type 9 = .ok (.aload_n 1, 1) := by decide +kernel
theorem dX3_type_10 : decode cX3_type 10 = .ok (.iconst 0, 1) := by decide +kernel
theorem dX3_type_11 : decode cX3_type 11 = .ok (.putfield 257, 3) := by decide +kernel
theorem dX3_type_14 : decode cX3_type 14 = .ok (.goto 108, 3) := by decide +kernel
theorem dX3_type_17 : decode cX3_type 17 = .ok (.aload_n 0, 1) := by decide +kernel
theorem dX3_type_18 : decode cX3_type 18 = .ok (.ldc_w 259, 3) := by decide +kernel
theorem dX3_type_21 : decode cX3_type 21 = .ok (.invokevirtual 140, 3) := by decide +kernel
theorem dX3_type_24 : decode cX3_type 24 = .ok (.ifCond .eq 11, 3) := by decide +kernel
theorem dX3_type_27 : decode cX3_type 27 = .ok (.aload_n 1, 1) := by decide +kernel
theorem dX3_type_28 : decode cX3_type 28 = .ok (.iconst 1, 1) := by decide +kernel
theorem dX3_type_29 : decode cX3_type 29 = .ok (.putfield 257, 3) := by decide +kernel
theorem dX3_type_32 : decode cX3_type 32 = .ok (.goto 90, 3) := by decide +kernel
theorem dX3_type_35 : decode cX3_type 35 = .ok (.aload_n 0, 1) := by decide +kernel
theorem dX3_type_36 : decode cX3_type 36 = .ok (.ldc 159, 2) := by decide +kernel
theorem dX3_type_38 : decode cX3_type 38 = .ok (.invokevirtual 57, 3) := by decide +kernel
theorem dX3_type_41 : decode cX3_type 41 = .ok (.aload_n 1, 1) := by decide +kernel
theorem dX3_type_42 : decode cX3_type 42 = .ok (.iconst 2, 1) := by decide +kernel
theorem dX3_type_43 : decode cX3_type 43 = .ok (.putfield 257, 3) := by decide +kernel
theorem dX3_type_46 : decode cX3_type 46 = .ok (.iconst 1, 1) := by decide +kernel
theorem dX3_type_47 : decode cX3_type 47 = .ok (.istore_n 2, 1) := by decide +kernel
theorem dX3_type_48 : decode cX3_type 48 = .ok (.iload_n 2, 1) := by decide +kernel
theorem dX3_type_49 : decode cX3_type 49 = .ok (.ifCond .eq 67, 3) := by decide +kernel
theorem dX3_type_52 : decode cX3_type 52 = .ok (.aload_n 0, 1) := by decide +kernel
theorem dX3_type_53 : decode cX3_type 53 = .ok (.invokevirtual 46, 3) := by decide +kernel
theorem dX3_type_56 : decode cX3_type 56 = .ok (.pop, 1) := by decide +kernel
theorem dX3_type_57 : decode cX3_type 57 = .ok (.aload_n 0, 1) := by decide +kernel
theorem dX3_type_58 : decode cX3_type 58 = .ok (.invokevirtual 31, 3) := by decide +kernel
theorem dX3_type_61 : decode cX3_type 61 = .ok (.istore_n 3, 1) := by decide +kernel
theorem dX3_type_62 : decode cX3_type 62 = .ok (.aload_n 0, 1) := by decide +kernel
theorem dX3_type_63 : decode cX3_type 63 = .ok (.invokevirtual 261, 3) := by decide +kernel
theorem dX3_type_66 : decode cX3_type 66 = .ok (.astore 4, 2) := by decide +kernel
theorem dX3_type_68 : decode cX3_type 68 = .ok (.aload_n 1, 1) := by decide +kernel
theorem dX3_type_69 : decode cX3_type 69 = .ok (.getfield 264, 3) := by decide +kernel
theorem dX3_type_72 : decode cX3_type 72 = .ok (.invokevirtual 94, 3) := by decide +kernel
theorem dX3_type_75 : decode cX3_type 75 = .ok (.bipush 8, 2) := by decide +kernel
theorem dX3_type_77 : decode cX3_type 77 = .ok (.if_icmp .ne 14, 3) := by decide +kernel
theorem dX3_type_80 : decode cX3_type 80 = .ok (.new 50, 3) := by decide +kernel
theorem dX3_type_83 : decode cX3_type 83 = .ok (.dup, 1) := by decide +kernel
theorem dX3_type_84 : decode cX3_type 84 = .ok (.bipush (-3), 2) := by decide +kernel
theorem dX3_type_86 : decode cX3_type 86 = .ok (.iload_n 3, 1) := by decide +kernel
theorem dX3_type_87 : decode cX3_type 87 = .ok (.invokespecial 52, 3) := by decide +kernel
theorem dX3_type_90 : decode cX3_type 90 = .ok (.athrow, 1) := by decide +kernel
theorem dX3_type_91 : decode cX3_type 91 = .ok (.aload_n 1, 1) := by decide +kernel
theorem dX3_type_92 : decode cX3_type 92 = .ok (.getfield 264, 3) := by decide +kernel
theorem dX3_type_95 : decode cX3_type 95 = .ok (.aload 4, 2) := by decide +kernel
theorem dX3_type_97 : decode cX3_type 97 = .ok (.invokevirtual 152, 3) := by decide +kernel
theorem dX3_type_100 : decode cX3_type 100 = .ok (.pop, 1) := by decide +kernel
theorem dX3_type_101 : decode cX3_type 101 = .ok (.aload_n 0, 1) := by decide +kernel
theorem dX3_type_102 : decode cX3_type 102 = .ok (.invokevirtual 46, 3) := by decide +kernel
theorem dX3_type_105 : decode cX3_type 105 = .ok (.pop, 1) := by decide +kernel
theorem dX3_type_106 : decode cX3_type 106 = .ok (.aload_n 0, 1) := by decide +kernel
theorem dX3_type_107 : decode cX3_type 107 = .ok (.ldc 186, 2) := by decide +kernel
theorem dX3_type_109 : decode cX3_type 109 = .ok (.invokevirtual 140, 3) := by decide +kernel
theorem dX3_type_112 : decode cX3_type 112 = .ok (.istore_n 2, 1) := by decide +kernel
theorem dX3_type_113 : decode cX3_type 113 = .ok (.goto (-65), 3) := by decide +kernel
theorem dX3_type_116 : decode cX3_type 116 = .ok (.aload_n 0, 1) := by decide +kernel
theorem dX3_type_117 : decode cX3_type 117 = .ok (.ldc 192, 2) := by decide +kernel
theorem dX3_type_119 : decode cX3_type 119 = .ok (.invokevirtual 57, 3) := by decide +kernel
theorem dX3_type_122 : decode cX3_type 122 = .ok (.return_, 1) := by decide +kernel
def c_X3_type_48 : Nat → MEM → Int → Int → Int → Option zc_O
  | 0, _, _, _, _ => none
  | n + 1, μ, x0, x1, x2 => if x2 = 0 then (ck (zt [3] (μ x0 (-1)) = true) (bc (c_X2_must μ x0 (-12)) (fun _ μ2 => some (0, 0, μ2)))) else (ck (zt [3] (μ x0 (-1)) = true) (bc (c_X3_space μ x0) (fun r4 μ5 => ck (zt [3] (μ5 x0 (-1)) = true) (bc (c_X2_place μ5 x0) (fun r8 μ9 => ck (zt [3] (μ9 x0 (-1)) = true) (bc (c_X2_token μ9 x0) (fun r12 μ13 => ck (zt [10] (μ13 x1 (-1)) = true) (ck (zt [40] (μ13 (μ13 x1 5) (-1)) = true) (bc (b_lsize μ13 (μ13 x1 5)) (fun r17 μ18 => if r17 = 8 then (ck (1 ≤ μ18 0 1 ∧ (8 : Int) ≤ μ18 0 2) (nu (mnew μ18 22 0 8) (fun μ20 => bc (b_finit μ20 (μ18 0 0) (-3) r8) (fun _ μ22 => ck (0 < (μ18 0 0)) (some (1, (μ18 0 0), μ22)))))) else (ck (zt [10] (μ18 x1 (-1)) = true) (ck (zt [40] (μ18 (μ18 x1 5) (-1)) = true) (bc (b_ladd μ18 (μ18 x1 5) r12) (fun r25 μ26 => ck (zt [3] (μ26 x0 (-1)) = true) (bc (c_X3_space μ26 x0) (fun r29 μ30 => ck (zt [3] (μ30 x0 (-1)) = true) (bc (c_X2_takes μ30 x0 (-13)) (fun r33 μ34 => c_X3_type_48 n μ34 x0 x1 r33))))))))))))))))))
theorem u_X3_type_48 {C : zv_Cx zc_O} {G : zc_G} {μ0 : MEM} (h : zv_Ok C cX3_type "TreePress$Parser") (hc : zc_C C G μ0 5 (Option.none : Option FieldType) 0 8 163 "type" []) : ∀ (n : Nat) (μ : MEM) (x0 x1 x2 : Int), isB x2 → VV C (c_X3_type_48 n μ x0 x1 x2) μ [(0, zc_rv G x0), (1, zc_rv G x1), (2, iv x2)] [] 48 := by
  have hN : ∀ i, i < 5 → i < zv_n C := fun i q => by rw [hc.2.1]; exact q
  intro n
  induction n with
  | zero => intros; exact r_none
  | succ n ih =>
    intro μ x0 x1 x2 hx2
    rw [c_X3_type_48]
    refine r_iload_n h 2 dX3_type_48 rfl rfl ?_
    refine r_if_eq (x := x2) h hx2.r 116 dX3_type_49 rfl ?_ ?_
    · refine c_aload_n (x := x0) h 0 dX3_type_116 rfl rfl ?_
      refine c_ldcs (tx := ")") h hc 12 (by decide) (-12) rfl (by decide) dX3_type_117 ?_
      refine r_ck (fun ht1 => ?_)
      refine c_callU (x := x0) (xm := ⟨"TreePress$Parser", "must", "(Ljava/lang/String;)V"⟩) (owner := "TreePress$Reader") h hc (As := [zc_rv G (-12)]) (fun o1 e1 => u_X2_must _ x0 (-12) o1 e1) [3] ht1 (by decide) q563 q564 (va_Decl.of (h.2.2.2.2 _ q567) (h.2.2.2.2 _ q568)) ⟨by decide, by decide⟩ q567 (fun t ht => by cases List.mem_singleton.mp ht; exact q566) q568 q137 (by omega) (by omega) zc_s0 (by omega) (fun z hz => by cases hz) (n := 1) (by decide +kernel) rfl rfl dX3_type_119 (fun _ μ2 _ => r_k0 ?_)
      exact c_vret h hc rfl dX3_type_122
    · refine c_aload_n (x := x0) h 0 dX3_type_52 rfl rfl ?_
      refine r_ck (fun ht3 => ?_)
      refine c_callV (x := x0) h hc (As := []) (fun o1 e1 => u_X3_space _ x0 o1 e1) [3] ht3 (by decide) q479 q481 (fun t ht => by cases List.mem_singleton.mp ht; exact qs5) q482 q138 (by omega) (by omega) zc_s0 (by omega) (fun z hz => by cases hz) ⟨by decide, by decide⟩ (n := 0) (by decide +kernel) rfl rfl dX3_type_53 (fun r4 μ5 hr6 => r_k3 ?_)
      refine r_pop h dX3_type_56 (iv_cat _) ?_
      refine c_aload_n (x := x0) h 0 dX3_type_57 rfl rfl ?_
      refine r_ck (fun ht7 => ?_)
      refine c_callU (x := x0) (xm := ⟨"TreePress$Parser", "place", "()I"⟩) (owner := "TreePress$Reader") h hc (As := []) (fun o1 e1 => u_X2_place _ x0 o1 e1) [3] ht7 (by decide) q483 q484 (va_Decl.of (h.2.2.2.2 _ q487) (h.2.2.2.2 _ q488)) ⟨by decide, by decide⟩ q487 (fun t ht => by cases List.mem_singleton.mp ht; exact q486) q488 q137 (by omega) (by omega) zc_s0 (by omega) (fun z hz => by cases hz) (n := 0) (by decide +kernel) rfl rfl dX3_type_58 (fun r8 μ9 hr10 => r_k1 ?_)
      refine r_istore_n (i := 3) (lv' := [(3, iv r8), (0, zc_rv G x0), (1, zc_rv G x1), (2, iv x2)]) h dX3_type_61 rfl (hN _ (by decide)) rfl ?_
      refine c_aload_n (x := x0) h 1 dX3_type_62 rfl rfl ?_
      refine r_ck (fun ht11 => ?_)
      refine c_callU (x := x0) (xm := ⟨"TreePress$Parser", "token", "()[B"⟩) (owner := "TreePress$Reader") h hc (As := []) (fun o1 e1 => u_X2_token _ x0 o1 e1) [3] ht11 (by decide) q871 q872 (va_Decl.of (h.2.2.2.2 _ q673) (h.2.2.2.2 _ q677)) ⟨by decide, by decide⟩ q673 (fun t ht => by cases List.mem_singleton.mp ht; exact q874) q677 q137 (by omega) (by omega) zc_s0 (by omega) (fun z hz => by cases hz) (n := 0) (by decide +kernel) rfl rfl dX3_type_63 (fun r12 μ13 hr14 => r_k4 ?_)
      refine c_astore (lv' := [(4, zc_rv G r12), (3, iv r8), (0, zc_rv G x0), (1, zc_rv G x1), (2, iv x2)]) h dX3_type_66 (hN _ (by decide)) rfl ?_
      refine c_aload_n (x := x1) h 3 dX3_type_68 rfl rfl ?_
      refine r_ck (fun ht15 => ?_)
      refine c_getR (fin := true) h hc [10] 5 (zc_lk3 hc (O := "TreePress$Rule") (n := "tokens") (ds := "Ljava/util/ArrayList;") (host := "TreePress") (by decide)) ht15 (by decide) dX3_type_69 ?_
      refine r_ck (fun ht16 => ?_)
      refine c_callV (x := (μ13 x1 5)) h hc (As := []) (fun o1 e1 => w_lsize _ (μ13 x1 5) o1 e1) [40] ht16 (by decide) q695 q343 (fun t ht => by cases List.mem_singleton.mp ht; exact q344) q345 q135 (by omega) (by omega) zc_s0 (by omega) (fun z hz => by cases hz) ⟨by decide, by decide⟩ (n := 0) (by decide +kernel) rfl rfl dX3_type_72 (fun r17 μ18 hr19 => r_k1 ?_)
      refine r_bipush h dX3_type_75 (by decide) ?_
      refine r_icmp_ne (x := r17) (y := 8) h hr19 (by decide) 91 dX3_type_77 rfl ?_ ?_
      · refine c_newF h hc q650 q577 q153 dX3_type_80 (fun _ μ20 he21 => ?_)
        refine r_dup h dX3_type_83 (zc_rv_cat G _) ?_
        refine r_bipush h dX3_type_84 (by decide) ?_
        refine r_iload_n h 1 dX3_type_86 rfl rfl ?_
        refine c_callI (x := (μ18 0 0)) h hc (As := [iv (-3), iv r8]) (fun o1 e1 => w_finit _ (μ18 0 0) (-3) r8 (by decide) hr10 o1 e1) [22] (zt_nw he21) (by decide) q651 q616 rfl q617 q153 (by omega) (by omega) (zc_sc (zc_rv_cat G _) zc_s0) (by omega) (fun z hz => by cases hz) ⟨by decide, by decide⟩ (n := 2) (by decide +kernel) rfl rfl dX3_type_87 (fun _ μ22 _ => r_k0 ?_)
        exact c_athrow h hc (fun z hz => by cases hz) dX3_type_90
      · refine c_aload_n (x := x1) h 3 dX3_type_91 rfl rfl ?_
        refine r_ck (fun ht23 => ?_)
        refine c_getR (fin := true) h hc [10] 5 (zc_lk3 hc (O := "TreePress$Rule") (n := "tokens") (ds := "Ljava/util/ArrayList;") (host := "TreePress") (by decide)) ht23 (by decide) dX3_type_92 ?_
        refine c_aload (x := r12) h 0 dX3_type_95 rfl ?_
        refine r_ck (fun ht24 => ?_)
        refine c_callV (x := (μ18 x1 5)) h hc (As := [zc_rv G r12]) (fun o1 e1 => w_ladd _ (μ18 x1 5) r12 o1 e1) [40] ht24 (by decide) q765 q347 (fun t ht => by cases List.mem_singleton.mp ht; exact q348) q349 q135 (by omega) (by omega) zc_s0 (by omega) (fun z hz => by cases hz) ⟨by decide, by decide⟩ (n := 1) (by decide +kernel) rfl rfl dX3_type_97 (fun r25 μ26 hr27 => r_k3 ?_)
        refine r_pop h dX3_type_100 (iv_cat _) ?_
        refine c_aload_n (x := x0) h 2 dX3_type_101 rfl rfl ?_
        refine r_ck (fun ht28 => ?_)
        refine c_callV (x := x0) h hc (As := []) (fun o1 e1 => u_X3_space _ x0 o1 e1) [3] ht28 (by decide) q479 q481 (fun t ht => by cases List.mem_singleton.mp ht; exact qs5) q482 q138 (by omega) (by omega) zc_s0 (by omega) (fun z hz => by cases hz) ⟨by decide, by decide⟩ (n := 0) (by decide +kernel) rfl rfl dX3_type_102 (fun r29 μ30 hr31 => r_k3 ?_)
        refine r_pop h dX3_type_105 (iv_cat _) ?_
        refine c_aload_n (x := x0) h 2 dX3_type_106 rfl rfl ?_
        refine c_ldcs (tx := "|") h hc 13 (by decide) (-13) rfl (by decide) dX3_type_107 ?_
        refine r_ck (fun ht32 => ?_)
        refine c_callU (x := x0) (xm := ⟨"TreePress$Parser", "takes", "(Ljava/lang/String;)Z"⟩) (owner := "TreePress$Reader") h hc (As := [zc_rv G (-13)]) (fun o1 e1 => u_X2_takes _ x0 (-13) o1 e1) [3] ht32 (by decide) q735 q736 (va_Decl.of (h.2.2.2.2 _ q570) (h.2.2.2.2 _ q574)) ⟨by decide, by decide⟩ q570 (fun t ht => by cases List.mem_singleton.mp ht; exact q738) q574 q137 (by omega) (by omega) zc_s0 (by omega) (fun z hz => by cases hz) (n := 1) (by decide +kernel) rfl rfl dX3_type_109 (fun r33 μ34 hr35 => r_k3 ?_)
        refine r_istore_n (i := 2) (lv' := [(2, iv r33), (4, zc_rv G r12), (3, iv r8), (0, zc_rv G x0), (1, zc_rv G x1)]) h dX3_type_112 rfl (hN _ (by decide)) (by simp [zc_rv_cat]) ?_
        refine r_goto h 48 dX3_type_113 rfl ?_
        exact r_lv [3, 4, 0] rfl (ih _ x0 x1 r33 hr35)
def c_X3_type (μ : MEM) (a0 a1 : Int) : Option zc_O := ck (zt [3] (μ a0 (-1)) = true) (bc (c_X2_takes μ a0 (-16)) (fun r2 μ3 => if r2 = 0 then (ck (zt [3] (μ3 a0 (-1)) = true) (bc (c_X2_takes μ3 a0 (-17)) (fun r6 μ7 => if r6 = 0 then (ck (zt [3] (μ7 a0 (-1)) = true) (bc (c_X2_must μ7 a0 (-10)) (fun _ μ10 => ck (zt [10] (μ10 a1 (-1)) = true) (nu (mup μ10 a1 3 2) (fun μ12 => c_X3_type_48 zF μ12 a0 a1 1))))) else (ck (zt [10] (μ7 a1 (-1)) = true) (nu (mup μ7 a1 3 1) (fun μ15 => some (0, 0, μ15))))))) else (ck (zt [10] (μ3 a1 (-1)) = true) (nu (mup μ3 a1 3 0) (fun μ18 => some (0, 0, μ18))))))
theorem u_X3_type {G : zc_G} (μ : MEM) (a0 a1 : Int) (o : zc_O) (hd : c_X3_type μ a0 a1 = some o) : zc_Met G yX3_type cX3_type 5 (Option.none : Option FieldType) 0 8 163 μ [zc_rv G a0, zc_rv G a1] o := by
  refine zc_intro hd (by decide) (by simp [lg_sl, zc_rv_cat, iv_cat, jv_cat]) (lv := [(0, zc_rv G a0), (1, zc_rv G a1)]) (by simp [lv_args, zc_rv_cat, iv_cat, jv_cat]) (fun C h hc => ?_)
  have h : zv_Ok C cX3_type "TreePress$Parser" := h
  have hc : zc_C C G μ 5 (Option.none : Option FieldType) 0 8 163 "type" [] := hc
  have hN : ∀ i, i < 5 → i < zv_n C := fun i q => by rw [hc.2.1]; exact q
  unfold c_X3_type
  refine c_aload_n (x := a0) h 0 dX3_type_0 rfl rfl ?_
  refine c_ldcs (tx := "CDATA") h hc 16 (by decide) (-16) rfl (by decide) dX3_type_1 ?_
  refine r_ck (fun ht1 => ?_)
  refine c_callU (x := a0) (xm := ⟨"TreePress$Parser", "takes", "(Ljava/lang/String;)Z"⟩) (owner := "TreePress$Reader") h hc (As := [zc_rv G (-16)]) (fun o1 e1 => u_X2_takes _ a0 (-16) o1 e1) [3] ht1 (by decide) q735 q736 (va_Decl.of (h.2.2.2.2 _ q570) (h.2.2.2.2 _ q574)) ⟨by decide, by decide⟩ q570 (fun t ht => by cases List.mem_singleton.mp ht; exact q738) q574 q137 (by omega) (by omega) zc_s0 (by omega) (fun z hz => by cases hz) (n := 1) (by decide +kernel) rfl rfl dX3_type_3 (fun r2 μ3 hr4 => r_k3 ?_)
  refine r_if_eq (x := r2) h hr4.r 17 dX3_type_6 rfl ?_ ?_
  · refine c_aload_n (x := a0) h 0 dX3_type_17 rfl rfl ?_
    refine c_ldcws (tx := "ID") h hc 17 (by decide) (-17) rfl (by decide) dX3_type_18 ?_
    refine r_ck (fun ht5 => ?_)
    refine c_callU (x := a0) (xm := ⟨"TreePress$Parser", "takes", "(Ljava/lang/String;)Z"⟩) (owner := "TreePress$Reader") h hc (As := [zc_rv G (-17)]) (fun o1 e1 => u_X2_takes _ a0 (-17) o1 e1) [3] ht5 (by decide) q735 q736 (va_Decl.of (h.2.2.2.2 _ q570) (h.2.2.2.2 _ q574)) ⟨by decide, by decide⟩ q570 (fun t ht => by cases List.mem_singleton.mp ht; exact q738) q574 q137 (by omega) (by omega) zc_s0 (by omega) (fun z hz => by cases hz) (n := 1) (by decide +kernel) rfl rfl dX3_type_21 (fun r6 μ7 hr8 => r_k3 ?_)
    refine r_if_eq (x := r6) h hr8.r 35 dX3_type_24 rfl ?_ ?_
    · refine c_aload_n (x := a0) h 0 dX3_type_35 rfl rfl ?_
      refine c_ldcs (tx := "(") h hc 10 (by decide) (-10) rfl (by decide) dX3_type_36 ?_
      refine r_ck (fun ht9 => ?_)
      refine c_callU (x := a0) (xm := ⟨"TreePress$Parser", "must", "(Ljava/lang/String;)V"⟩) (owner := "TreePress$Reader") h hc (As := [zc_rv G (-10)]) (fun o1 e1 => u_X2_must _ a0 (-10) o1 e1) [3] ht9 (by decide) q563 q564 (va_Decl.of (h.2.2.2.2 _ q567) (h.2.2.2.2 _ q568)) ⟨by decide, by decide⟩ q567 (fun t ht => by cases List.mem_singleton.mp ht; exact q566) q568 q137 (by omega) (by omega) zc_s0 (by omega) (fun z hz => by cases hz) (n := 1) (by decide +kernel) rfl rfl dX3_type_38 (fun _ μ10 _ => r_k0 ?_)
      refine c_aload_n (x := a1) h 1 dX3_type_41 rfl rfl ?_
      refine r_iconst h dX3_type_42 ?_
      refine r_ck (fun ht11 => ?_)
      refine c_putI (x := a1) (y := 2) h hc [10] 3 false (zc_lk3 hc (O := "TreePress$Rule") (n := "type") (ds := "I") (host := "TreePress") (by decide)) ht11 (by decide) (Or.inl rfl) (by decide) dX3_type_43 (fun μ12 he13 => ?_)
      refine r_iconst h dX3_type_46 ?_
      refine r_istore_n (i := 2) (lv' := [(2, iv 1), (0, zc_rv G a0), (1, zc_rv G a1)]) h dX3_type_47 rfl (hN _ (by decide)) (by simp [zc_rv_cat]) ?_
      exact r_lv [1, 2, 0] rfl (u_X3_type_48 h hc zF _ a0 a1 1 (by decide))
    · refine c_aload_n (x := a1) h 1 dX3_type_27 rfl rfl ?_
      refine r_iconst h dX3_type_28 ?_
      refine r_ck (fun ht14 => ?_)
      refine c_putI (x := a1) (y := 1) h hc [10] 3 false (zc_lk3 hc (O := "TreePress$Rule") (n := "type") (ds := "I") (host := "TreePress") (by decide)) ht14 (by decide) (Or.inl rfl) (by decide) dX3_type_29 (fun μ15 he16 => ?_)
      refine r_goto h 122 dX3_type_32 rfl ?_
      exact c_vret h hc rfl dX3_type_122
  · refine c_aload_n (x := a1) h 1 dX3_type_9 rfl rfl ?_
    refine r_iconst h dX3_type_10 ?_
    refine r_ck (fun ht17 => ?_)
    refine c_putI (x := a1) (y := 0) h hc [10] 3 false (zc_lk3 hc (O := "TreePress$Rule") (n := "type") (ds := "I") (host := "TreePress") (by decide)) ht17 (by decide) (Or.inl rfl) (by decide) dX3_type_11 (fun μ18 he19 => ?_)
    refine r_goto h 122 dX3_type_14 rfl ?_
    exact c_vret h hc rfl dX3_type_122
theorem dX3_how_0 : decode cX3_how 0 = .ok (.aload_n 0, 1) := by decide +kernel
theorem dX3_how_1 : decode cX3_how 1 = .ok (.ldc_w 267, 3) := by decide +kernel
theorem dX3_how_4 : decode cX3_how 4 = .ok (.invokevirtual 140, 3) := by decide +kernel
theorem dX3_how_7 : decode cX3_how 7 = .ok (.ifCond .eq 11, 3) := by decide +kernel
theorem dX3_how_10 : decode cX3_how 10 = .ok (.aload_n 1, 1) := by decide +kernel
theorem dX3_how_11 : decode cX3_how 11 = .ok (.iconst 0, 1) := by decide +kernel
theorem dX3_how_12 : decode cX3_how 12 = .ok (.putfield 269, 3) := by decide +kernel
theorem dX3_how_15 : decode cX3_how 15 = .ok (.goto 64, 3) := by decide +kernel
theorem dX3_how_18 : decode cX3_how 18 = .ok (.aload_n 0, 1) := by decide +kernel
theorem dX3_how_19 : decode cX3_how 19 = .ok (.ldc_w 271, 3) := by decide +kernel
theorem dX3_how_22 : decode cX3_how 22 = .ok (.invokevirtual 140, 3) := by decide +kernel
theorem dX3_how_25 : decode cX3_how 25 = .ok (.ifCond .eq 11, 3) := by decide +kernel
theorem dX3_how_28 : decode cX3_how 28 = .ok (.aload_n 1, 1) := by decide +kernel
theorem dX3_how_29 : decode cX3_how 29 = .ok (.iconst 1, 1) := by decide +kernel
theorem dX3_how_30 : decode cX3_how 30 = .ok (.putfield 269, 3) := by decide +kernel
theorem dX3_how_33 : decode cX3_how 33 = .ok (.goto 46, 3) := by decide +kernel
theorem dX3_how_36 : decode cX3_how 36 = .ok (.aload_n 0, 1) := by decide +kernel
theorem dX3_how_37 : decode cX3_how 37 = .ok (.ldc_w 273, 3) := by decide +kernel
theorem dX3_how_40 : decode cX3_how 40 = .ok (.invokevirtual 140, 3) := by decide +kernel
theorem dX3_how_43 : decode cX3_how 43 = .ok (.ifCond .eq 23, 3) := by decide +kernel
theorem dX3_how_46 : decode cX3_how 46 = .ok (.aload_n 1, 1) := by decide +kernel
theorem dX3_how_47 : decode cX3_how 47 = .ok (.iconst 2, 1) := by decide +kernel
theorem dX3_how_48 : decode cX3_how 48 = .ok (.putfield 269, 3) := by decide +kernel
theorem dX3_how_51 : decode cX3_how 51 = .ok (.aload_n 0, 1) := by decide +kernel
theorem dX3_how_52 : decode cX3_how 52 = .ok (.invokevirtual 110, 3) := by decide +kernel
theorem dX3_how_55 : decode cX3_how 55 = .ok (.aload_n 1, 1) := by decide +kernel
theorem dX3_how_56 : decode cX3_how 56 = .ok (.aload_n 0, 1) := by decide +kernel
theorem dX3_how_57 : decode cX3_how 57 = .ok (.invokevirtual 275, 3) := by decide +kernel
theorem dX3_how_60 : decode cX3_how 60 = .ok (.putfield 278, 3) := by decide +kernel
theorem dX3_how_63 : decode cX3_how 63 = .ok (.goto 16, 3) := by decide +kernel
theorem dX3_how_66 : decode cX3_how 66 = .ok (.aload_n 1, 1) := by decide +kernel
theorem dX3_how_67 : decode cX3_how 67 = .ok (.iconst 3, 1) := by decide +kernel
theorem dX3_how_68 : decode cX3_how 68 = .ok (.putfield 269, 3) := by decide +kernel
theorem dX3_how_71 : decode cX3_how 71 = .ok (.aload_n 1, 1) := by decide +kernel
theorem dX3_how_72 : decode cX3_how 72 = .ok (.aload_n 0, 1) := by decide +kernel
theorem dX3_how_73 : decode cX3_how 73 = .ok (.invokevirtual 275, 3) := by decide +kernel
theorem dX3_how_76 : decode cX3_how 76 = .ok (.putfield 278, 3) := by decide +kernel
theorem dX3_how_79 : decode cX3_how 79 = .ok (.return_, 1) := by decide +kernel
def c_X3_how (μ : MEM) (a0 a1 : Int) : Option zc_O := ck (zt [3] (μ a0 (-1)) = true) (bc (c_X2_takes μ a0 (-18)) (fun r2 μ3 => if r2 = 0 then (ck (zt [3] (μ3 a0 (-1)) = true) (bc (c_X2_takes μ3 a0 (-19)) (fun r6 μ7 => if r6 = 0 then (ck (zt [3] (μ7 a0 (-1)) = true) (bc (c_X2_takes μ7 a0 (-20)) (fun r10 μ11 => if r10 = 0 then (ck (zt [10] (μ11 a1 (-1)) = true) (nu (mup μ11 a1 4 3) (fun μ14 => ck (zt [3] (μ14 a0 (-1)) = true) (bc (c_X3_value μ14 a0) (fun r17 μ18 => ck (zt [10] (μ18 a1 (-1)) = true) (nu (mup μ18 a1 6 r17) (fun μ21 => some (0, 0, μ21)))))))) else (ck (zt [10] (μ11 a1 (-1)) = true) (nu (mup μ11 a1 4 2) (fun μ24 => ck (zt [3] (μ24 a0 (-1)) = true) (bc (c_X3_mustSpace μ24 a0) (fun _ μ27 => ck (zt [3] (μ27 a0 (-1)) = true) (bc (c_X3_value μ27 a0) (fun r29 μ30 => ck (zt [10] (μ30 a1 (-1)) = true) (nu (mup μ30 a1 6 r29) (fun μ33 => some (0, 0, μ33))))))))))))) else (ck (zt [10] (μ7 a1 (-1)) = true) (nu (mup μ7 a1 4 1) (fun μ36 => some (0, 0, μ36))))))) else (ck (zt [10] (μ3 a1 (-1)) = true) (nu (mup μ3 a1 4 0) (fun μ39 => some (0, 0, μ39))))))
theorem u_X3_how {G : zc_G} (μ : MEM) (a0 a1 : Int) (o : zc_O) (hd : c_X3_how μ a0 a1 = some o) : zc_Met G yX3_how cX3_how 2 (Option.none : Option FieldType) 0 10 210 μ [zc_rv G a0, zc_rv G a1] o := by
  refine zc_intro hd (by decide) (by simp [lg_sl, zc_rv_cat, iv_cat, jv_cat]) (lv := [(0, zc_rv G a0), (1, zc_rv G a1)]) (by simp [lv_args, zc_rv_cat, iv_cat, jv_cat]) (fun C h hc => ?_)
  have h : zv_Ok C cX3_how "TreePress$Parser" := h
  have hc : zc_C C G μ 2 (Option.none : Option FieldType) 0 10 210 "how" [] := hc
  have hN : ∀ i, i < 2 → i < zv_n C := fun i q => by rw [hc.2.1]; exact q
  unfold c_X3_how
  refine c_aload_n (x := a0) h 0 dX3_how_0 rfl rfl ?_
  refine c_ldcws (tx := "#REQUIRED") h hc 18 (by decide) (-18) rfl (by decide) dX3_how_1 ?_
  refine r_ck (fun ht1 => ?_)
  refine c_callU (x := a0) (xm := ⟨"TreePress$Parser", "takes", "(Ljava/lang/String;)Z"⟩) (owner := "TreePress$Reader") h hc (As := [zc_rv G (-18)]) (fun o1 e1 => u_X2_takes _ a0 (-18) o1 e1) [3] ht1 (by decide) q735 q736 (va_Decl.of (h.2.2.2.2 _ q570) (h.2.2.2.2 _ q574)) ⟨by decide, by decide⟩ q570 (fun t ht => by cases List.mem_singleton.mp ht; exact q738) q574 q137 (by omega) (by omega) zc_s0 (by omega) (fun z hz => by cases hz) (n := 1) (by decide +kernel) rfl rfl dX3_how_4 (fun r2 μ3 hr4 => r_k3 ?_)
  refine r_if_eq (x := r2) h hr4.r 18 dX3_how_7 rfl ?_ ?_
  · refine c_aload_n (x := a0) h 0 dX3_how_18 rfl rfl ?_
    refine c_ldcws (tx := "#IMPLIED") h hc 19 (by decide) (-19) rfl (by decide) dX3_how_19 ?_
    refine r_ck (fun ht5 => ?_)
    refine c_callU (x := a0) (xm := ⟨"TreePress$Parser", "takes", "(Ljava/lang/String;)Z"⟩) (owner := "TreePress$Reader") h hc (As := [zc_rv G (-19)]) (fun o1 e1 => u_X2_takes _ a0 (-19) o1 e1) [3] ht5 (by decide) q735 q736 (va_Decl.of (h.2.2.2.2 _ q570) (h.2.2.2.2 _ q574)) ⟨by decide, by decide⟩ q570 (fun t ht => by cases List.mem_singleton.mp ht; exact q738) q574 q137 (by omega) (by omega) zc_s0 (by omega) (fun z hz => by cases hz) (n := 1) (by decide +kernel) rfl rfl dX3_how_22 (fun r6 μ7 hr8 => r_k3 ?_)
    refine r_if_eq (x := r6) h hr8.r 36 dX3_how_25 rfl ?_ ?_
    · refine c_aload_n (x := a0) h 0 dX3_how_36 rfl rfl ?_
      refine c_ldcws (tx := "#FIXED") h hc 20 (by decide) (-20) rfl (by decide) dX3_how_37 ?_
      refine r_ck (fun ht9 => ?_)
      refine c_callU (x := a0) (xm := ⟨"TreePress$Parser", "takes", "(Ljava/lang/String;)Z"⟩) (owner := "TreePress$Reader") h hc (As := [zc_rv G (-20)]) (fun o1 e1 => u_X2_takes _ a0 (-20) o1 e1) [3] ht9 (by decide) q735 q736 (va_Decl.of (h.2.2.2.2 _ q570) (h.2.2.2.2 _ q574)) ⟨by decide, by decide⟩ q570 (fun t ht => by cases List.mem_singleton.mp ht; exact q738) q574 q137 (by omega) (by omega) zc_s0 (by omega) (fun z hz => by cases hz) (n := 1) (by decide +kernel) rfl rfl dX3_how_40 (fun r10 μ11 hr12 => r_k3 ?_)
      refine r_if_eq (x := r10) h hr12.r 66 dX3_how_43 rfl ?_ ?_
      · refine c_aload_n (x := a1) h 1 dX3_how_66 rfl rfl ?_
        refine r_iconst h dX3_how_67 ?_
        refine r_ck (fun ht13 => ?_)
        refine c_putI (x := a1) (y := 3) h hc [10] 4 false (zc_lk3 hc (O := "TreePress$Rule") (n := "how") (ds := "I") (host := "TreePress") (by decide)) ht13 (by decide) (Or.inl rfl) (by decide) dX3_how_68 (fun μ14 he15 => ?_)
        refine c_aload_n (x := a1) h 1 dX3_how_71 rfl rfl ?_
        refine c_aload_n (x := a0) h 0 dX3_how_72 rfl rfl ?_
        refine r_ck (fun ht16 => ?_)
        refine c_callV (x := a0) h hc (As := []) (fun o1 e1 => u_X3_value _ a0 o1 e1) [3] ht16 (by decide) q882 q884 (fun t ht => by cases List.mem_singleton.mp ht; exact qs20) q885 q138 (by omega) (by omega) (zc_sc (zc_rv_cat G _) zc_s0) (by omega) (fun z hz => by cases hz) ⟨by decide, by decide⟩ (n := 0) (by decide +kernel) rfl rfl dX3_how_73 (fun r17 μ18 hr19 => r_k4 ?_)
        refine r_ck (fun ht20 => ?_)
        refine c_putR (x := a1) (y := r17) h hc [10] 6 false (zc_lk3 hc (O := "TreePress$Rule") (n := "value") (ds := "[B") (host := "TreePress") (by decide)) ht20 (by decide) (Or.inl rfl) (ty := (.array .byte)) (by decide +kernel) (Or.inr ⟨_, rfl⟩) dX3_how_76 (fun μ21 he22 => ?_)
        exact c_vret h hc rfl dX3_how_79
      · refine c_aload_n (x := a1) h 1 dX3_how_46 rfl rfl ?_
        refine r_iconst h dX3_how_47 ?_
        refine r_ck (fun ht23 => ?_)
        refine c_putI (x := a1) (y := 2) h hc [10] 4 false (zc_lk3 hc (O := "TreePress$Rule") (n := "how") (ds := "I") (host := "TreePress") (by decide)) ht23 (by decide) (Or.inl rfl) (by decide) dX3_how_48 (fun μ24 he25 => ?_)
        refine c_aload_n (x := a0) h 0 dX3_how_51 rfl rfl ?_
        refine r_ck (fun ht26 => ?_)
        refine c_callV (x := a0) h hc (As := []) (fun o1 e1 => u_X3_mustSpace _ a0 o1 e1) [3] ht26 (by decide) q658 q660 (fun t ht => by cases List.mem_singleton.mp ht; exact qs9) q661 q138 (by omega) (by omega) zc_s0 (by omega) (fun z hz => by cases hz) ⟨by decide, by decide⟩ (n := 0) (by decide +kernel) rfl rfl dX3_how_52 (fun _ μ27 _ => r_k0 ?_)
        refine c_aload_n (x := a1) h 1 dX3_how_55 rfl rfl ?_
        refine c_aload_n (x := a0) h 0 dX3_how_56 rfl rfl ?_
        refine r_ck (fun ht28 => ?_)
        refine c_callV (x := a0) h hc (As := []) (fun o1 e1 => u_X3_value _ a0 o1 e1) [3] ht28 (by decide) q882 q884 (fun t ht => by cases List.mem_singleton.mp ht; exact qs20) q885 q138 (by omega) (by omega) (zc_sc (zc_rv_cat G _) zc_s0) (by omega) (fun z hz => by cases hz) ⟨by decide, by decide⟩ (n := 0) (by decide +kernel) rfl rfl dX3_how_57 (fun r29 μ30 hr31 => r_k4 ?_)
        refine r_ck (fun ht32 => ?_)
        refine c_putR (x := a1) (y := r29) h hc [10] 6 false (zc_lk3 hc (O := "TreePress$Rule") (n := "value") (ds := "[B") (host := "TreePress") (by decide)) ht32 (by decide) (Or.inl rfl) (ty := (.array .byte)) (by decide +kernel) (Or.inr ⟨_, rfl⟩) dX3_how_60 (fun μ33 he34 => ?_)
        refine r_goto h 79 dX3_how_63 rfl ?_
        exact c_vret h hc rfl dX3_how_79
    · refine c_aload_n (x := a1) h 1 dX3_how_28 rfl rfl ?_
      refine r_iconst h dX3_how_29 ?_
      refine r_ck (fun ht35 => ?_)
      refine c_putI (x := a1) (y := 1) h hc [10] 4 false (zc_lk3 hc (O := "TreePress$Rule") (n := "how") (ds := "I") (host := "TreePress") (by decide)) ht35 (by decide) (Or.inl rfl) (by decide) dX3_how_30 (fun μ36 he37 => ?_)
      refine r_goto h 79 dX3_how_33 rfl ?_
      exact c_vret h hc rfl dX3_how_79
  · refine c_aload_n (x := a1) h 1 dX3_how_10 rfl rfl ?_
    refine r_iconst h dX3_how_11 ?_
    refine r_ck (fun ht38 => ?_)
    refine c_putI (x := a1) (y := 0) h hc [10] 4 false (zc_lk3 hc (O := "TreePress$Rule") (n := "how") (ds := "I") (host := "TreePress") (by decide)) ht38 (by decide) (Or.inl rfl) (by decide) dX3_how_12 (fun μ39 he40 => ?_)
    refine r_goto h 79 dX3_how_15 rfl ?_
    exact c_vret h hc rfl dX3_how_79
theorem dX3_rules_0 : decode cX3_rules 0 = .ok (.aload_n 0, 1) := by decide +kernel
theorem dX3_rules_1 : decode cX3_rules 1 = .ok (.ldc 126, 2) := by decide +kernel
theorem dX3_rules_3 : decode cX3_rules 3 = .ok (.invokevirtual 57, 3) := by decide +kernel
theorem dX3_rules_6 : decode cX3_rules 6 = .ok (.aload_n 0, 1) := by decide +kernel
theorem dX3_rules_7 : decode cX3_rules 7 = .ok (.invokevirtual 110, 3) := by decide +kernel
theorem dX3_rules_10 : decode cX3_rules 10 = .ok (.aload_n 0, 1) := by decide +kernel
theorem dX3_rules_11 : decode cX3_rules 11 = .ok (.invokevirtual 113, 3) := by decide +kernel
theorem dX3_rules_14 : decode cX3_rules 14 = .ok (.astore_n 1, 1) := by decide +kernel
theorem dX3_rules_15 : decode cX3_rules 15 = .ok (.aload_n 0, 1) := by decide +kernel
theorem dX3_rules_16 : decode cX3_rules 16 = .ok (.invokevirtual 219, 3) := by decide +kernel
theorem dX3_rules_19 : decode cX3_rules 19 = .ok (.ifCond .eq 201, 3) := by decide +kernel
theorem dX3_rules_22 : decode cX3_rules 22 = .ok (.aload_n 0, 1) := by decide +kernel
theorem dX3_rules_23 : decode cX3_rules 23 = .ok (.invokevirtual 31, 3) := by decide +kernel
theorem dX3_rules_26 : decode cX3_rules 26 = .ok (.istore_n 2, 1) := by decide +kernel
theorem dX3_rules_27 : decode cX3_rules 27 = .ok (.new 222, 3) := by decide +kernel
theorem dX3_rules_30 : decode cX3_rules 30 = .ok (.dup, 1) := by decide +kernel
theorem dX3_rules_31 : decode cX3_rules 31 = .ok (.aload_n 1, 1) := by decide +kernel
theorem dX3_rules_32 : decode cX3_rules 32 = .ok (.aload_n 0, 1) := by decide +kernel
theorem dX3_rules_33 : decode cX3_rules 33 = .ok (.invokevirtual 113, 3) := by decide +kernel
theorem dX3_rules_36 : decode cX3_rules 36 = .ok (.aload_n 0, 1) := by decide +kernel
theorem dX3_rules_37 : decode cX3_rules 37 = .ok (.getfield 14, 3) := by decide +kernel
theorem dX3_rules_40 : decode cX3_rules 40 = .ok (.getfield 224, 3) := by decide +kernel
theorem dX3_rules_43 : decode cX3_rules 43 = .ok (.invokevirtual 94, 3) := by decide +kernel
theorem dX3_rules_46 : decode cX3_rules 46 = .ok (.invokespecial 226, 3) := by decide +kernel
theorem dX3_rules_49 : decode cX3_rules 49 = .ok (.astore_n 3, 1) := by decide +kernel
theorem dX3_rules_50 : decode cX3_rules 50 = .ok (.iconst 0, 1) := by decide +kernel
theorem dX3_rules_51 : decode cX3_rules 51 = .ok (.istore 4, 2) := by decide +kernel
theorem dX3_rules_53 : decode cX3_rules 53 = .ok (.iconst 0, 1) := by decide +kernel
theorem dX3_rules_54 : decode cX3_rules 54 = .ok (.istore 5, 2) := by decide +kernel
theorem dX3_rules_56 : decode cX3_rules 56 = .ok (.iload 5, 2) := by decide +kernel
theorem dX3_rules_58 : decode cX3_rules 58 = .ok (.aload_n 0, 1) := by decide +kernel
theorem dX3_rules_59 : decode cX3_rules 59 = .ok (.getfield 14, 3) := by decide +kernel
theorem dX3_rules_62 : decode cX3_rules 62 = .ok (.getfield 224, 3) := by decide +kernel
theorem dX3_rules_65 : decode cX3_rules 65 = .ok (.invokevirtual 94, 3) := by decide +kernel
theorem dX3_rules_68 : decode cX3_rules 68 = .ok (.if_icmp .ge 44, 3) := by decide +kernel
theorem dX3_rules_71 : decode cX3_rules 71 = .ok (.iload 4, 2) := by decide +kernel
theorem dX3_rules_73 : decode cX3_rules 73 = .ok (.aload_n 0, 1) := by decide +kernel
theorem dX3_rules_74 : decode cX3_rules 74 = .ok (.getfield 14, 3) := by decide +kernel
theorem dX3_rules_77 : decode cX3_rules 77 = .ok (.getfield 224, 3) := by decide +kernel
theorem dX3_rules_80 : decode cX3_rules 80 = .ok (.iload 5, 2) := by decide +kernel
theorem dX3_rules_82 : decode cX3_rules 82 = .ok (.invokevirtual 229, 3) := by decide +kernel
theorem dX3_rules_85 : decode cX3_rules 85 = .ok (.checkcast 222, 3) := by decide +kernel
theorem dX3_rules_88 : decode cX3_rules 88 = .ok (.getfield 233, 3) := by decide +kernel
theorem dX3_rules_91 : decode cX3_rules 91 = .ok (.aload_n 1, 1) := by decide +kernel
theorem dX3_rules_92 : decode cX3_rules 92 = .ok (.invokestatic 236, 3) := by decide +kernel
theorem dX3_rules_95 : decode cX3_rules 95 = .ok (.ifCond .eq 7, 3) := by decide +kernel
theorem dX3_rules_98 : decode cX3_rules 98 = .ok (.iconst 1, 1) := by decide +kernel
theorem dX3_rules_99 : decode cX3_rules 99 = .ok (.goto 4, 3) := by decide +kernel
theorem dX3_rules_102 : decode cX3_rules 102 = .ok (.iconst 0, 1) := by decide +kernel
theorem dX3_rules_103 : decode cX3_rules 103 = .ok (.iadd, 1) := by decide +kernel
theorem dX3_rules_104 : decode cX3_rules 104 = .ok (.istore 4, 2) := by decide +kernel
theorem dX3_rules_106 : decode cX3_rules 106 = .ok (.iinc 5 1, 3) := by decide +kernel
theorem dX3_rules_109 : decode cX3_rules 109 = .ok (.goto (-53), 3) := by decide +kernel
theorem dX3_rules_112 : decode cX3_rules 112 = .ok (.aload_n 0, 1) := by decide +kernel
theorem dX3_rules_113 : decode cX3_rules 113 = .ok (.getfield 14, 3) := by decide +kernel
theorem dX3_rules_116 : decode cX3_rules 116 = .ok (.aload_n 1, 1) := by decide +kernel
theorem dX3_rules_117 : decode cX3_rules 117 = .ok (.aload_n 3, 1) := by decide +kernel
theorem dX3_rules_118 : decode cX3_rules 118 = .ok (.getfield 240, 3) := by decide +kernel
theorem dX3_rules_121 : decode cX3_rules 121 = .ok (.invokevirtual 242, 3) := by decide +kernel
theorem dX3_rules_124 : decode cX3_rules 124 = .ok (.ifnonnull 7, 3) := by decide +kernel
theorem dX3_rules_127 : decode cX3_rules 127 = .ok (.iconst 1, 1) := by decide +kernel
theorem dX3_rules_128 : decode cX3_rules 128 = .ok (.goto 4, 3) := by decide +kernel
theorem dX3_rules_131 : decode cX3_rules 131 = .ok (.iconst 0, 1) := by decide +kernel
theorem dX3_rules_132 : decode cX3_rules 132 = .ok (.istore 5, 2) := by decide +kernel
theorem dX3_rules_134 : decode cX3_rules 134 = .ok (.iload 5, 2) := by decide +kernel
theorem dX3_rules_136 : decode cX3_rules 136 = .ok (.ifCond .eq 21, 3) := by decide +kernel
theorem dX3_rules_139 : decode cX3_rules 139 = .ok (.iload 4, 2) := by decide +kernel
theorem dX3_rules_141 : decode cX3_rules 141 = .ok (.bipush 10, 2) := by decide +kernel
theorem dX3_rules_143 : decode cX3_rules 143 = .ok (.if_icmp .ne 14, 3) := by decide +kernel
theorem dX3_rules_146 : decode cX3_rules 146 = .ok (.new 50, 3) := by decide +kernel
theorem dX3_rules_149 : decode cX3_rules 149 = .ok (.dup, 1) := by decide +kernel
theorem dX3_rules_150 : decode cX3_rules 150 = .ok (.bipush (-3), 2) := by decide +kernel
theorem dX3_rules_152 : decode cX3_rules 152 = .ok (.iload_n 2, 1) := by decide +kernel
theorem dX3_rules_153 : decode cX3_rules 153 = .ok (.invokespecial 52, 3) := by decide +kernel
theorem dX3_rules_156 : decode cX3_rules 156 = .ok (.athrow, 1) := by decide +kernel
theorem dX3_rules_157 : decode cX3_rules 157 = .ok (.aload_n 0, 1) := by decide +kernel
theorem dX3_rules_158 : decode cX3_rules 158 = .ok (.invokevirtual 110, 3) := by decide +kernel
theorem dX3_rules_161 : decode cX3_rules 161 = .ok (.aload_n 0, 1) := by decide +kernel
theorem dX3_rules_162 : decode cX3_rules 162 = .ok (.aload_n 3, 1) := by decide +kernel
theorem dX3_rules_163 : decode cX3_rules 163 = .ok (.invokevirtual 246, 3) := by decide +kernel
theorem dX3_rules_166 : decode cX3_rules 166 = .ok (.aload_n 0, 1) := by decide +kernel
theorem dX3_rules_167 : decode cX3_rules 167 = .ok (.invokevirtual 110, 3) := by decide +kernel
theorem dX3_rules_170 : decode cX3_rules 170 = .ok (.aload_n 0, 1) := by decide +kernel
theorem dX3_rules_171 : decode cX3_rules 171 = .ok (.aload_n 3, 1) := by decide +kernel
theorem dX3_rules_172 : decode cX3_rules 172 = .ok (.invokevirtual 249, 3) := by decide +kernel
theorem dX3_rules_175 : decode cX3_rules 175 = .ok (.iload 5, 2) := by decide +kernel
theorem dX3_rules_177 : decode cX3_rules 177 = .ok (.ifCond .ne 6, 3) := by decide +kernel
theorem dX3_rules_180 : decode cX3_rules 180 = .ok (.goto (-165), 3) := by decide +kernel
theorem dX3_rules_183 : decode cX3_rules 183 = .ok (.aload_n 0, 1) := by decide +kernel
theorem dX3_rules_184 : decode cX3_rules 184 = .ok (.getfield 23, 3) := by decide +kernel
theorem dX3_rules_187 : decode cX3_rules 187 = .ok (.iconst 2, 1) := by decide +kernel
theorem dX3_rules_188 : decode cX3_rules 188 = .ok (.newarray .int, 2) := by decide +kernel
theorem dX3_rules_190 : decode cX3_rules 190 = .ok (.dup, 1) := by decide +kernel
theorem dX3_rules_191 : decode cX3_rules 191 = .ok (.iconst 0, 1) := by decide +kernel
theorem dX3_rules_192 : decode cX3_rules 192 = .ok (.iconst 1, 1) := by decide +kernel
theorem dX3_rules_193 : decode cX3_rules 193 = .ok (.iastore, 1) := by decide +kernel
theorem dX3_rules_194 : decode cX3_rules 194 = .ok (.dup, 1) := by decide +kernel
theorem dX3_rules_195 : decode cX3_rules 195 = .ok (.iconst 1, 1) := by decide +kernel
theorem dX3_rules_196 : decode cX3_rules 196 = .ok (.aload_n 3, 1) := by decide +kernel
theorem dX3_rules_197 : decode cX3_rules 197 = .ok (.getfield 252, 3) := by decide +kernel
theorem dX3_rules_200 : decode cX3_rules 200 = .ok (.iastore, 1) := by decide +kernel
theorem dX3_rules_201 : decode cX3_rules 201 = .ok (.invokevirtual 152, 3) := by decide +kernel
theorem dX3_rules_204 : decode cX3_rules 204 = .ok (.pop, 1) := by decide +kernel
theorem dX3_rules_205 : decode cX3_rules 205 = .ok (.aload_n 0, 1) := by decide +kernel
theorem dX3_rules_206 : decode cX3_rules 206 = .ok (.getfield 14, 3) := by decide +kernel
theorem dX3_rules_209 : decode cX3_rules 209 = .ok (.getfield 224, 3) := by decide +kernel
theorem dX3_rules_212 : decode cX3_rules 212 = .ok (.aload_n 3, 1) := by decide +kernel
theorem dX3_rules_213 : decode cX3_rules 213 = .ok (.invokevirtual 152, 3) := by decide +kernel
theorem dX3_rules_216 : decode cX3_rules 216 = .ok (.pop, 1) := by decide +kernel
theorem dX3_rules_217 : decode cX3_rules 217 = .ok (.goto (-202), 3) := by decide +kernel
theorem dX3_rules_220 : decode cX3_rules 220 = .ok (.aload_n 0, 1) := by decide +kernel
theorem dX3_rules_221 : decode cX3_rules 221 = .ok (.invokevirtual 46, 3) := by decide +kernel
theorem dX3_rules_224 : decode cX3_rules 224 = .ok (.pop, 1) := by decide +kernel
theorem dX3_rules_225 : decode cX3_rules 225 = .ok (.aload_n 0, 1) := by decide +kernel
theorem dX3_rules_226 : decode cX3_rules 226 = .ok (.ldc 70, 2) := by decide +kernel
theorem dX3_rules_228 : decode cX3_rules 228 = .ok (.invokevirtual 57, 3) := by decide +kernel
theorem dX3_rules_231 : decode cX3_rules 231 = .ok (.return_, 1) := by decide +kernel
def c_X3_rules_157 (lp15 : MEM → Int → Int → Option zc_O) (μ : MEM) (x0 x1 x3 x5 : Int) : Option zc_O := ck (zt [3] (μ x0 (-1)) = true) (bc (c_X3_mustSpace μ x0) (fun _ μ2 => ck (zt [3] (μ2 x0 (-1)) = true) (bc (c_X3_type μ2 x0 x3) (fun _ μ4 => ck (zt [3] (μ4 x0 (-1)) = true) (bc (c_X3_mustSpace μ4 x0) (fun _ μ6 => ck (zt [3] (μ6 x0 (-1)) = true) (bc (c_X3_how μ6 x0 x3) (fun _ μ8 => if x5 = 0 then (lp15 μ8 x0 x1) else (ck (zt [3] (μ8 x0 (-1)) = true) (ck ((0 : Int) ≤ 2 ∧ 2 ≤ 1000000) (ck (1 ≤ μ8 0 1 ∧ 2 ≤ μ8 0 2) (nu (mnew μ8 33 2 2) (fun μ10 => ck ((0 : Int) ≤ 0 ∧ 0 < μ10 (μ8 0 0) (-2)) (nu (mup μ10 (μ8 0 0) 0 1) (fun μ12 => ck (zt [10] (μ12 x3 (-1)) = true) (ck ((0 : Int) ≤ 1 ∧ 1 < μ12 (μ8 0 0) (-2)) (nu (mup μ12 (μ8 0 0) 1 (μ12 x3 2)) (fun μ17 => ck (zt [40] (μ17 (μ8 x0 4) (-1)) = true) (bc (b_ladd μ17 (μ8 x0 4) (μ8 0 0)) (fun r21 μ22 => ck (zt [3] (μ22 x0 (-1)) = true) (ck (zt [4] (μ22 (μ22 x0 3) (-1)) = true) (ck (zt [40] (μ22 (μ22 (μ22 x0 3) 4) (-1)) = true) (bc (b_ladd μ22 (μ22 (μ22 x0 3) 4) x3) (fun r27 μ28 => lp15 μ28 x0 x1))))))))))))))))))))))))
theorem u_X3_rules_157 {C : zv_Cx zc_O} {G : zc_G} {μ0 : MEM} (h : zv_Ok C cX3_rules "TreePress$Parser") (hc : zc_C C G μ0 6 (Option.none : Option FieldType) 0 11 231 "rules" []) (lp15 : MEM → Int → Int → Option zc_O) (hlp15 : ∀ (μ : MEM) (x0 x1 : Int), VV C (lp15 μ x0 x1) μ [(0, zc_rv G x0), (1, zc_rv G x1)] [] 15) (μ : MEM) (x0 x1 x3 x5 : Int) (hx5 : isB x5) : VV C (c_X3_rules_157 lp15 μ x0 x1 x3 x5) μ [(0, zc_rv G x0), (1, zc_rv G x1), (3, zc_rv G x3), (5, iv x5)] [] 157 := by
  have hN : ∀ i, i < 6 → i < zv_n C := fun i q => by rw [hc.2.1]; exact q
  unfold c_X3_rules_157
  refine c_aload_n (x := x0) h 0 dX3_rules_157 rfl rfl ?_
  refine r_ck (fun ht1 => ?_)
  refine c_callV (x := x0) h hc (As := []) (fun o1 e1 => u_X3_mustSpace _ x0 o1 e1) [3] ht1 (by decide) q658 q660 (fun t ht => by cases List.mem_singleton.mp ht; exact qs9) q661 q138 (by omega) (by omega) zc_s0 (by omega) (fun z hz => by cases hz) ⟨by decide, by decide⟩ (n := 0) (by decide +kernel) rfl rfl dX3_rules_158 (fun _ μ2 _ => r_k0 ?_)
  refine c_aload_n (x := x0) h 0 dX3_rules_161 rfl rfl ?_
  refine c_aload_n (x := x3) h 2 dX3_rules_162 rfl rfl ?_
  refine r_ck (fun ht3 => ?_)
  refine c_callV (x := x0) h hc (As := [zc_rv G x3]) (fun o1 e1 => u_X3_type _ x0 x3 o1 e1) [3] ht3 (by decide) q865 q867 (fun t ht => by cases List.mem_singleton.mp ht; exact qs18) q868 q138 (by omega) (by omega) zc_s0 (by omega) (fun z hz => by cases hz) ⟨by decide, by decide⟩ (n := 1) (by decide +kernel) rfl rfl dX3_rules_163 (fun _ μ4 _ => r_k0 ?_)
  refine c_aload_n (x := x0) h 0 dX3_rules_166 rfl rfl ?_
  refine r_ck (fun ht5 => ?_)
  refine c_callV (x := x0) h hc (As := []) (fun o1 e1 => u_X3_mustSpace _ x0 o1 e1) [3] ht5 (by decide) q658 q660 (fun t ht => by cases List.mem_singleton.mp ht; exact qs9) q661 q138 (by omega) (by omega) zc_s0 (by omega) (fun z hz => by cases hz) ⟨by decide, by decide⟩ (n := 0) (by decide +kernel) rfl rfl dX3_rules_167 (fun _ μ6 _ => r_k0 ?_)
  refine c_aload_n (x := x0) h 0 dX3_rules_170 rfl rfl ?_
  refine c_aload_n (x := x3) h 2 dX3_rules_171 rfl rfl ?_
  refine r_ck (fun ht7 => ?_)
  refine c_callV (x := x0) h hc (As := [zc_rv G x3]) (fun o1 e1 => u_X3_how _ x0 x3 o1 e1) [3] ht7 (by decide) q875 q877 (fun t ht => by cases List.mem_singleton.mp ht; exact qs19) q878 q138 (by omega) (by omega) zc_s0 (by omega) (fun z hz => by cases hz) ⟨by decide, by decide⟩ (n := 1) (by decide +kernel) rfl rfl dX3_rules_172 (fun _ μ8 _ => r_k0 ?_)
  refine r_iload h 3 dX3_rules_175 rfl ?_
  refine r_if_ne (x := x5) h hx5.r 183 dX3_rules_177 rfl ?_ ?_
  · refine r_goto h 15 dX3_rules_180 rfl ?_
    exact r_lv [0, 1] rfl (hlp15 _ x0 x1)
  · refine c_aload_n (x := x0) h 0 dX3_rules_183 rfl rfl ?_
    refine r_ck (fun ht9 => ?_)
    refine c_getR (fin := true) h hc [3] 4 (zc_lk1 h q447) ht9 (by decide) dX3_rules_184 ?_
    refine r_iconst h dX3_rules_187 ?_
    refine c_naI (x := 2) h hc rfl q842 (by decide) dX3_rules_188 (fun _ _ μ10 he11 => ?_)
    refine r_dup h dX3_rules_190 (zc_rv_cat G _) ?_
    refine r_iconst h dX3_rules_191 ?_
    refine r_iconst h dX3_rules_192 ?_
    refine c_stI (x := (μ8 0 0)) (y := 0) (z := 1) h hc (zt_nw he11) (by decide) dX3_rules_193 (fun hb14 μ12 he13 => ?_)
    refine r_dup h dX3_rules_194 (zc_rv_cat G _) ?_
    refine r_iconst h dX3_rules_195 ?_
    refine c_aload_n (x := x3) h 2 dX3_rules_196 rfl rfl ?_
    refine r_ck (fun ht15 => ?_)
    refine c_getI (fin := true) h hc [10] 2 (zc_lk3 hc (O := "TreePress$Rule") (n := "number") (ds := "I") (host := "TreePress") (by decide)) ht15 (by decide) dX3_rules_197 (fun hr16 => ?_)
    refine c_stI (x := (μ8 0 0)) (y := 1) (z := (μ12 x3 2)) h hc (zt_mup he13 hb14.1 (zt_nw he11)) hr16 dX3_rules_200 (fun hb19 μ17 he18 => ?_)
    refine r_ck (fun ht20 => ?_)
    refine c_callV (x := (μ8 x0 4)) h hc (As := [zc_rv G (μ8 0 0)]) (fun o1 e1 => w_ladd _ (μ8 x0 4) (μ8 0 0) o1 e1) [40] ht20 (by decide) q765 q347 (fun t ht => by cases List.mem_singleton.mp ht; exact q348) q349 q135 (by omega) (by omega) zc_s0 (by omega) (fun z hz => by cases hz) ⟨by decide, by decide⟩ (n := 1) (by decide +kernel) rfl rfl dX3_rules_201 (fun r21 μ22 hr23 => r_k3 ?_)
    refine r_pop h dX3_rules_204 (iv_cat _) ?_
    refine c_aload_n (x := x0) h 0 dX3_rules_205 rfl rfl ?_
    refine r_ck (fun ht24 => ?_)
    refine c_getR (fin := true) h hc [3] 3 (zc_lk1 h q446) ht24 (by decide) dX3_rules_206 ?_
    refine r_ck (fun ht25 => ?_)
    refine c_getR (fin := true) h hc [4] 4 (zc_lk3 hc (O := "TreePress$Document") (n := "rules") (ds := "Ljava/util/ArrayList;") (host := "TreePress") (by decide)) ht25 (by decide) dX3_rules_209 ?_
    refine c_aload_n (x := x3) h 2 dX3_rules_212 rfl rfl ?_
    refine r_ck (fun ht26 => ?_)
    refine c_callV (x := (μ22 (μ22 x0 3) 4)) h hc (As := [zc_rv G x3]) (fun o1 e1 => w_ladd _ (μ22 (μ22 x0 3) 4) x3 o1 e1) [40] ht26 (by decide) q765 q347 (fun t ht => by cases List.mem_singleton.mp ht; exact q348) q349 q135 (by omega) (by omega) zc_s0 (by omega) (fun z hz => by cases hz) ⟨by decide, by decide⟩ (n := 1) (by decide +kernel) rfl rfl dX3_rules_213 (fun r27 μ28 hr29 => r_k3 ?_)
    refine r_pop h dX3_rules_216 (iv_cat _) ?_
    refine r_goto h 15 dX3_rules_217 rfl ?_
    exact r_lv [0, 1] rfl (hlp15 _ x0 x1)
def c_X3_rules_132 (lp15 : MEM → Int → Int → Option zc_O) (μ : MEM) (x0 x1 x2 x3 x4 s0 : Int) : Option zc_O := if s0 = 0 then (c_X3_rules_157 lp15 μ x0 x1 x3 s0) else (if x4 = 10 then (ck (1 ≤ μ 0 1 ∧ (8 : Int) ≤ μ 0 2) (nu (mnew μ 22 0 8) (fun μ1 => bc (b_finit μ1 (μ 0 0) (-3) x2) (fun _ μ3 => ck (0 < (μ 0 0)) (some (1, (μ 0 0), μ3)))))) else (c_X3_rules_157 lp15 μ x0 x1 x3 s0))
theorem u_X3_rules_132 {C : zv_Cx zc_O} {G : zc_G} {μ0 : MEM} (h : zv_Ok C cX3_rules "TreePress$Parser") (hc : zc_C C G μ0 6 (Option.none : Option FieldType) 0 11 231 "rules" []) (lp15 : MEM → Int → Int → Option zc_O) (hlp15 : ∀ (μ : MEM) (x0 x1 : Int), VV C (lp15 μ x0 x1) μ [(0, zc_rv G x0), (1, zc_rv G x1)] [] 15) (μ : MEM) (x0 x1 x2 x3 x4 s0 : Int) (hx2 : inR x2) (hx4 : inR x4) (hs0 : isB s0) : VV C (c_X3_rules_132 lp15 μ x0 x1 x2 x3 x4 s0) μ [(0, zc_rv G x0), (1, zc_rv G x1), (2, iv x2), (3, zc_rv G x3), (4, iv x4)] [iv s0] 132 := by
  have hN : ∀ i, i < 6 → i < zv_n C := fun i q => by rw [hc.2.1]; exact q
  unfold c_X3_rules_132
  refine r_istore (lv' := [(5, iv s0), (0, zc_rv G x0), (1, zc_rv G x1), (2, iv x2), (3, zc_rv G x3), (4, iv x4)]) h dX3_rules_132 (hN _ (by decide)) rfl ?_
  refine r_iload h 0 dX3_rules_134 rfl ?_
  refine r_if_eq (x := s0) h hs0.r 157 dX3_rules_136 rfl ?_ ?_
  · exact r_lv [1, 2, 4, 0] rfl (u_X3_rules_157 h hc lp15 hlp15 _ x0 x1 x3 s0 hs0)
  · refine r_iload h 5 dX3_rules_139 rfl ?_
    refine r_bipush h dX3_rules_141 (by decide) ?_
    refine r_icmp_ne (x := x4) (y := 10) h hx4 (by decide) 157 dX3_rules_143 rfl ?_ ?_
    · refine c_newF h hc q650 q577 q153 dX3_rules_146 (fun _ μ1 he2 => ?_)
      refine r_dup h dX3_rules_149 (zc_rv_cat G _) ?_
      refine r_bipush h dX3_rules_150 (by decide) ?_
      refine r_iload_n h 3 dX3_rules_152 rfl rfl ?_
      refine c_callI (x := (μ 0 0)) h hc (As := [iv (-3), iv x2]) (fun o1 e1 => w_finit _ (μ 0 0) (-3) x2 (by decide) hx2 o1 e1) [22] (zt_nw he2) (by decide) q651 q616 rfl q617 q153 (by omega) (by omega) (zc_sc (zc_rv_cat G _) zc_s0) (by omega) (fun z hz => by cases hz) ⟨by decide, by decide⟩ (n := 2) (by decide +kernel) rfl rfl dX3_rules_153 (fun _ μ3 _ => r_k0 ?_)
      exact c_athrow h hc (fun z hz => by cases hz) dX3_rules_156
    · exact r_lv [1, 2, 4, 0] rfl (u_X3_rules_157 h hc lp15 hlp15 _ x0 x1 x3 s0 hs0)
def c_X3_rules_56 (lp15 : MEM → Int → Int → Option zc_O) : Nat → MEM → Int → Int → Int → Int → Int → Int → Option zc_O
  | 0, _, _, _, _, _, _, _ => none
  | n + 1, μ, x0, x1, x2, x3, x4, x5 => ck (zt [3] (μ x0 (-1)) = true) (ck (zt [4] (μ (μ x0 3) (-1)) = true) (ck (zt [40] (μ (μ (μ x0 3) 4) (-1)) = true) (bc (b_lsize μ (μ (μ x0 3) 4)) (fun r4 μ5 => if r4 ≤ x5 then (ck (zt [3] (μ5 x0 (-1)) = true) (ck (zt [10] (μ5 x3 (-1)) = true) (ck (zt [4] (μ5 (μ5 x0 3) (-1)) = true) (bc (c_X4_rule μ5 (μ5 x0 3) x1 (μ5 x3 1)) (fun r10 μ11 => if r10 = 0 then (c_X3_rules_132 lp15 μ11 x0 x1 x2 x3 x4 1) else (c_X3_rules_132 lp15 μ11 x0 x1 x2 x3 x4 0)))))) else (ck (zt [3] (μ5 x0 (-1)) = true) (ck (zt [4] (μ5 (μ5 x0 3) (-1)) = true) (ck (zt [40] (μ5 (μ5 (μ5 x0 3) 4) (-1)) = true) (bc (b_lget μ5 (μ5 (μ5 x0 3) 4) x5) (fun r16 μ17 => ck (zt [10] (μ17 r16 (-1)) = true) (bc (c_X0_isSame μ17 (μ17 r16 0) x1) (fun r20 μ21 => if r20 = 0 then (ck (inR (x4 + 0)) (ck (inR (x5 + 1)) (c_X3_rules_56 lp15 n μ21 x0 x1 x2 x3 (x4 + 0) (x5 + 1)))) else (ck (inR (x4 + 1)) (ck (inR (x5 + 1)) (c_X3_rules_56 lp15 n μ21 x0 x1 x2 x3 (x4 + 1) (x5 + 1)))))))))))))))
theorem u_X3_rules_56 {C : zv_Cx zc_O} {G : zc_G} {μ0 : MEM} (h : zv_Ok C cX3_rules "TreePress$Parser") (hc : zc_C C G μ0 6 (Option.none : Option FieldType) 0 11 231 "rules" []) (lp15 : MEM → Int → Int → Option zc_O) (hlp15 : ∀ (μ : MEM) (x0 x1 : Int), VV C (lp15 μ x0 x1) μ [(0, zc_rv G x0), (1, zc_rv G x1)] [] 15) : ∀ (n : Nat) (μ : MEM) (x0 x1 x2 x3 x4 x5 : Int), inR x2 → inR x4 → inR x5 → VV C (c_X3_rules_56 lp15 n μ x0 x1 x2 x3 x4 x5) μ [(0, zc_rv G x0), (1, zc_rv G x1), (2, iv x2), (3, zc_rv G x3), (4, iv x4), (5, iv x5)] [] 56 := by
  have hN : ∀ i, i < 6 → i < zv_n C := fun i q => by rw [hc.2.1]; exact q
  intro n
  induction n with
  | zero => intros; exact r_none
  | succ n ih =>
    intro μ x0 x1 x2 x3 x4 x5 hx2 hx4 hx5
    rw [c_X3_rules_56]
    refine r_iload h 5 dX3_rules_56 rfl ?_
    refine c_aload_n (x := x0) h 0 dX3_rules_58 rfl rfl ?_
    refine r_ck (fun ht1 => ?_)
    refine c_getR (fin := true) h hc [3] 3 (zc_lk1 h q446) ht1 (by decide) dX3_rules_59 ?_
    refine r_ck (fun ht2 => ?_)
    refine c_getR (fin := true) h hc [4] 4 (zc_lk3 hc (O := "TreePress$Document") (n := "rules") (ds := "Ljava/util/ArrayList;") (host := "TreePress") (by decide)) ht2 (by decide) dX3_rules_62 ?_
    refine r_ck (fun ht3 => ?_)
    refine c_callV (x := (μ (μ x0 3) 4)) h hc (As := []) (fun o1 e1 => w_lsize _ (μ (μ x0 3) 4) o1 e1) [40] ht3 (by decide) q695 q343 (fun t ht => by cases List.mem_singleton.mp ht; exact q344) q345 q135 (by omega) (by omega) (zc_sc (iv_cat _) zc_s0) (by omega) (fun z hz => by cases hz) ⟨by decide, by decide⟩ (n := 0) (by decide +kernel) rfl rfl dX3_rules_65 (fun r4 μ5 hr6 => r_k1 ?_)
    refine r_icmp_ge (x := x5) (y := r4) h hx5 hr6 112 dX3_rules_68 rfl ?_ ?_
    · refine c_aload_n (x := x0) h 0 dX3_rules_112 rfl rfl ?_
      refine r_ck (fun ht7 => ?_)
      refine c_getR (fin := true) h hc [3] 3 (zc_lk1 h q446) ht7 (by decide) dX3_rules_113 ?_
      refine c_aload_n (x := x1) h 1 dX3_rules_116 rfl rfl ?_
      refine c_aload_n (x := x3) h 3 dX3_rules_117 rfl rfl ?_
      refine r_ck (fun ht8 => ?_)
      refine c_getR (fin := true) h hc [10] 1 (zc_lk3 hc (O := "TreePress$Rule") (n := "name") (ds := "[B") (host := "TreePress") (by decide)) ht8 (by decide) dX3_rules_118 ?_
      refine r_ck (fun ht9 => ?_)
      refine c_callV (x := (μ5 x0 3)) h hc (As := [zc_rv G x1, zc_rv G (μ5 x3 1)]) (fun o1 e1 => u_X4_rule _ (μ5 x0 3) x1 (μ5 x3 1) o1 e1) [4] ht9 (by decide) q858 q859 (fun t ht => by cases List.mem_singleton.mp ht; exact q860) q861 q140 (by omega) (by omega) zc_s0 (by omega) (fun z hz => by cases hz) ⟨by decide, by decide⟩ (n := 2) (by decide +kernel) rfl rfl dX3_rules_121 (fun r10 μ11 hr12 => r_k4 ?_)
      refine c_ifnonnull (x := r10) h 131 dX3_rules_124 rfl ?_ ?_
      · refine r_iconst h dX3_rules_127 ?_
        refine r_goto h 132 dX3_rules_128 rfl ?_
        exact r_lv [0, 1, 2, 3, 4] rfl (u_X3_rules_132 h hc lp15 hlp15 _ x0 x1 x2 x3 x4 1 hx2 hx4 (by decide))
      · refine r_iconst h dX3_rules_131 ?_
        exact r_lv [0, 1, 2, 3, 4] rfl (u_X3_rules_132 h hc lp15 hlp15 _ x0 x1 x2 x3 x4 0 hx2 hx4 (by decide))
    · refine r_iload h 4 dX3_rules_71 rfl ?_
      refine c_aload_n (x := x0) h 0 dX3_rules_73 rfl rfl ?_
      refine r_ck (fun ht13 => ?_)
      refine c_getR (fin := true) h hc [3] 3 (zc_lk1 h q446) ht13 (by decide) dX3_rules_74 ?_
      refine r_ck (fun ht14 => ?_)
      refine c_getR (fin := true) h hc [4] 4 (zc_lk3 hc (O := "TreePress$Document") (n := "rules") (ds := "Ljava/util/ArrayList;") (host := "TreePress") (by decide)) ht14 (by decide) dX3_rules_77 ?_
      refine r_iload h 5 dX3_rules_80 rfl ?_
      refine r_ck (fun ht15 => ?_)
      refine c_callV (x := (μ5 (μ5 x0 3) 4)) h hc (As := [iv x5]) (fun o1 e1 => w_lget _ (μ5 (μ5 x0 3) 4) x5 hx5 o1 e1) [40] ht15 (by decide) q843 q844 (fun t ht => by cases List.mem_singleton.mp ht; exact q845) q846 q135 (by omega) (by omega) (zc_sc (iv_cat _) zc_s0) (by omega) (fun z hz => by cases hz) ⟨by decide, by decide⟩ (n := 1) (by decide +kernel) rfl rfl dX3_rules_82 (fun r16 μ17 hr18 => r_k4 ?_)
      refine r_ck (fun ht19 => ?_)
      refine c_cast h hc [10] q801 ht19 (by decide) dX3_rules_85 ?_
      refine c_getR (fin := true) h hc [10] 0 (zc_lk3 hc (O := "TreePress$Rule") (n := "of") (ds := "[B") (host := "TreePress") (by decide)) ht19 (by decide) dX3_rules_88 ?_
      refine c_aload_n (x := x1) h 1 dX3_rules_91 rfl rfl ?_
      refine c_callSN h hc (As := [zc_rv G (μ17 r16 0), zc_rv G x1]) (fun o1 e1 => u_X0_isSame _ (μ17 r16 0) x1 o1 e1) (host := "TreePress") (by decide) q856 q857 q132 (by omega) (by omega) (zc_sc (iv_cat _) zc_s0) (by omega) (fun z hz => by cases hz) ⟨by decide, by decide⟩ (n := 2) (by decide +kernel) rfl rfl dX3_rules_92 (fun r20 μ21 hr22 => r_k3 ?_)
      refine r_if_eq (x := r20) h hr22.r 102 dX3_rules_95 rfl ?_ ?_
      · refine r_iconst h dX3_rules_102 ?_
        refine r_iadd h dX3_rules_103 ?_
        refine r_istore (lv' := [(4, iv (x4 + 0)), (0, zc_rv G x0), (1, zc_rv G x1), (2, iv x2), (3, zc_rv G x3), (5, iv x5)]) h dX3_rules_104 (hN _ (by decide)) (by simp [zc_rv_cat]) ?_
        refine r_iinc (lv' := [(5, iv (x5 + 1)), (4, iv (x4 + 0)), (0, zc_rv G x0), (1, zc_rv G x1), (2, iv x2), (3, zc_rv G x3)]) h 5 dX3_rules_106 rfl (hN _ (by decide)) rfl ?_
        refine r_goto h 56 dX3_rules_109 rfl ?_
        refine r_ck (fun hk23 => ?_)
        refine r_ck (fun hk24 => ?_)
        exact r_lv [2, 3, 4, 5, 1, 0] rfl (ih _ x0 x1 x2 x3 (x4 + 0) (x5 + 1) hx2 hk23 hk24)
      · refine r_iconst h dX3_rules_98 ?_
        refine r_goto h 103 dX3_rules_99 rfl ?_
        refine r_iadd h dX3_rules_103 ?_
        refine r_istore (lv' := [(4, iv (x4 + 1)), (0, zc_rv G x0), (1, zc_rv G x1), (2, iv x2), (3, zc_rv G x3), (5, iv x5)]) h dX3_rules_104 (hN _ (by decide)) (by simp [zc_rv_cat]) ?_
        refine r_iinc (lv' := [(5, iv (x5 + 1)), (4, iv (x4 + 1)), (0, zc_rv G x0), (1, zc_rv G x1), (2, iv x2), (3, zc_rv G x3)]) h 5 dX3_rules_106 rfl (hN _ (by decide)) rfl ?_
        refine r_goto h 56 dX3_rules_109 rfl ?_
        refine r_ck (fun hk25 => ?_)
        refine r_ck (fun hk26 => ?_)
        exact r_lv [2, 3, 4, 5, 1, 0] rfl (ih _ x0 x1 x2 x3 (x4 + 1) (x5 + 1) hx2 hk25 hk26)
def c_X3_rules_15 : Nat → MEM → Int → Int → Option zc_O
  | 0, _, _, _ => none
  | n + 1, μ, x0, x1 => ck (zt [3] (μ x0 (-1)) = true) (bc (c_X3_isNameBehind μ x0) (fun r2 μ3 => if r2 = 0 then (ck (zt [3] (μ3 x0 (-1)) = true) (bc (c_X3_space μ3 x0) (fun r6 μ7 => ck (zt [3] (μ7 x0 (-1)) = true) (bc (c_X2_must μ7 x0 (-3)) (fun _ μ10 => some (0, 0, μ10)))))) else (ck (zt [3] (μ3 x0 (-1)) = true) (bc (c_X2_place μ3 x0) (fun r12 μ13 => ck (1 ≤ μ13 0 1 ∧ (7 : Int) ≤ μ13 0 2) (nu (mnew μ13 10 0 7) (fun μ15 => ck (zt [3] (μ15 x0 (-1)) = true) (bc (c_X2_name μ15 x0) (fun r18 μ19 => ck (zt [3] (μ19 x0 (-1)) = true) (ck (zt [4] (μ19 (μ19 x0 3) (-1)) = true) (ck (zt [40] (μ19 (μ19 (μ19 x0 3) 4) (-1)) = true) (bc (b_lsize μ19 (μ19 (μ19 x0 3) 4)) (fun r24 μ25 => ck (zt [10] (μ25 (μ13 0 0) (-1)) = true) (bc (c_X10_init μ25 (μ13 0 0) x1 r18 r24) (fun _ μ28 => c_X3_rules_56 (c_X3_rules_15 n) zF μ28 x0 x1 r12 (μ13 0 0) 0 0)))))))))))))))
theorem u_X3_rules_15 {C : zv_Cx zc_O} {G : zc_G} {μ0 : MEM} (h : zv_Ok C cX3_rules "TreePress$Parser") (hc : zc_C C G μ0 6 (Option.none : Option FieldType) 0 11 231 "rules" []) : ∀ (n : Nat) (μ : MEM) (x0 x1 : Int), VV C (c_X3_rules_15 n μ x0 x1) μ [(0, zc_rv G x0), (1, zc_rv G x1)] [] 15 := by
  have hN : ∀ i, i < 6 → i < zv_n C := fun i q => by rw [hc.2.1]; exact q
  intro n
  induction n with
  | zero => intros; exact r_none
  | succ n ih =>
    intro μ x0 x1 
    rw [c_X3_rules_15]
    refine c_aload_n (x := x0) h 0 dX3_rules_15 rfl rfl ?_
    refine r_ck (fun ht1 => ?_)
    refine c_callV (x := x0) h hc (As := []) (fun o1 e1 => u_X3_isNameBehind _ x0 o1 e1) [3] ht1 (by decide) q796 q798 (fun t ht => by cases List.mem_singleton.mp ht; exact qs17) q799 q138 (by omega) (by omega) zc_s0 (by omega) (fun z hz => by cases hz) ⟨by decide, by decide⟩ (n := 0) (by decide +kernel) rfl rfl dX3_rules_16 (fun r2 μ3 hr4 => r_k3 ?_)
    refine r_if_eq (x := r2) h hr4.r 220 dX3_rules_19 rfl ?_ ?_
    · refine c_aload_n (x := x0) h 0 dX3_rules_220 rfl rfl ?_
      refine r_ck (fun ht5 => ?_)
      refine c_callV (x := x0) h hc (As := []) (fun o1 e1 => u_X3_space _ x0 o1 e1) [3] ht5 (by decide) q479 q481 (fun t ht => by cases List.mem_singleton.mp ht; exact qs5) q482 q138 (by omega) (by omega) zc_s0 (by omega) (fun z hz => by cases hz) ⟨by decide, by decide⟩ (n := 0) (by decide +kernel) rfl rfl dX3_rules_221 (fun r6 μ7 hr8 => r_k3 ?_)
      refine r_pop h dX3_rules_224 (iv_cat _) ?_
      refine c_aload_n (x := x0) h 0 dX3_rules_225 rfl rfl ?_
      refine c_ldcs (tx := ">") h hc 3 (by decide) (-3) rfl (by decide) dX3_rules_226 ?_
      refine r_ck (fun ht9 => ?_)
      refine c_callU (x := x0) (xm := ⟨"TreePress$Parser", "must", "(Ljava/lang/String;)V"⟩) (owner := "TreePress$Reader") h hc (As := [zc_rv G (-3)]) (fun o1 e1 => u_X2_must _ x0 (-3) o1 e1) [3] ht9 (by decide) q563 q564 (va_Decl.of (h.2.2.2.2 _ q567) (h.2.2.2.2 _ q568)) ⟨by decide, by decide⟩ q567 (fun t ht => by cases List.mem_singleton.mp ht; exact q566) q568 q137 (by omega) (by omega) zc_s0 (by omega) (fun z hz => by cases hz) (n := 1) (by decide +kernel) rfl rfl dX3_rules_228 (fun _ μ10 _ => r_k0 ?_)
      exact c_vret h hc rfl dX3_rules_231
    · refine c_aload_n (x := x0) h 0 dX3_rules_22 rfl rfl ?_
      refine r_ck (fun ht11 => ?_)
      refine c_callU (x := x0) (xm := ⟨"TreePress$Parser", "place", "()I"⟩) (owner := "TreePress$Reader") h hc (As := []) (fun o1 e1 => u_X2_place _ x0 o1 e1) [3] ht11 (by decide) q483 q484 (va_Decl.of (h.2.2.2.2 _ q487) (h.2.2.2.2 _ q488)) ⟨by decide, by decide⟩ q487 (fun t ht => by cases List.mem_singleton.mp ht; exact q486) q488 q137 (by omega) (by omega) zc_s0 (by omega) (fun z hz => by cases hz) (n := 0) (by decide +kernel) rfl rfl dX3_rules_23 (fun r12 μ13 hr14 => r_k1 ?_)
      refine r_istore_n (i := 2) (lv' := [(2, iv r12), (0, zc_rv G x0), (1, zc_rv G x1)]) h dX3_rules_26 rfl (hN _ (by decide)) (by simp [zc_rv_cat]) ?_
      refine c_new h hc 10 (N := 7) rfl (by decide) q801 q802 q156 dX3_rules_27 (fun _ μ15 he16 => ?_)
      refine r_dup h dX3_rules_30 (zc_rv_cat G _) ?_
      refine c_aload_n (x := x1) h 2 dX3_rules_31 rfl rfl ?_
      refine c_aload_n (x := x0) h 1 dX3_rules_32 rfl rfl ?_
      refine r_ck (fun ht17 => ?_)
      refine c_callU (x := x0) (xm := ⟨"TreePress$Parser", "name", "()[B"⟩) (owner := "TreePress$Reader") h hc (As := []) (fun o1 e1 => u_X2_name _ x0 o1 e1) [3] ht17 (by decide) q662 q663 (va_Decl.of (h.2.2.2.2 _ q666) (h.2.2.2.2 _ q667)) ⟨by decide, by decide⟩ q666 (fun t ht => by cases List.mem_singleton.mp ht; exact q665) q667 q137 (by omega) (by omega) (zc_sc (zc_rv_cat G _) (zc_sc (zc_rv_cat G _) (zc_sc (zc_rv_cat G _) zc_s0))) (by omega) (fun z hz => by cases hz) (n := 0) (by decide +kernel) rfl rfl dX3_rules_33 (fun r18 μ19 hr20 => r_k4 ?_)
      refine c_aload_n (x := x0) h 1 dX3_rules_36 rfl rfl ?_
      refine r_ck (fun ht21 => ?_)
      refine c_getR (fin := true) h hc [3] 3 (zc_lk1 h q446) ht21 (by decide) dX3_rules_37 ?_
      refine r_ck (fun ht22 => ?_)
      refine c_getR (fin := true) h hc [4] 4 (zc_lk3 hc (O := "TreePress$Document") (n := "rules") (ds := "Ljava/util/ArrayList;") (host := "TreePress") (by decide)) ht22 (by decide) dX3_rules_40 ?_
      refine r_ck (fun ht23 => ?_)
      refine c_callV (x := (μ19 (μ19 x0 3) 4)) h hc (As := []) (fun o1 e1 => w_lsize _ (μ19 (μ19 x0 3) 4) o1 e1) [40] ht23 (by decide) q695 q343 (fun t ht => by cases List.mem_singleton.mp ht; exact q344) q345 q135 (by omega) (by omega) (zc_sc (zc_rv_cat G _) (zc_sc (zc_rv_cat G _) (zc_sc (zc_rv_cat G _) (zc_sc (zc_rv_cat G _) zc_s0)))) (by omega) (fun z hz => by cases hz) ⟨by decide, by decide⟩ (n := 0) (by decide +kernel) rfl rfl dX3_rules_43 (fun r24 μ25 hr26 => r_k1 ?_)
      refine r_ck (fun ht27 => ?_)
      refine c_callI (x := (μ13 0 0)) h hc (As := [zc_rv G x1, zc_rv G r18, iv r24]) (fun o1 e1 => u_X10_init _ (μ13 0 0) x1 r18 r24 hr26 o1 e1) [10] ht27 (by decide) q803 q804 rfl q805 q156 (by omega) (by omega) (zc_sc (zc_rv_cat G _) zc_s0) (by omega) (fun z hz => by cases hz) ⟨by decide, by decide⟩ (n := 3) (by decide +kernel) rfl rfl dX3_rules_46 (fun _ μ28 _ => r_k0 ?_)
      refine c_astore_n (i := 3) (lv' := [(3, zc_rv G (μ13 0 0)), (2, iv r12), (0, zc_rv G x0), (1, zc_rv G x1)]) h dX3_rules_49 rfl (hN _ (by decide)) rfl ?_
      refine r_iconst h dX3_rules_50 ?_
      refine r_istore (lv' := [(4, iv 0), (3, zc_rv G (μ13 0 0)), (2, iv r12), (0, zc_rv G x0), (1, zc_rv G x1)]) h dX3_rules_51 (hN _ (by decide)) (by simp [zc_rv_cat]) ?_
      refine r_iconst h dX3_rules_53 ?_
      refine r_istore (lv' := [(5, iv 0), (4, iv 0), (3, zc_rv G (μ13 0 0)), (2, iv r12), (0, zc_rv G x0), (1, zc_rv G x1)]) h dX3_rules_54 (hN _ (by decide)) rfl ?_
      exact r_lv [4, 5, 3, 2, 1, 0] rfl (u_X3_rules_56 h hc (c_X3_rules_15 n) ih zF _ x0 x1 r12 (μ13 0 0) 0 0 hr14 (by decide) (by decide))
def c_X3_rules (μ : MEM) (a0 : Int) : Option zc_O := ck (zt [3] (μ a0 (-1)) = true) (bc (c_X2_must μ a0 (-15)) (fun _ μ2 => ck (zt [3] (μ2 a0 (-1)) = true) (bc (c_X3_mustSpace μ2 a0) (fun _ μ4 => ck (zt [3] (μ4 a0 (-1)) = true) (bc (c_X2_name μ4 a0) (fun r6 μ7 => c_X3_rules_15 zF μ7 a0 r6))))))
theorem u_X3_rules {G : zc_G} (μ : MEM) (a0 : Int) (o : zc_O) (hd : c_X3_rules μ a0 = some o) : zc_Met G yX3_rules cX3_rules 6 (Option.none : Option FieldType) 0 11 231 μ [zc_rv G a0] o := by
  refine zc_intro hd (by decide) (by simp [lg_sl, zc_rv_cat, iv_cat, jv_cat]) (lv := [(0, zc_rv G a0)]) (by simp [lv_args, zc_rv_cat, iv_cat, jv_cat]) (fun C h hc => ?_)
  have h : zv_Ok C cX3_rules "TreePress$Parser" := h
  have hc : zc_C C G μ 6 (Option.none : Option FieldType) 0 11 231 "rules" [] := hc
  have hN : ∀ i, i < 6 → i < zv_n C := fun i q => by rw [hc.2.1]; exact q
  unfold c_X3_rules
  refine c_aload_n (x := a0) h 0 dX3_rules_0 rfl rfl ?_
  refine c_ldcs (tx := "<!ATTLIST") h hc 15 (by decide) (-15) rfl (by decide) dX3_rules_1 ?_
  refine r_ck (fun ht1 => ?_)
  refine c_callU (x := a0) (xm := ⟨"TreePress$Parser", "must", "(Ljava/lang/String;)V"⟩) (owner := "TreePress$Reader") h hc (As := [zc_rv G (-15)]) (fun o1 e1 => u_X2_must _ a0 (-15) o1 e1) [3] ht1 (by decide) q563 q564 (va_Decl.of (h.2.2.2.2 _ q567) (h.2.2.2.2 _ q568)) ⟨by decide, by decide⟩ q567 (fun t ht => by cases List.mem_singleton.mp ht; exact q566) q568 q137 (by omega) (by omega) zc_s0 (by omega) (fun z hz => by cases hz) (n := 1) (by decide +kernel) rfl rfl dX3_rules_3 (fun _ μ2 _ => r_k0 ?_)
  refine c_aload_n (x := a0) h 0 dX3_rules_6 rfl rfl ?_
  refine r_ck (fun ht3 => ?_)
  refine c_callV (x := a0) h hc (As := []) (fun o1 e1 => u_X3_mustSpace _ a0 o1 e1) [3] ht3 (by decide) q658 q660 (fun t ht => by cases List.mem_singleton.mp ht; exact qs9) q661 q138 (by omega) (by omega) zc_s0 (by omega) (fun z hz => by cases hz) ⟨by decide, by decide⟩ (n := 0) (by decide +kernel) rfl rfl dX3_rules_7 (fun _ μ4 _ => r_k0 ?_)
  refine c_aload_n (x := a0) h 0 dX3_rules_10 rfl rfl ?_
  refine r_ck (fun ht5 => ?_)
  refine c_callU (x := a0) (xm := ⟨"TreePress$Parser", "name", "()[B"⟩) (owner := "TreePress$Reader") h hc (As := []) (fun o1 e1 => u_X2_name _ a0 o1 e1) [3] ht5 (by decide) q662 q663 (va_Decl.of (h.2.2.2.2 _ q666) (h.2.2.2.2 _ q667)) ⟨by decide, by decide⟩ q666 (fun t ht => by cases List.mem_singleton.mp ht; exact q665) q667 q137 (by omega) (by omega) zc_s0 (by omega) (fun z hz => by cases hz) (n := 0) (by decide +kernel) rfl rfl dX3_rules_11 (fun r6 μ7 hr8 => r_k4 ?_)
  refine c_astore_n (i := 1) (lv' := [(1, zc_rv G r6), (0, zc_rv G a0)]) h dX3_rules_14 rfl (hN _ (by decide)) (by simp [zc_rv_cat]) ?_
  exact r_lv [1, 0] rfl (u_X3_rules_15 h hc zF _ a0 r6)
