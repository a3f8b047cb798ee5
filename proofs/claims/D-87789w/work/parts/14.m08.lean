set_option maxRecDepth 100000
set_option maxHeartbeats 1000000
/-! methods of the class side: decode rows, denotations c_.., walks u_.. (written by wip/gen/cmain.py) -/
theorem dX3_doctype_0 : decode cX3_doctype 0 = .ok (.aload_n 0, 1) := by decide +kernel
theorem dX3_doctype_1 : decode cX3_doctype 1 = .ok (.ldc 78, 2) := by decide +kernel
theorem dX3_doctype_3 : decode cX3_doctype 3 = .ok (.invokevirtual 57, 3) := by decide +kernel
theorem dX3_doctype_6 : decode cX3_doctype 6 = .ok (.aload_n 0, 1) := by decide +kernel
theorem dX3_doctype_7 : decode cX3_doctype 7 = .ok (.invokevirtual 110, 3) := by decide +kernel
theorem dX3_doctype_10 : decode cX3_doctype 10 = .ok (.aload_n 0, 1) := by decide +kernel
theorem dX3_doctype_11 : decode cX3_doctype 11 = .ok (.getfield 14, 3) := by decide +kernel
theorem dX3_doctype_14 : decode cX3_doctype 14 = .ok (.aload_n 0, 1) := by decide +kernel
theorem dX3_doctype_15 : decode cX3_doctype 15 = .ok (.invokevirtual 113, 3) := by decide +kernel
theorem dX3_doctype_18 : decode cX3_doctype 18 = .ok (.putfield 103, 3) := by decide +kernel
theorem dX3_doctype_21 : decode cX3_doctype 21 = .ok (.aload_n 0, 1) := by decide +kernel
theorem dX3_doctype_22 : decode cX3_doctype 22 = .ok (.invokevirtual 46, 3) := by decide +kernel
theorem dX3_doctype_25 : decode cX3_doctype 25 = .ok (.pop, 1) := by decide +kernel
theorem dX3_doctype_26 : decode cX3_doctype 26 = .ok (.aload_n 0, 1) := by decide +kernel
theorem dX3_doctype_27 : decode cX3_doctype 27 = .ok (.ldc 117, 2) := by decide +kernel
theorem dX3_doctype_29 : decode cX3_doctype 29 = .ok (.invokevirtual 57, 3) := by decide +kernel
theorem dX3_doctype_32 : decode cX3_doctype 32 = .ok (.aload_n 0, 1) := by decide +kernel
theorem dX3_doctype_33 : decode cX3_doctype 33 = .ok (.ldc 119, 2) := by decide +kernel
theorem dX3_doctype_35 : decode cX3_doctype 35 = .ok (.invokevirtual 63, 3) := by decide +kernel
theorem dX3_doctype_38 : decode cX3_doctype 38 = .ok (.ifCond .ne 82, 3) := by decide +kernel
theorem dX3_doctype_41 : decode cX3_doctype 41 = .ok (.aload_n 0, 1) := by decide +kernel
theorem dX3_doctype_42 : decode cX3_doctype 42 = .ok (.invokevirtual 35, 3) := by decide +kernel
theorem dX3_doctype_45 : decode cX3_doctype 45 = .ok (.invokestatic 38, 3) := by decide +kernel
theorem dX3_doctype_48 : decode cX3_doctype 48 = .ok (.ifCond .eq 11, 3) := by decide +kernel
theorem dX3_doctype_51 : decode cX3_doctype 51 = .ok (.aload_n 0, 1) := by decide +kernel
theorem dX3_doctype_52 : decode cX3_doctype 52 = .ok (.invokevirtual 46, 3) := by decide +kernel
theorem dX3_doctype_55 : decode cX3_doctype 55 = .ok (.pop, 1) := by decide +kernel
theorem dX3_doctype_56 : decode cX3_doctype 56 = .ok (.goto (-24), 3) := by decide +kernel
theorem dX3_doctype_59 : decode cX3_doctype 59 = .ok (.aload_n 0, 1) := by decide +kernel
theorem dX3_doctype_60 : decode cX3_doctype 60 = .ok (.ldc 55, 2) := by decide +kernel
theorem dX3_doctype_62 : decode cX3_doctype 62 = .ok (.invokevirtual 63, 3) := by decide +kernel
theorem dX3_doctype_65 : decode cX3_doctype 65 = .ok (.ifCond .eq 10, 3) := by decide +kernel
theorem dX3_doctype_68 : decode cX3_doctype 68 = .ok (.aload_n 0, 1) := by decide +kernel
theorem dX3_doctype_69 : decode cX3_doctype 69 = .ok (.invokevirtual 72, 3) := by decide +kernel
theorem dX3_doctype_72 : decode cX3_doctype 72 = .ok (.goto (-40), 3) := by decide +kernel
theorem dX3_doctype_75 : decode cX3_doctype 75 = .ok (.aload_n 0, 1) := by decide +kernel
theorem dX3_doctype_76 : decode cX3_doctype 76 = .ok (.ldc 121, 2) := by decide +kernel
theorem dX3_doctype_78 : decode cX3_doctype 78 = .ok (.invokevirtual 63, 3) := by decide +kernel
theorem dX3_doctype_81 : decode cX3_doctype 81 = .ok (.ifCond .eq 10, 3) := by decide +kernel
theorem dX3_doctype_84 : decode cX3_doctype 84 = .ok (.aload_n 0, 1) := by decide +kernel
theorem dX3_doctype_85 : decode cX3_doctype 85 = .ok (.invokevirtual 123, 3) := by decide +kernel
theorem dX3_doctype_88 : decode cX3_doctype 88 = .ok (.goto (-56), 3) := by decide +kernel
theorem dX3_doctype_91 : decode cX3_doctype 91 = .ok (.aload_n 0, 1) := by decide +kernel
theorem dX3_doctype_92 : decode cX3_doctype 92 = .ok (.ldc 126, 2) := by decide +kernel
theorem dX3_doctype_94 : decode cX3_doctype 94 = .ok (.invokevirtual 63, 3) := by decide +kernel
theorem dX3_doctype_97 : decode cX3_doctype 97 = .ok (.ifCond .eq 10, 3) := by decide +kernel
theorem dX3_doctype_100 : decode cX3_doctype 100 = .ok (.aload_n 0, 1) := by decide +kernel
theorem dX3_doctype_101 : decode cX3_doctype 101 = .ok (.invokevirtual 128, 3) := by decide +kernel
theorem dX3_doctype_104 : decode cX3_doctype 104 = .ok (.goto (-72), 3) := by decide +kernel
theorem dX3_doctype_107 : decode cX3_doctype 107 = .ok (.new 50, 3) := by decide +kernel
theorem dX3_doctype_110 : decode cX3_doctype 110 = .ok (.dup, 1) := by decide +kernel
theorem dX3_doctype_111 : decode cX3_doctype 111 = .ok (.iconst (-1), 1) := by decide +kernel
theorem dX3_doctype_112 : decode cX3_doctype 112 = .ok (.aload_n 0, 1) := by decide +kernel
theorem dX3_doctype_113 : decode cX3_doctype 113 = .ok (.invokevirtual 31, 3) := by decide +kernel
theorem dX3_doctype_116 : decode cX3_doctype 116 = .ok (.invokespecial 52, 3) := by decide +kernel
theorem dX3_doctype_119 : decode cX3_doctype 119 = .ok (.athrow, 1) := by decide +kernel
theorem dX3_doctype_120 : decode cX3_doctype 120 = .ok (.aload_n 0, 1) := by decide +kernel
theorem dX3_doctype_121 : decode cX3_doctype 121 = .ok (.ldc 119, 2) := by decide +kernel
theorem dX3_doctype_123 : decode cX3_doctype 123 = .ok (.invokevirtual 57, 3) := by decide +kernel
theorem dX3_doctype_126 : decode cX3_doctype 126 = .ok (.aload_n 0, 1) := by decide +kernel
theorem dX3_doctype_127 : decode cX3_doctype 127 = .ok (.invokevirtual 46, 3) := by decide +kernel
theorem dX3_doctype_130 : decode cX3_doctype 130 = .ok (.pop, 1) := by decide +kernel
theorem dX3_doctype_131 : decode cX3_doctype 131 = .ok (.aload_n 0, 1) := by decide +kernel
theorem dX3_doctype_132 : decode cX3_doctype 132 = .ok (.ldc 70, 2) := by decide +kernel
theorem dX3_doctype_134 : decode cX3_doctype 134 = .ok (.invokevirtual 57, 3) := by decide +kernel
theorem dX3_doctype_137 : decode cX3_doctype 137 = .ok (.return_, 1) := by decide +kernel
def c_X3_doctype_32 : Nat → MEM → Int → Option zc_O
  | 0, _, _ => none
  | n + 1, μ, x0 => ck (zt [3] (μ x0 (-1)) = true) (bc (c_X2_isAt μ x0 (-6)) (fun r2 μ3 => if r2 = 0 then (ck (zt [3] (μ3 x0 (-1)) = true) (bc (c_X2_here μ3 x0) (fun r6 μ7 => bc (c_X0_isSpace μ7 r6) (fun r9 μ10 => if r9 = 0 then (ck (zt [3] (μ10 x0 (-1)) = true) (bc (c_X2_isAt μ10 x0 (-1)) (fun r13 μ14 => if r13 = 0 then (ck (zt [3] (μ14 x0 (-1)) = true) (bc (c_X2_isAt μ14 x0 (-7)) (fun r17 μ18 => if r17 = 0 then (ck (zt [3] (μ18 x0 (-1)) = true) (bc (c_X2_isAt μ18 x0 (-15)) (fun r21 μ22 => if r21 = 0 then (ck (1 ≤ μ22 0 1 ∧ (8 : Int) ≤ μ22 0 2) (nu (mnew μ22 22 0 8) (fun μ24 => ck (zt [3] (μ24 x0 (-1)) = true) (bc (c_X2_place μ24 x0) (fun r27 μ28 => ck (zt [22] (μ28 (μ22 0 0) (-1)) = true) (bc (b_finit μ28 (μ22 0 0) (-1) r27) (fun _ μ31 => ck (0 < (μ22 0 0)) (some (1, (μ22 0 0), μ31))))))))) else (ck (zt [3] (μ22 x0 (-1)) = true) (bc (c_X3_rules μ22 x0) (fun _ μ33 => c_X3_doctype_32 n μ33 x0)))))) else (ck (zt [3] (μ18 x0 (-1)) = true) (bc (c_X3_specs μ18 x0) (fun _ μ35 => c_X3_doctype_32 n μ35 x0)))))) else (ck (zt [3] (μ14 x0 (-1)) = true) (bc (c_X3_comment μ14 x0) (fun _ μ37 => c_X3_doctype_32 n μ37 x0)))))) else (ck (zt [3] (μ10 x0 (-1)) = true) (bc (c_X3_space μ10 x0) (fun r39 μ40 => c_X3_doctype_32 n μ40 x0))))))) else (ck (zt [3] (μ3 x0 (-1)) = true) (bc (c_X2_must μ3 x0 (-6)) (fun _ μ43 => ck (zt [3] (μ43 x0 (-1)) = true) (bc (c_X3_space μ43 x0) (fun r45 μ46 => ck (zt [3] (μ46 x0 (-1)) = true) (bc (c_X2_must μ46 x0 (-3)) (fun _ μ49 => some (0, 0, μ49))))))))))
theorem u_X3_doctype_32 {C : zv_Cx zc_O} {G : zc_G} {μ0 : MEM} (h : zv_Ok C cX3_doctype "TreePress$Parser") (hc : zc_C C G μ0 1 (Option.none : Option FieldType) 0 99 2071 "doctype" []) : ∀ (n : Nat) (μ : MEM) (x0 : Int), VV C (c_X3_doctype_32 n μ x0) μ [(0, zc_rv G x0)] [] 32 := by
  have hN : ∀ i, i < 1 → i < zv_n C := fun i q => by rw [hc.2.1]; exact q
  intro n
  induction n with
  | zero => intros; exact r_none
  | succ n ih =>
    intro μ x0 
    rw [c_X3_doctype_32]
    refine c_aload_n (x := x0) h 0 dX3_doctype_32 rfl rfl ?_
    refine c_ldcs (tx := "]") h hc 6 (by decide) (-6) rfl (by decide) dX3_doctype_33 ?_
    refine r_ck (fun ht1 => ?_)
    refine c_callU (x := x0) (xm := ⟨"TreePress$Parser", "isAt", "(Ljava/lang/String;)Z"⟩) (owner := "TreePress$Reader") h hc (As := [zc_rv G (-6)]) (fun o1 e1 => u_X2_isAt _ x0 (-6) o1 e1) [3] ht1 (by decide) q505 q506 (va_Decl.of (h.2.2.2.2 _ q509) (h.2.2.2.2 _ q510)) ⟨by decide, by decide⟩ q509 (fun t ht => by cases List.mem_singleton.mp ht; exact q508) q510 q137 (by omega) (by omega) zc_s0 (by omega) (fun z hz => by cases hz) (n := 1) (by decide +kernel) rfl rfl dX3_doctype_35 (fun r2 μ3 hr4 => r_k3 ?_)
    refine r_if_ne (x := r2) h hr4.r 120 dX3_doctype_38 rfl ?_ ?_
    · refine c_aload_n (x := x0) h 0 dX3_doctype_41 rfl rfl ?_
      refine r_ck (fun ht5 => ?_)
      refine c_callU (x := x0) (xm := ⟨"TreePress$Parser", "here", "()I"⟩) (owner := "TreePress$Reader") h hc (As := []) (fun o1 e1 => u_X2_here _ x0 o1 e1) [3] ht5 (by decide) q489 q490 (va_Decl.of (h.2.2.2.2 _ q493) (h.2.2.2.2 _ q494)) ⟨by decide, by decide⟩ q493 (fun t ht => by cases List.mem_singleton.mp ht; exact q492) q494 q137 (by omega) (by omega) zc_s0 (by omega) (fun z hz => by cases hz) (n := 0) (by decide +kernel) rfl rfl dX3_doctype_42 (fun r6 μ7 hr8 => r_k1 ?_)
      refine c_callSN h hc (As := [iv r6]) (fun o1 e1 => u_X0_isSpace _ r6 hr8 o1 e1) (host := "TreePress") (by decide) q496 q497 q132 (by omega) (by omega) zc_s0 (by omega) (fun z hz => by cases hz) ⟨by decide, by decide⟩ (n := 1) (by decide +kernel) rfl rfl dX3_doctype_45 (fun r9 μ10 hr11 => r_k3 ?_)
      refine r_if_eq (x := r9) h hr11.r 59 dX3_doctype_48 rfl ?_ ?_
      · refine c_aload_n (x := x0) h 0 dX3_doctype_59 rfl rfl ?_
        refine c_ldcs (tx := "<!--") h hc 1 (by decide) (-1) rfl (by decide) dX3_doctype_60 ?_
        refine r_ck (fun ht12 => ?_)
        refine c_callU (x := x0) (xm := ⟨"TreePress$Parser", "isAt", "(Ljava/lang/String;)Z"⟩) (owner := "TreePress$Reader") h hc (As := [zc_rv G (-1)]) (fun o1 e1 => u_X2_isAt _ x0 (-1) o1 e1) [3] ht12 (by decide) q505 q506 (va_Decl.of (h.2.2.2.2 _ q509) (h.2.2.2.2 _ q510)) ⟨by decide, by decide⟩ q509 (fun t ht => by cases List.mem_singleton.mp ht; exact q508) q510 q137 (by omega) (by omega) zc_s0 (by omega) (fun z hz => by cases hz) (n := 1) (by decide +kernel) rfl rfl dX3_doctype_62 (fun r13 μ14 hr15 => r_k3 ?_)
        refine r_if_eq (x := r13) h hr15.r 75 dX3_doctype_65 rfl ?_ ?_
        · refine c_aload_n (x := x0) h 0 dX3_doctype_75 rfl rfl ?_
          refine c_ldcs (tx := "<!ELEMENT") h hc 7 (by decide) (-7) rfl (by decide) dX3_doctype_76 ?_
          refine r_ck (fun ht16 => ?_)
          refine c_callU (x := x0) (xm := ⟨"TreePress$Parser", "isAt", "(Ljava/lang/String;)Z"⟩) (owner := "TreePress$Reader") h hc (As := [zc_rv G (-7)]) (fun o1 e1 => u_X2_isAt _ x0 (-7) o1 e1) [3] ht16 (by decide) q505 q506 (va_Decl.of (h.2.2.2.2 _ q509) (h.2.2.2.2 _ q510)) ⟨by decide, by decide⟩ q509 (fun t ht => by cases List.mem_singleton.mp ht; exact q508) q510 q137 (by omega) (by omega) zc_s0 (by omega) (fun z hz => by cases hz) (n := 1) (by decide +kernel) rfl rfl dX3_doctype_78 (fun r17 μ18 hr19 => r_k3 ?_)
          refine r_if_eq (x := r17) h hr19.r 91 dX3_doctype_81 rfl ?_ ?_
          · refine c_aload_n (x := x0) h 0 dX3_doctype_91 rfl rfl ?_
            refine c_ldcs (tx := "<!ATTLIST") h hc 15 (by decide) (-15) rfl (by decide) dX3_doctype_92 ?_
            refine r_ck (fun ht20 => ?_)
            refine c_callU (x := x0) (xm := ⟨"TreePress$Parser", "isAt", "(Ljava/lang/String;)Z"⟩) (owner := "TreePress$Reader") h hc (As := [zc_rv G (-15)]) (fun o1 e1 => u_X2_isAt _ x0 (-15) o1 e1) [3] ht20 (by decide) q505 q506 (va_Decl.of (h.2.2.2.2 _ q509) (h.2.2.2.2 _ q510)) ⟨by decide, by decide⟩ q509 (fun t ht => by cases List.mem_singleton.mp ht; exact q508) q510 q137 (by omega) (by omega) zc_s0 (by omega) (fun z hz => by cases hz) (n := 1) (by decide +kernel) rfl rfl dX3_doctype_94 (fun r21 μ22 hr23 => r_k3 ?_)
            refine r_if_eq (x := r21) h hr23.r 107 dX3_doctype_97 rfl ?_ ?_
            · refine c_newF h hc q650 q577 q153 dX3_doctype_107 (fun _ μ24 he25 => ?_)
              refine r_dup h dX3_doctype_110 (zc_rv_cat G _) ?_
              refine r_iconst h dX3_doctype_111 ?_
              refine c_aload_n (x := x0) h 0 dX3_doctype_112 rfl rfl ?_
              refine r_ck (fun ht26 => ?_)
              refine c_callU (x := x0) (xm := ⟨"TreePress$Parser", "place", "()I"⟩) (owner := "TreePress$Reader") h hc (As := []) (fun o1 e1 => u_X2_place _ x0 o1 e1) [3] ht26 (by decide) q483 q484 (va_Decl.of (h.2.2.2.2 _ q487) (h.2.2.2.2 _ q488)) ⟨by decide, by decide⟩ q487 (fun t ht => by cases List.mem_singleton.mp ht; exact q486) q488 q137 (by omega) (by omega) (zc_sc (iv_cat _) (zc_sc (zc_rv_cat G _) (zc_sc (zc_rv_cat G _) zc_s0))) (by omega) (fun z hz => by cases hz) (n := 0) (by decide +kernel) rfl rfl dX3_doctype_113 (fun r27 μ28 hr29 => r_k1 ?_)
              refine r_ck (fun ht30 => ?_)
              refine c_callI (x := (μ22 0 0)) h hc (As := [iv (-1), iv r27]) (fun o1 e1 => w_finit _ (μ22 0 0) (-1) r27 (by decide) hr29 o1 e1) [22] ht30 (by decide) q651 q616 rfl q617 q153 (by omega) (by omega) (zc_sc (zc_rv_cat G _) zc_s0) (by omega) (fun z hz => by cases hz) ⟨by decide, by decide⟩ (n := 2) (by decide +kernel) rfl rfl dX3_doctype_116 (fun _ μ31 _ => r_k0 ?_)
              exact c_athrow h hc (fun z hz => by cases hz) dX3_doctype_119
            · refine c_aload_n (x := x0) h 0 dX3_doctype_100 rfl rfl ?_
              refine r_ck (fun ht32 => ?_)
              refine c_callV (x := x0) h hc (As := []) (fun o1 e1 => u_X3_rules _ x0 o1 e1) [3] ht32 (by decide) q792 q794 (fun t ht => by cases List.mem_singleton.mp ht; exact qs16) q795 q138 (by omega) (by omega) zc_s0 (by omega) (fun z hz => by cases hz) ⟨by decide, by decide⟩ (n := 0) (by decide +kernel) rfl rfl dX3_doctype_101 (fun _ μ33 _ => r_k0 ?_)
              refine r_goto h 32 dX3_doctype_104 rfl ?_
              exact r_lv [0] rfl (ih _ x0)
          · refine c_aload_n (x := x0) h 0 dX3_doctype_84 rfl rfl ?_
            refine r_ck (fun ht34 => ?_)
            refine c_callV (x := x0) h hc (As := []) (fun o1 e1 => u_X3_specs _ x0 o1 e1) [3] ht34 (by decide) q691 q693 (fun t ht => by cases List.mem_singleton.mp ht; exact qs10) q694 q138 (by omega) (by omega) zc_s0 (by omega) (fun z hz => by cases hz) ⟨by decide, by decide⟩ (n := 0) (by decide +kernel) rfl rfl dX3_doctype_85 (fun _ μ35 _ => r_k0 ?_)
            refine r_goto h 32 dX3_doctype_88 rfl ?_
            exact r_lv [0] rfl (ih _ x0)
        · refine c_aload_n (x := x0) h 0 dX3_doctype_68 rfl rfl ?_
          refine r_ck (fun ht36 => ?_)
          refine c_callV (x := x0) h hc (As := []) (fun o1 e1 => u_X3_comment _ x0 o1 e1) [3] ht36 (by decide) q559 q561 (fun t ht => by cases List.mem_singleton.mp ht; exact qs6) q562 q138 (by omega) (by omega) zc_s0 (by omega) (fun z hz => by cases hz) ⟨by decide, by decide⟩ (n := 0) (by decide +kernel) rfl rfl dX3_doctype_69 (fun _ μ37 _ => r_k0 ?_)
          refine r_goto h 32 dX3_doctype_72 rfl ?_
          exact r_lv [0] rfl (ih _ x0)
      · refine c_aload_n (x := x0) h 0 dX3_doctype_51 rfl rfl ?_
        refine r_ck (fun ht38 => ?_)
        refine c_callV (x := x0) h hc (As := []) (fun o1 e1 => u_X3_space _ x0 o1 e1) [3] ht38 (by decide) q479 q481 (fun t ht => by cases List.mem_singleton.mp ht; exact qs5) q482 q138 (by omega) (by omega) zc_s0 (by omega) (fun z hz => by cases hz) ⟨by decide, by decide⟩ (n := 0) (by decide +kernel) rfl rfl dX3_doctype_52 (fun r39 μ40 hr41 => r_k3 ?_)
        refine r_pop h dX3_doctype_55 (iv_cat _) ?_
        refine r_goto h 32 dX3_doctype_56 rfl ?_
        exact r_lv [0] rfl (ih _ x0)
    · refine c_aload_n (x := x0) h 0 dX3_doctype_120 rfl rfl ?_
      refine c_ldcs (tx := "]") h hc 6 (by decide) (-6) rfl (by decide) dX3_doctype_121 ?_
      refine r_ck (fun ht42 => ?_)
      refine c_callU (x := x0) (xm := ⟨"TreePress$Parser", "must", "(Ljava/lang/String;)V"⟩) (owner := "TreePress$Reader") h hc (As := [zc_rv G (-6)]) (fun o1 e1 => u_X2_must _ x0 (-6) o1 e1) [3] ht42 (by decide) q563 q564 (va_Decl.of (h.2.2.2.2 _ q567) (h.2.2.2.2 _ q568)) ⟨by decide, by decide⟩ q567 (fun t ht => by cases List.mem_singleton.mp ht; exact q566) q568 q137 (by omega) (by omega) zc_s0 (by omega) (fun z hz => by cases hz) (n := 1) (by decide +kernel) rfl rfl dX3_doctype_123 (fun _ μ43 _ => r_k0 ?_)
      refine c_aload_n (x := x0) h 0 dX3_doctype_126 rfl rfl ?_
      refine r_ck (fun ht44 => ?_)
      refine c_callV (x := x0) h hc (As := []) (fun o1 e1 => u_X3_space _ x0 o1 e1) [3] ht44 (by decide) q479 q481 (fun t ht => by cases List.mem_singleton.mp ht; exact qs5) q482 q138 (by omega) (by omega) zc_s0 (by omega) (fun z hz => by cases hz) ⟨by decide, by decide⟩ (n := 0) (by decide +kernel) rfl rfl dX3_doctype_127 (fun r45 μ46 hr47 => r_k3 ?_)
      refine r_pop h dX3_doctype_130 (iv_cat _) ?_
      refine c_aload_n (x := x0) h 0 dX3_doctype_131 rfl rfl ?_
      refine c_ldcs (tx := ">") h hc 3 (by decide) (-3) rfl (by decide) dX3_doctype_132 ?_
      refine r_ck (fun ht48 => ?_)
      refine c_callU (x := x0) (xm := ⟨"TreePress$Parser", "must", "(Ljava/lang/String;)V"⟩) (owner := "TreePress$Reader") h hc (As := [zc_rv G (-3)]) (fun o1 e1 => u_X2_must _ x0 (-3) o1 e1) [3] ht48 (by decide) q563 q564 (va_Decl.of (h.2.2.2.2 _ q567) (h.2.2.2.2 _ q568)) ⟨by decide, by decide⟩ q567 (fun t ht => by cases List.mem_singleton.mp ht; exact q566) q568 q137 (by omega) (by omega) zc_s0 (by omega) (fun z hz => by cases hz) (n := 1) (by decide +kernel) rfl rfl dX3_doctype_134 (fun _ μ49 _ => r_k0 ?_)
      exact c_vret h hc rfl dX3_doctype_137
def c_X3_doctype (μ : MEM) (a0 : Int) : Option zc_O := ck (zt [3] (μ a0 (-1)) = true) (bc (c_X2_must μ a0 (-4)) (fun _ μ2 => ck (zt [3] (μ2 a0 (-1)) = true) (bc (c_X3_mustSpace μ2 a0) (fun _ μ4 => ck (zt [3] (μ4 a0 (-1)) = true) (bc (c_X2_name μ4 a0) (fun r6 μ7 => ck (zt [4] (μ7 (μ4 a0 3) (-1)) = true) (nu (mup μ7 (μ4 a0 3) 2 r6) (fun μ10 => ck (zt [3] (μ10 a0 (-1)) = true) (bc (c_X3_space μ10 a0) (fun r13 μ14 => ck (zt [3] (μ14 a0 (-1)) = true) (bc (c_X2_must μ14 a0 (-5)) (fun _ μ17 => c_X3_doctype_32 zF μ17 a0))))))))))))
theorem u_X3_doctype {G : zc_G} (μ : MEM) (a0 : Int) (o : zc_O) (hd : c_X3_doctype μ a0 = some o) : zc_Met G yX3_doctype cX3_doctype 1 (Option.none : Option FieldType) 0 99 2071 μ [zc_rv G a0] o := by
  refine zc_intro hd (by decide) (by simp [lg_sl, zc_rv_cat, iv_cat, jv_cat]) (lv := [(0, zc_rv G a0)]) (by simp [lv_args, zc_rv_cat, iv_cat, jv_cat]) (fun C h hc => ?_)
  have h : zv_Ok C cX3_doctype "TreePress$Parser" := h
  have hc : zc_C C G μ 1 (Option.none : Option FieldType) 0 99 2071 "doctype" [] := hc
  have hN : ∀ i, i < 1 → i < zv_n C := fun i q => by rw [hc.2.1]; exact q
  unfold c_X3_doctype
  refine c_aload_n (x := a0) h 0 dX3_doctype_0 rfl rfl ?_
  refine c_ldcs (tx := "<!DOCTYPE") h hc 4 (by decide) (-4) rfl (by decide) dX3_doctype_1 ?_
  refine r_ck (fun ht1 => ?_)
  refine c_callU (x := a0) (xm := ⟨"TreePress$Parser", "must", "(Ljava/lang/String;)V"⟩) (owner := "TreePress$Reader") h hc (As := [zc_rv G (-4)]) (fun o1 e1 => u_X2_must _ a0 (-4) o1 e1) [3] ht1 (by decide) q563 q564 (va_Decl.of (h.2.2.2.2 _ q567) (h.2.2.2.2 _ q568)) ⟨by decide, by decide⟩ q567 (fun t ht => by cases List.mem_singleton.mp ht; exact q566) q568 q137 (by omega) (by omega) zc_s0 (by omega) (fun z hz => by cases hz) (n := 1) (by decide +kernel) rfl rfl dX3_doctype_3 (fun _ μ2 _ => r_k0 ?_)
  refine c_aload_n (x := a0) h 0 dX3_doctype_6 rfl rfl ?_
  refine r_ck (fun ht3 => ?_)
  refine c_callV (x := a0) h hc (As := []) (fun o1 e1 => u_X3_mustSpace _ a0 o1 e1) [3] ht3 (by decide) q658 q660 (fun t ht => by cases List.mem_singleton.mp ht; exact qs9) q661 q138 (by omega) (by omega) zc_s0 (by omega) (fun z hz => by cases hz) ⟨by decide, by decide⟩ (n := 0) (by decide +kernel) rfl rfl dX3_doctype_7 (fun _ μ4 _ => r_k0 ?_)
  refine c_aload_n (x := a0) h 0 dX3_doctype_10 rfl rfl ?_
  refine r_ck (fun ht5 => ?_)
  refine c_getR (fin := true) h hc [3] 3 (zc_lk1 h q446) ht5 (by decide) dX3_doctype_11 ?_
  refine c_aload_n (x := a0) h 0 dX3_doctype_14 rfl rfl ?_
  refine c_callU (x := a0) (xm := ⟨"TreePress$Parser", "name", "()[B"⟩) (owner := "TreePress$Reader") h hc (As := []) (fun o1 e1 => u_X2_name _ a0 o1 e1) [3] ht5 (by decide) q662 q663 (va_Decl.of (h.2.2.2.2 _ q666) (h.2.2.2.2 _ q667)) ⟨by decide, by decide⟩ q666 (fun t ht => by cases List.mem_singleton.mp ht; exact q665) q667 q137 (by omega) (by omega) (zc_sc (zc_rv_cat G _) zc_s0) (by omega) (fun z hz => by cases hz) (n := 0) (by decide +kernel) rfl rfl dX3_doctype_15 (fun r6 μ7 hr8 => r_k4 ?_)
  refine r_ck (fun ht9 => ?_)
  refine c_putR (x := (μ4 a0 3)) (y := r6) h hc [4] 2 false (zc_lk3 hc (O := "TreePress$Document") (n := "type") (ds := "[B") (host := "TreePress") (by decide)) ht9 (by decide) (Or.inl rfl) (ty := (.array .byte)) (by decide +kernel) (Or.inr ⟨_, rfl⟩) dX3_doctype_18 (fun μ10 he11 => ?_)
  refine c_aload_n (x := a0) h 0 dX3_doctype_21 rfl rfl ?_
  refine r_ck (fun ht12 => ?_)
  refine c_callV (x := a0) h hc (As := []) (fun o1 e1 => u_X3_space _ a0 o1 e1) [3] ht12 (by decide) q479 q481 (fun t ht => by cases List.mem_singleton.mp ht; exact qs5) q482 q138 (by omega) (by omega) zc_s0 (by omega) (fun z hz => by cases hz) ⟨by decide, by decide⟩ (n := 0) (by decide +kernel) rfl rfl dX3_doctype_22 (fun r13 μ14 hr15 => r_k3 ?_)
  refine r_pop h dX3_doctype_25 (iv_cat _) ?_
  refine c_aload_n (x := a0) h 0 dX3_doctype_26 rfl rfl ?_
  refine c_ldcs (tx := "[") h hc 5 (by decide) (-5) rfl (by decide) dX3_doctype_27 ?_
  refine r_ck (fun ht16 => ?_)
  refine c_callU (x := a0) (xm := ⟨"TreePress$Parser", "must", "(Ljava/lang/String;)V"⟩) (owner := "TreePress$Reader") h hc (As := [zc_rv G (-5)]) (fun o1 e1 => u_X2_must _ a0 (-5) o1 e1) [3] ht16 (by decide) q563 q564 (va_Decl.of (h.2.2.2.2 _ q567) (h.2.2.2.2 _ q568)) ⟨by decide, by decide⟩ q567 (fun t ht => by cases List.mem_singleton.mp ht; exact q566) q568 q137 (by omega) (by omega) zc_s0 (by omega) (fun z hz => by cases hz) (n := 1) (by decide +kernel) rfl rfl dX3_doctype_29 (fun _ μ17 _ => r_k0 ?_)
  exact r_lv [0] rfl (u_X3_doctype_32 h hc zF _ a0)
theorem dX4_spec_0 : decode cX4_spec 0 = .ok (.iconst 0, 1) := by decide +kernel
theorem dX4_spec_1 : decode cX4_spec 1 = .ok (.istore_n 2, 1) := by decide +kernel
theorem dX4_spec_2 : decode cX4_spec 2 = .ok (.iload_n 2, 1) := by decide +kernel
theorem dX4_spec_3 : decode cX4_spec 3 = .ok (.aload_n 0, 1) := by decide +kernel
theorem dX4_spec_4 : decode cX4_spec 4 = .ok (.getfield 25, 3) := by decide +kernel
theorem dX4_spec_7 : decode cX4_spec 7 = .ok (.invokevirtual 41, 3) := by decide +kernel
theorem dX4_spec_10 : decode cX4_spec 10 = .ok (.if_icmp .ge 42, 3) := by decide +kernel
theorem dX4_spec_13 : decode cX4_spec 13 = .ok (.aload_n 0, 1) := by decide +kernel
theorem dX4_spec_14 : decode cX4_spec 14 = .ok (.getfield 25, 3) := by decide +kernel
theorem dX4_spec_17 : decode cX4_spec 17 = .ok (.iload_n 2, 1) := by decide +kernel
theorem dX4_spec_18 : decode cX4_spec 18 = .ok (.invokevirtual 57, 3) := by decide +kernel
theorem dX4_spec_21 : decode cX4_spec 21 = .ok (.checkcast 61, 3) := by decide +kernel
theorem dX4_spec_24 : decode cX4_spec 24 = .ok (.getfield 63, 3) := by decide +kernel
theorem dX4_spec_27 : decode cX4_spec 27 = .ok (.aload_n 1, 1) := by decide +kernel
theorem dX4_spec_28 : decode cX4_spec 28 = .ok (.invokestatic 67, 3) := by decide +kernel
theorem dX4_spec_31 : decode cX4_spec 31 = .ok (.ifCond .eq 15, 3) := by decide +kernel
theorem dX4_spec_34 : decode cX4_spec 34 = .ok (.aload_n 0, 1) := by decide +kernel
theorem dX4_spec_35 : decode cX4_spec 35 = .ok (.getfield 25, 3) := by decide +kernel
theorem dX4_spec_38 : decode cX4_spec 38 = .ok (.iload_n 2, 1) := by decide +kernel
theorem dX4_spec_39 : decode cX4_spec 39 = .ok (.invokevirtual 57, 3) := by decide +kernel
theorem dX4_spec_42 : decode cX4_spec 42 = .ok (.checkcast 61, 3) := by decide +kernel
theorem dX4_spec_45 : decode cX4_spec 45 = .ok (.areturn, 1) := by decide +kernel
theorem dX4_spec_46 : decode cX4_spec 46 = .ok (.iinc 2 1, 3) := by decide +kernel
theorem dX4_spec_49 : decode cX4_spec 49 = .ok (.goto (-47), 3) := by decide +kernel
theorem dX4_spec_52 : decode cX4_spec 52 = .ok (.aconst_null, 1) := by decide +kernel
theorem dX4_spec_53 : decode cX4_spec 53 = .ok (.areturn, 1) := by decide +kernel
def c_X4_spec_2 : Nat → MEM → Int → Int → Int → Option zc_O
  | 0, _, _, _, _ => none
  | n + 1, μ, x0, x1, x2 => ck (zt [4] (μ x0 (-1)) = true) (ck (zt [40] (μ (μ x0 3) (-1)) = true) (bc (b_lsize μ (μ x0 3)) (fun r3 μ4 => if r3 ≤ x2 then (some (0, 0, μ4)) else (ck (zt [4] (μ4 x0 (-1)) = true) (ck (zt [40] (μ4 (μ4 x0 3) (-1)) = true) (bc (b_lget μ4 (μ4 x0 3) x2) (fun r8 μ9 => ck (zt [8] (μ9 r8 (-1)) = true) (bc (c_X0_isSame μ9 (μ9 r8 0) x1) (fun r12 μ13 => if r12 = 0 then (ck (inR (x2 + 1)) (c_X4_spec_2 n μ13 x0 x1 (x2 + 1))) else (ck (zt [4] (μ13 x0 (-1)) = true) (ck (zt [40] (μ13 (μ13 x0 3) (-1)) = true) (bc (b_lget μ13 (μ13 x0 3) x2) (fun r18 μ19 => ck (zt [8] (μ19 r18 (-1)) = true) (some (0, r18, μ19)))))))))))))))
theorem u_X4_spec_2 {C : zv_Cx zc_O} {G : zc_G} {μ0 : MEM} (h : zv_Ok C cX4_spec "TreePress$Document") (hc : zc_C C G μ0 3 (Option.some (FieldType.object "TreePress$Spec")) 4 3 64 "spec" []) : ∀ (n : Nat) (μ : MEM) (x0 x1 x2 : Int), inR x2 → VV C (c_X4_spec_2 n μ x0 x1 x2) μ [(0, zc_rv G x0), (1, zc_rv G x1), (2, iv x2)] [] 2 := by
  have hN : ∀ i, i < 3 → i < zv_n C := fun i q => by rw [hc.2.1]; exact q
  intro n
  induction n with
  | zero => intros; exact r_none
  | succ n ih =>
    intro μ x0 x1 x2 hx2
    rw [c_X4_spec_2]
    refine r_iload_n h 2 dX4_spec_2 rfl rfl ?_
    refine c_aload_n (x := x0) h 0 dX4_spec_3 rfl rfl ?_
    refine r_ck (fun ht1 => ?_)
    refine c_getR (fin := true) h hc [4] 3 (zc_lk1 h q416) ht1 (by decide) dX4_spec_4 ?_
    refine r_ck (fun ht2 => ?_)
    refine c_callV (x := (μ x0 3)) h hc (As := []) (fun o1 e1 => w_lsize _ (μ x0 3) o1 e1) [40] ht2 (by decide) q342 q343 (fun t ht => by cases List.mem_singleton.mp ht; exact q344) q345 q135 (by omega) (by omega) (zc_sc (iv_cat _) zc_s0) (by omega) (fun z hz => by cases hz) ⟨by decide, by decide⟩ (n := 0) (by decide +kernel) rfl rfl dX4_spec_7 (fun r3 μ4 hr5 => r_k1 ?_)
    refine r_icmp_ge (x := x2) (y := r3) h hx2 hr5 52 dX4_spec_10 rfl ?_ ?_
    · refine c_null G h dX4_spec_52 ?_
      exact c_aret h hc rfl (Or.inl ⟨_, rfl⟩) dX4_spec_53
    · refine c_aload_n (x := x0) h 0 dX4_spec_13 rfl rfl ?_
      refine r_ck (fun ht6 => ?_)
      refine c_getR (fin := true) h hc [4] 3 (zc_lk1 h q416) ht6 (by decide) dX4_spec_14 ?_
      refine r_iload_n h 2 dX4_spec_17 rfl rfl ?_
      refine r_ck (fun ht7 => ?_)
      refine c_callV (x := (μ4 x0 3)) h hc (As := [iv x2]) (fun o1 e1 => w_lget _ (μ4 x0 3) x2 hx2 o1 e1) [40] ht7 (by decide) q862 q844 (fun t ht => by cases List.mem_singleton.mp ht; exact q845) q846 q135 (by omega) (by omega) zc_s0 (by omega) (fun z hz => by cases hz) ⟨by decide, by decide⟩ (n := 1) (by decide +kernel) rfl rfl dX4_spec_18 (fun r8 μ9 hr10 => r_k4 ?_)
      refine r_ck (fun ht11 => ?_)
      refine c_cast h hc [8] q1026 ht11 (by decide) dX4_spec_21 ?_
      refine c_getR (fin := true) h hc [8] 0 (zc_lk3 hc (O := "TreePress$Spec") (n := "name") (ds := "[B") (host := "TreePress") (by decide)) ht11 (by decide) dX4_spec_24 ?_
      refine c_aload_n (x := x1) h 1 dX4_spec_27 rfl rfl ?_
      refine c_callSN h hc (As := [zc_rv G (μ9 r8 0), zc_rv G x1]) (fun o1 e1 => u_X0_isSame _ (μ9 r8 0) x1 o1 e1) (host := "TreePress") (by decide) q856 q857 q132 (by omega) (by omega) zc_s0 (by omega) (fun z hz => by cases hz) ⟨by decide, by decide⟩ (n := 2) (by decide +kernel) rfl rfl dX4_spec_28 (fun r12 μ13 hr14 => r_k3 ?_)
      refine r_if_eq (x := r12) h hr14.r 46 dX4_spec_31 rfl ?_ ?_
      · refine r_iinc (lv' := [(2, iv (x2 + 1)), (0, zc_rv G x0), (1, zc_rv G x1)]) h 2 dX4_spec_46 rfl (hN _ (by decide)) (by simp [zc_rv_cat]) ?_
        refine r_goto h 2 dX4_spec_49 rfl ?_
        refine r_ck (fun hk15 => ?_)
        exact r_lv [1, 2, 0] rfl (ih _ x0 x1 (x2 + 1) hk15)
      · refine c_aload_n (x := x0) h 0 dX4_spec_34 rfl rfl ?_
        refine r_ck (fun ht16 => ?_)
        refine c_getR (fin := true) h hc [4] 3 (zc_lk1 h q416) ht16 (by decide) dX4_spec_35 ?_
        refine r_iload_n h 2 dX4_spec_38 rfl rfl ?_
        refine r_ck (fun ht17 => ?_)
        refine c_callV (x := (μ13 x0 3)) h hc (As := [iv x2]) (fun o1 e1 => w_lget _ (μ13 x0 3) x2 hx2 o1 e1) [40] ht17 (by decide) q862 q844 (fun t ht => by cases List.mem_singleton.mp ht; exact q845) q846 q135 (by omega) (by omega) zc_s0 (by omega) (fun z hz => by cases hz) ⟨by decide, by decide⟩ (n := 1) (by decide +kernel) rfl rfl dX4_spec_39 (fun r18 μ19 hr20 => r_k4 ?_)
        refine r_ck (fun ht21 => ?_)
        refine c_cast h hc [8] q1026 ht21 (by decide) dX4_spec_42 ?_
        exact c_aret h hc rfl (Or.inl ⟨_, rfl⟩) dX4_spec_45
def c_X4_spec (μ : MEM) (a0 a1 : Int) : Option zc_O := c_X4_spec_2 zF μ a0 a1 0
theorem u_X4_spec {G : zc_G} (μ : MEM) (a0 a1 : Int) (o : zc_O) (hd : c_X4_spec μ a0 a1 = some o) : zc_Met G yX4_spec cX4_spec 3 (Option.some (FieldType.object "TreePress$Spec")) 4 3 64 μ [zc_rv G a0, zc_rv G a1] o := by
  refine zc_intro hd (by decide) (by simp [lg_sl, zc_rv_cat, iv_cat, jv_cat]) (lv := [(0, zc_rv G a0), (1, zc_rv G a1)]) (by simp [lv_args, zc_rv_cat, iv_cat, jv_cat]) (fun C h hc => ?_)
  have h : zv_Ok C cX4_spec "TreePress$Document" := h
  have hc : zc_C C G μ 3 (Option.some (FieldType.object "TreePress$Spec")) 4 3 64 "spec" [] := hc
  have hN : ∀ i, i < 3 → i < zv_n C := fun i q => by rw [hc.2.1]; exact q
  unfold c_X4_spec
  refine r_iconst h dX4_spec_0 ?_
  refine r_istore_n (i := 2) (lv' := [(2, iv 0), (0, zc_rv G a0), (1, zc_rv G a1)]) h dX4_spec_1 rfl (hN _ (by decide)) (by simp [zc_rv_cat]) ?_
  exact r_lv [1, 2, 0] rfl (u_X4_spec_2 h hc zF _ a0 a1 0 (by decide))
theorem dX4_find_0 : decode cX4_find 0 = .ok (.aload_n 0, 1) := by decide +kernel
theorem dX4_find_1 : decode cX4_find 1 = .ok (.getfield 31, 3) := by decide +kernel
theorem dX4_find_4 : decode cX4_find 4 = .ok (.iconst 2, 1) := by decide +kernel
theorem dX4_find_5 : decode cX4_find 5 = .ok (.newarray .int, 2) := by decide +kernel
theorem dX4_find_7 : decode cX4_find 7 = .ok (.dup, 1) := by decide +kernel
theorem dX4_find_8 : decode cX4_find 8 = .ok (.iconst 0, 1) := by decide +kernel
theorem dX4_find_9 : decode cX4_find 9 = .ok (.iload_n 1, 1) := by decide +kernel
theorem dX4_find_10 : decode cX4_find 10 = .ok (.iastore, 1) := by decide +kernel
theorem dX4_find_11 : decode cX4_find 11 = .ok (.dup, 1) := by decide +kernel
theorem dX4_find_12 : decode cX4_find 12 = .ok (.iconst 1, 1) := by decide +kernel
theorem dX4_find_13 : decode cX4_find 13 = .ok (.iload_n 2, 1) := by decide +kernel
theorem dX4_find_14 : decode cX4_find 14 = .ok (.iastore, 1) := by decide +kernel
theorem dX4_find_15 : decode cX4_find 15 = .ok (.invokevirtual 54, 3) := by decide +kernel
theorem dX4_find_18 : decode cX4_find 18 = .ok (.pop, 1) := by decide +kernel
theorem dX4_find_19 : decode cX4_find 19 = .ok (.return_, 1) := by decide +kernel
def c_X4_find (μ : MEM) (a0 a1 a2 : Int) : Option zc_O := ck (zt [4] (μ a0 (-1)) = true) (ck ((0 : Int) ≤ 2 ∧ 2 ≤ 1000000) (ck (1 ≤ μ 0 1 ∧ 2 ≤ μ 0 2) (nu (mnew μ 33 2 2) (fun μ2 => ck ((0 : Int) ≤ 0 ∧ 0 < μ2 (μ 0 0) (-2)) (nu (mup μ2 (μ 0 0) 0 a1) (fun μ4 => ck ((0 : Int) ≤ 1 ∧ 1 < μ4 (μ 0 0) (-2)) (nu (mup μ4 (μ 0 0) 1 a2) (fun μ7 => ck (zt [40] (μ7 (μ a0 5) (-1)) = true) (bc (b_ladd μ7 (μ a0 5) (μ 0 0)) (fun r11 μ12 => some (0, 0, μ12)))))))))))
theorem u_X4_find {G : zc_G} (μ : MEM) (a0 a1 a2 : Int) (ha1 : inR a1) (ha2 : inR a2) (o : zc_O) (hd : c_X4_find μ a0 a1 a2 = some o) : zc_Met G yX4_find cX4_find 3 (Option.none : Option FieldType) 0 7 152 μ [zc_rv G a0, iv a1, iv a2] o := by
  refine zc_intro hd (by decide) (by simp [lg_sl, zc_rv_cat, iv_cat, jv_cat]) (lv := [(0, zc_rv G a0), (1, iv a1), (2, iv a2)]) (by simp [lv_args, zc_rv_cat, iv_cat, jv_cat]) (fun C h hc => ?_)
  have h : zv_Ok C cX4_find "TreePress$Document" := h
  have hc : zc_C C G μ 3 (Option.none : Option FieldType) 0 7 152 "find" [] := hc
  have hN : ∀ i, i < 3 → i < zv_n C := fun i q => by rw [hc.2.1]; exact q
  unfold c_X4_find
  refine c_aload_n (x := a0) h 0 dX4_find_0 rfl rfl ?_
  refine r_ck (fun ht1 => ?_)
  refine c_getR (fin := true) h hc [4] 5 (zc_lk1 h q422) ht1 (by decide) dX4_find_1 ?_
  refine r_iconst h dX4_find_4 ?_
  refine c_naI (x := 2) h hc rfl q842 (by decide) dX4_find_5 (fun _ _ μ2 he3 => ?_)
  refine r_dup h dX4_find_7 (zc_rv_cat G _) ?_
  refine r_iconst h dX4_find_8 ?_
  refine r_iload_n h 1 dX4_find_9 rfl rfl ?_
  refine c_stI (x := (μ 0 0)) (y := 0) (z := a1) h hc (zt_nw he3) ha1 dX4_find_10 (fun hb6 μ4 he5 => ?_)
  refine r_dup h dX4_find_11 (zc_rv_cat G _) ?_
  refine r_iconst h dX4_find_12 ?_
  refine r_iload_n h 2 dX4_find_13 rfl rfl ?_
  refine c_stI (x := (μ 0 0)) (y := 1) (z := a2) h hc (zt_mup he5 hb6.1 (zt_nw he3)) ha2 dX4_find_14 (fun hb9 μ7 he8 => ?_)
  refine r_ck (fun ht10 => ?_)
  refine c_callV (x := (μ a0 5)) h hc (As := [zc_rv G (μ 0 0)]) (fun o1 e1 => w_ladd _ (μ a0 5) (μ 0 0) o1 e1) [40] ht10 (by decide) q346 q347 (fun t ht => by cases List.mem_singleton.mp ht; exact q348) q349 q135 (by omega) (by omega) zc_s0 (by omega) (fun z hz => by cases hz) ⟨by decide, by decide⟩ (n := 1) (by decide +kernel) rfl rfl dX4_find_15 (fun r11 μ12 hr13 => r_k3 ?_)
  refine r_pop h dX4_find_18 (iv_cat _) ?_
  exact c_vret h hc rfl dX4_find_19
theorem dX8_isDoubled_0 : decode cX8_isDoubled 0 = .ok (.iconst 0, 1) := by decide +kernel
theorem dX8_isDoubled_1 : decode cX8_isDoubled 1 = .ok (.istore_n 3, 1) := by decide +kernel
theorem dX8_isDoubled_2 : decode cX8_isDoubled 2 = .ok (.iconst 0, 1) := by decide +kernel
theorem dX8_isDoubled_3 : decode cX8_isDoubled 3 = .ok (.istore 4, 2) := by decide +kernel
theorem dX8_isDoubled_5 : decode cX8_isDoubled 5 = .ok (.iload 4, 2) := by decide +kernel
theorem dX8_isDoubled_7 : decode cX8_isDoubled 7 = .ok (.aload_n 0, 1) := by decide +kernel
theorem dX8_isDoubled_8 : decode cX8_isDoubled 8 = .ok (.getfield 12, 3) := by decide +kernel
theorem dX8_isDoubled_11 : decode cX8_isDoubled 11 = .ok (.invokevirtual 26, 3) := by decide +kernel
theorem dX8_isDoubled_14 : decode cX8_isDoubled 14 = .ok (.if_icmp .ge 85, 3) := by decide +kernel
theorem dX8_isDoubled_17 : decode cX8_isDoubled 17 = .ok (.iload_n 3, 1) := by decide +kernel
theorem dX8_isDoubled_18 : decode cX8_isDoubled 18 = .ok (.ifCond .ne 81, 3) := by decide +kernel
theorem dX8_isDoubled_21 : decode cX8_isDoubled 21 = .ok (.iconst 0, 1) := by decide +kernel
theorem dX8_isDoubled_22 : decode cX8_isDoubled 22 = .ok (.istore 5, 2) := by decide +kernel
theorem dX8_isDoubled_24 : decode cX8_isDoubled 24 = .ok (.iload 5, 2) := by decide +kernel
theorem dX8_isDoubled_26 : decode cX8_isDoubled 26 = .ok (.iload 4, 2) := by decide +kernel
theorem dX8_isDoubled_28 : decode cX8_isDoubled 28 = .ok (.if_icmp .ge 65, 3) := by decide +kernel
theorem dX8_isDoubled_31 : decode cX8_isDoubled 31 = .ok (.iload_n 3, 1) := by decide +kernel
theorem dX8_isDoubled_32 : decode cX8_isDoubled 32 = .ok (.ifCond .ne 61, 3) := by decide +kernel
theorem dX8_isDoubled_35 : decode cX8_isDoubled 35 = .ok (.lload_n 1, 1) := by decide +kernel
theorem dX8_isDoubled_36 : decode cX8_isDoubled 36 = .ok (.iload 4, 2) := by decide +kernel
theorem dX8_isDoubled_38 : decode cX8_isDoubled 38 = .ok (.lshr, 1) := by decide +kernel
theorem dX8_isDoubled_39 : decode cX8_isDoubled 39 = .ok (.lload_n 1, 1) := by decide +kernel
theorem dX8_isDoubled_40 : decode cX8_isDoubled 40 = .ok (.iload 5, 2) := by decide +kernel
theorem dX8_isDoubled_42 : decode cX8_isDoubled 42 = .ok (.lshr, 1) := by decide +kernel
theorem dX8_isDoubled_43 : decode cX8_isDoubled 43 = .ok (.land, 1) := by decide +kernel
theorem dX8_isDoubled_44 : decode cX8_isDoubled 44 = .ok (.lconst 1, 1) := by decide +kernel
theorem dX8_isDoubled_45 : decode cX8_isDoubled 45 = .ok (.land, 1) := by decide +kernel
theorem dX8_isDoubled_46 : decode cX8_isDoubled 46 = .ok (.lconst 1, 1) := by decide +kernel
theorem dX8_isDoubled_47 : decode cX8_isDoubled 47 = .ok (.lcmp, 1) := by decide +kernel
theorem dX8_isDoubled_48 : decode cX8_isDoubled 48 = .ok (.ifCond .ne 37, 3) := by decide +kernel
theorem dX8_isDoubled_51 : decode cX8_isDoubled 51 = .ok (.aload_n 0, 1) := by decide +kernel
theorem dX8_isDoubled_52 : decode cX8_isDoubled 52 = .ok (.getfield 12, 3) := by decide +kernel
theorem dX8_isDoubled_55 : decode cX8_isDoubled 55 = .ok (.iload 4, 2) := by decide +kernel
theorem dX8_isDoubled_57 : decode cX8_isDoubled 57 = .ok (.invokevirtual 30, 3) := by decide +kernel
theorem dX8_isDoubled_60 : decode cX8_isDoubled 60 = .ok (.checkcast 34, 3) := by decide +kernel
theorem dX8_isDoubled_63 : decode cX8_isDoubled 63 = .ok (.aload_n 0, 1) := by decide +kernel
theorem dX8_isDoubled_64 : decode cX8_isDoubled 64 = .ok (.getfield 12, 3) := by decide +kernel
theorem dX8_isDoubled_67 : decode cX8_isDoubled 67 = .ok (.iload 5, 2) := by decide +kernel
theorem dX8_isDoubled_69 : decode cX8_isDoubled 69 = .ok (.invokevirtual 30, 3) := by decide +kernel
theorem dX8_isDoubled_72 : decode cX8_isDoubled 72 = .ok (.checkcast 34, 3) := by decide +kernel
theorem dX8_isDoubled_75 : decode cX8_isDoubled 75 = .ok (.invokestatic 35, 3) := by decide +kernel
theorem dX8_isDoubled_78 : decode cX8_isDoubled 78 = .ok (.ifCond .eq 7, 3) := by decide +kernel
theorem dX8_isDoubled_81 : decode cX8_isDoubled 81 = .ok (.iconst 1, 1) := by decide +kernel
theorem dX8_isDoubled_82 : decode cX8_isDoubled 82 = .ok (.goto 4, 3) := by decide +kernel
theorem dX8_isDoubled_85 : decode cX8_isDoubled 85 = .ok (.iconst 0, 1) := by decide +kernel
theorem dX8_isDoubled_86 : decode cX8_isDoubled 86 = .ok (.istore_n 3, 1) := by decide +kernel
theorem dX8_isDoubled_87 : decode cX8_isDoubled 87 = .ok (.iinc 5 1, 3) := by decide +kernel
theorem dX8_isDoubled_90 : decode cX8_isDoubled 90 = .ok (.goto (-66), 3) := by decide +kernel
theorem dX8_isDoubled_93 : decode cX8_isDoubled 93 = .ok (.iinc 4 1, 3) := by decide +kernel
theorem dX8_isDoubled_96 : decode cX8_isDoubled 96 = .ok (.goto (-91), 3) := by decide +kernel
theorem dX8_isDoubled_99 : decode cX8_isDoubled 99 = .ok (.iload_n 3, 1) := by decide +kernel
theorem dX8_isDoubled_100 : decode cX8_isDoubled 100 = .ok (.ireturn, 1) := by decide +kernel
def c_X8_isDoubled_24 (lp5 : MEM → Int → Int → Int → Int → Option zc_O) : Nat → MEM → Int → Int → Int → Int → Int → Option zc_O
  | 0, _, _, _, _, _, _ => none
  | n + 1, μ, x0, x1, x3, x4, x5 => if x4 ≤ x5 then (ck (inR (x4 + 1)) (lp5 μ x0 x1 x3 (x4 + 1))) else (if x3 = 0 then (if (j_cmp (j_and (j_and (j_shr x1 x4) (j_shr x1 x5)) 1) 1) = 0 then (ck (zt [8] (μ x0 (-1)) = true) (ck (zt [40] (μ (μ x0 2) (-1)) = true) (bc (b_lget μ (μ x0 2) x4) (fun r4 μ5 => ck (zt [31] (μ5 r4 (-1)) = true) (ck (zt [8] (μ5 x0 (-1)) = true) (ck (zt [40] (μ5 (μ5 x0 2) (-1)) = true) (bc (b_lget μ5 (μ5 x0 2) x5) (fun r10 μ11 => ck (zt [31] (μ11 r10 (-1)) = true) (bc (c_X0_isSame μ11 r4 r10) (fun r14 μ15 => if r14 = 0 then (ck (inR (x5 + 1)) (c_X8_isDoubled_24 lp5 n μ15 x0 x1 0 x4 (x5 + 1))) else (ck (inR (x5 + 1)) (c_X8_isDoubled_24 lp5 n μ15 x0 x1 1 x4 (x5 + 1))))))))))))) else (ck (inR (x5 + 1)) (c_X8_isDoubled_24 lp5 n μ x0 x1 0 x4 (x5 + 1)))) else (ck (inR (x4 + 1)) (lp5 μ x0 x1 x3 (x4 + 1))))
theorem u_X8_isDoubled_24 {C : zv_Cx zc_O} {G : zc_G} {μ0 : MEM} (h : zv_Ok C cX8_isDoubled "TreePress$Spec") (hc : zc_C C G μ0 6 (Option.some FieldType.boolean) 3 3 64 "isDoubled" []) (lp5 : MEM → Int → Int → Int → Int → Option zc_O) (hlp5 : ∀ (μ : MEM) (x0 x1 x3 x4 : Int), inL x1 → isB x3 → inR x4 → VV C (lp5 μ x0 x1 x3 x4) μ [(0, zc_rv G x0), (1, jv x1), (3, iv x3), (4, iv x4)] [] 5) : ∀ (n : Nat) (μ : MEM) (x0 x1 x3 x4 x5 : Int), inL x1 → isB x3 → inR x4 → inR x5 → VV C (c_X8_isDoubled_24 lp5 n μ x0 x1 x3 x4 x5) μ [(0, zc_rv G x0), (1, jv x1), (3, iv x3), (4, iv x4), (5, iv x5)] [] 24 := by
  have hN : ∀ i, i < 6 → i < zv_n C := fun i q => by rw [hc.2.1]; exact q
  intro n
  induction n with
  | zero => intros; exact r_none
  | succ n ih =>
    intro μ x0 x1 x3 x4 x5 hx1 hx3 hx4 hx5
    rw [c_X8_isDoubled_24]
    refine r_iload h 4 dX8_isDoubled_24 rfl ?_
    refine r_iload h 3 dX8_isDoubled_26 rfl ?_
    refine r_icmp_ge (x := x5) (y := x4) h hx5 hx4 93 dX8_isDoubled_28 rfl ?_ ?_
    · refine r_iinc (lv' := [(4, iv (x4 + 1)), (0, zc_rv G x0), (1, jv x1), (3, iv x3), (5, iv x5)]) h 3 dX8_isDoubled_93 rfl (hN _ (by decide)) rfl ?_
      refine r_goto h 5 dX8_isDoubled_96 rfl ?_
      refine r_ck (fun hk1 => ?_)
      exact r_lv [1, 2, 3, 0] rfl (hlp5 _ x0 x1 x3 (x4 + 1) hx1 hx3 hk1)
    · refine r_iload_n h 2 dX8_isDoubled_31 rfl rfl ?_
      refine r_if_ne (x := x3) h hx3.r 93 dX8_isDoubled_32 rfl ?_ ?_
      · refine r_lload_n h 1 dX8_isDoubled_35 rfl rfl ?_
        refine r_iload h 3 dX8_isDoubled_36 rfl ?_
        refine r_lshr h dX8_isDoubled_38 ?_
        refine r_lload_n h 1 dX8_isDoubled_39 rfl rfl ?_
        refine r_iload h 4 dX8_isDoubled_40 rfl ?_
        refine r_lshr h dX8_isDoubled_42 ?_
        refine r_land h dX8_isDoubled_43 ?_
        refine r_lconst (x := 1) h dX8_isDoubled_44 (by decide) ?_
        refine r_land h dX8_isDoubled_45 ?_
        refine r_lconst (x := 1) h dX8_isDoubled_46 (by decide) ?_
        refine r_lcmp h (inL_t _) (by decide) dX8_isDoubled_47 ?_
        refine r_if_ne (x := (j_cmp (j_and (j_and (j_shr x1 x4) (j_shr x1 x5)) 1) 1)) h (j_cmp_r _ _) 85 dX8_isDoubled_48 rfl ?_ ?_
        · refine c_aload_n (x := x0) h 0 dX8_isDoubled_51 rfl rfl ?_
          refine r_ck (fun ht2 => ?_)
          refine c_getR (fin := true) h hc [8] 2 (zc_lk1 h q708) ht2 (by decide) dX8_isDoubled_52 ?_
          refine r_iload h 3 dX8_isDoubled_55 rfl ?_
          refine r_ck (fun ht3 => ?_)
          refine c_callV (x := (μ x0 2)) h hc (As := [iv x4]) (fun o1 e1 => w_lget _ (μ x0 2) x4 hx4 o1 e1) [40] ht3 (by decide) q1044 q844 (fun t ht => by cases List.mem_singleton.mp ht; exact q845) q846 q135 (by omega) (by omega) zc_s0 (by omega) (fun z hz => by cases hz) ⟨by decide, by decide⟩ (n := 1) (by decide +kernel) rfl rfl dX8_isDoubled_57 (fun r4 μ5 hr6 => r_k4 ?_)
          refine r_ck (fun ht7 => ?_)
          refine c_cast h hc [31] q1045 ht7 (by decide) dX8_isDoubled_60 ?_
          refine c_aload_n (x := x0) h 0 dX8_isDoubled_63 rfl rfl ?_
          refine r_ck (fun ht8 => ?_)
          refine c_getR (fin := true) h hc [8] 2 (zc_lk1 h q708) ht8 (by decide) dX8_isDoubled_64 ?_
          refine r_iload h 4 dX8_isDoubled_67 rfl ?_
          refine r_ck (fun ht9 => ?_)
          refine c_callV (x := (μ5 x0 2)) h hc (As := [iv x5]) (fun o1 e1 => w_lget _ (μ5 x0 2) x5 hx5 o1 e1) [40] ht9 (by decide) q1044 q844 (fun t ht => by cases List.mem_singleton.mp ht; exact q845) q846 q135 (by omega) (by omega) (zc_sc (zc_rv_cat G _) zc_s0) (by omega) (fun z hz => by cases hz) ⟨by decide, by decide⟩ (n := 1) (by decide +kernel) rfl rfl dX8_isDoubled_69 (fun r10 μ11 hr12 => r_k4 ?_)
          refine r_ck (fun ht13 => ?_)
          refine c_cast h hc [31] q1045 ht13 (by decide) dX8_isDoubled_72 ?_
          refine c_callSN h hc (As := [zc_rv G r4, zc_rv G r10]) (fun o1 e1 => u_X0_isSame _ r4 r10 o1 e1) (host := "TreePress") (by decide) q856 q857 q132 (by omega) (by omega) zc_s0 (by omega) (fun z hz => by cases hz) ⟨by decide, by decide⟩ (n := 2) (by decide +kernel) rfl rfl dX8_isDoubled_75 (fun r14 μ15 hr16 => r_k3 ?_)
          refine r_if_eq (x := r14) h hr16.r 85 dX8_isDoubled_78 rfl ?_ ?_
          · refine r_iconst h dX8_isDoubled_85 ?_
            refine r_istore_n (i := 3) (lv' := [(3, iv 0), (0, zc_rv G x0), (1, jv x1), (4, iv x4), (5, iv x5)]) h dX8_isDoubled_86 rfl (hN _ (by decide)) rfl ?_
            refine r_iinc (lv' := [(5, iv (x5 + 1)), (3, iv 0), (0, zc_rv G x0), (1, jv x1), (4, iv x4)]) h 4 dX8_isDoubled_87 rfl (hN _ (by decide)) rfl ?_
            refine r_goto h 24 dX8_isDoubled_90 rfl ?_
            refine r_ck (fun hk17 => ?_)
            exact r_lv [2, 3, 1, 4, 0] rfl (ih _ x0 x1 0 x4 (x5 + 1) hx1 (by decide) hx4 hk17)
          · refine r_iconst h dX8_isDoubled_81 ?_
            refine r_goto h 86 dX8_isDoubled_82 rfl ?_
            refine r_istore_n (i := 3) (lv' := [(3, iv 1), (0, zc_rv G x0), (1, jv x1), (4, iv x4), (5, iv x5)]) h dX8_isDoubled_86 rfl (hN _ (by decide)) rfl ?_
            refine r_iinc (lv' := [(5, iv (x5 + 1)), (3, iv 1), (0, zc_rv G x0), (1, jv x1), (4, iv x4)]) h 4 dX8_isDoubled_87 rfl (hN _ (by decide)) rfl ?_
            refine r_goto h 24 dX8_isDoubled_90 rfl ?_
            refine r_ck (fun hk18 => ?_)
            exact r_lv [2, 3, 1, 4, 0] rfl (ih _ x0 x1 1 x4 (x5 + 1) hx1 (by decide) hx4 hk18)
        · refine r_iconst h dX8_isDoubled_85 ?_
          refine r_istore_n (i := 3) (lv' := [(3, iv 0), (0, zc_rv G x0), (1, jv x1), (4, iv x4), (5, iv x5)]) h dX8_isDoubled_86 rfl (hN _ (by decide)) rfl ?_
          refine r_iinc (lv' := [(5, iv (x5 + 1)), (3, iv 0), (0, zc_rv G x0), (1, jv x1), (4, iv x4)]) h 4 dX8_isDoubled_87 rfl (hN _ (by decide)) rfl ?_
          refine r_goto h 24 dX8_isDoubled_90 rfl ?_
          refine r_ck (fun hk19 => ?_)
          exact r_lv [2, 3, 1, 4, 0] rfl (ih _ x0 x1 0 x4 (x5 + 1) hx1 (by decide) hx4 hk19)
      · refine r_iinc (lv' := [(4, iv (x4 + 1)), (0, zc_rv G x0), (1, jv x1), (3, iv x3), (5, iv x5)]) h 3 dX8_isDoubled_93 rfl (hN _ (by decide)) rfl ?_
        refine r_goto h 5 dX8_isDoubled_96 rfl ?_
        refine r_ck (fun hk20 => ?_)
        exact r_lv [1, 2, 3, 0] rfl (hlp5 _ x0 x1 x3 (x4 + 1) hx1 hx3 hk20)
def c_X8_isDoubled_5 : Nat → MEM → Int → Int → Int → Int → Option zc_O
  | 0, _, _, _, _, _ => none
  | n + 1, μ, x0, x1, x3, x4 => ck (zt [8] (μ x0 (-1)) = true) (ck (zt [40] (μ (μ x0 2) (-1)) = true) (bc (b_lsize μ (μ x0 2)) (fun r3 μ4 => if r3 ≤ x4 then (some (0, x3, μ4)) else (if x3 = 0 then (c_X8_isDoubled_24 (c_X8_isDoubled_5 n) zF μ4 x0 x1 x3 x4 0) else (some (0, x3, μ4))))))
theorem u_X8_isDoubled_5 {C : zv_Cx zc_O} {G : zc_G} {μ0 : MEM} (h : zv_Ok C cX8_isDoubled "TreePress$Spec") (hc : zc_C C G μ0 6 (Option.some FieldType.boolean) 3 3 64 "isDoubled" []) : ∀ (n : Nat) (μ : MEM) (x0 x1 x3 x4 : Int), inL x1 → isB x3 → inR x4 → VV C (c_X8_isDoubled_5 n μ x0 x1 x3 x4) μ [(0, zc_rv G x0), (1, jv x1), (3, iv x3), (4, iv x4)] [] 5 := by
  have hN : ∀ i, i < 6 → i < zv_n C := fun i q => by rw [hc.2.1]; exact q
  intro n
  induction n with
  | zero => intros; exact r_none
  | succ n ih =>
    intro μ x0 x1 x3 x4 hx1 hx3 hx4
    rw [c_X8_isDoubled_5]
    refine r_iload h 3 dX8_isDoubled_5 rfl ?_
    refine c_aload_n (x := x0) h 0 dX8_isDoubled_7 rfl rfl ?_
    refine r_ck (fun ht1 => ?_)
    refine c_getR (fin := true) h hc [8] 2 (zc_lk1 h q708) ht1 (by decide) dX8_isDoubled_8 ?_
    refine r_ck (fun ht2 => ?_)
    refine c_callV (x := (μ x0 2)) h hc (As := []) (fun o1 e1 => w_lsize _ (μ x0 2) o1 e1) [40] ht2 (by decide) q1043 q343 (fun t ht => by cases List.mem_singleton.mp ht; exact q344) q345 q135 (by omega) (by omega) (zc_sc (iv_cat _) zc_s0) (by omega) (fun z hz => by cases hz) ⟨by decide, by decide⟩ (n := 0) (by decide +kernel) rfl rfl dX8_isDoubled_11 (fun r3 μ4 hr5 => r_k1 ?_)
    refine r_icmp_ge (x := x4) (y := r3) h hx4 hr5 99 dX8_isDoubled_14 rfl ?_ ?_
    · refine r_iload_n h 2 dX8_isDoubled_99 rfl rfl ?_
      exact c_zret h hc rfl hx3 dX8_isDoubled_100
    · refine r_iload_n h 2 dX8_isDoubled_17 rfl rfl ?_
      refine r_if_ne (x := x3) h hx3.r 99 dX8_isDoubled_18 rfl ?_ ?_
      · refine r_iconst h dX8_isDoubled_21 ?_
        refine r_istore (lv' := [(5, iv 0), (0, zc_rv G x0), (1, jv x1), (3, iv x3), (4, iv x4)]) h dX8_isDoubled_22 (hN _ (by decide)) rfl ?_
        exact r_lv [1, 2, 3, 4, 0] rfl (u_X8_isDoubled_24 h hc (c_X8_isDoubled_5 n) ih zF _ x0 x1 x3 x4 0 hx1 hx3 hx4 (by decide))
      · refine r_iload_n h 2 dX8_isDoubled_99 rfl rfl ?_
        exact c_zret h hc rfl hx3 dX8_isDoubled_100
def c_X8_isDoubled (μ : MEM) (a0 a1 : Int) : Option zc_O := c_X8_isDoubled_5 zF μ a0 a1 0 0
theorem u_X8_isDoubled {G : zc_G} (μ : MEM) (a0 a1 : Int) (ha1 : inL a1) (o : zc_O) (hd : c_X8_isDoubled μ a0 a1 = some o) : zc_Met G yX8_isDoubled cX8_isDoubled 6 (Option.some FieldType.boolean) 3 3 64 μ [zc_rv G a0, jv a1] o := by
  refine zc_intro hd (by decide) (by simp [lg_sl, zc_rv_cat, iv_cat, jv_cat]) (lv := [(0, zc_rv G a0), (1, jv a1)]) (by simp [lv_args, zc_rv_cat, iv_cat, jv_cat]) (fun C h hc => ?_)
  have h : zv_Ok C cX8_isDoubled "TreePress$Spec" := h
  have hc : zc_C C G μ 6 (Option.some FieldType.boolean) 3 3 64 "isDoubled" [] := hc
  have hN : ∀ i, i < 6 → i < zv_n C := fun i q => by rw [hc.2.1]; exact q
  unfold c_X8_isDoubled
  refine r_iconst h dX8_isDoubled_0 ?_
  refine r_istore_n (i := 3) (lv' := [(3, iv 0), (0, zc_rv G a0), (1, jv a1)]) h dX8_isDoubled_1 rfl (hN _ (by decide)) rfl ?_
  refine r_iconst h dX8_isDoubled_2 ?_
  refine r_istore (lv' := [(4, iv 0), (3, iv 0), (0, zc_rv G a0), (1, jv a1)]) h dX8_isDoubled_3 (hN _ (by decide)) rfl ?_
  exact r_lv [2, 3, 1, 0] rfl (u_X8_isDoubled_5 h hc zF _ a0 a1 0 0 ha1 (by decide) (by decide))
theorem dX8_isDeterministic_0 : decode cX8_isDeterministic 0 = .ok (.aload_n 0, 1) := by decide +kernel
theorem dX8_isDeterministic_1 : decode cX8_isDeterministic 1 = .ok (.aload_n 0, 1) := by decide +kernel
theorem dX8_isDeterministic_2 : decode cX8_isDeterministic 2 = .ok (.getfield 39, 3) := by decide +kernel
theorem dX8_isDeterministic_5 : decode cX8_isDeterministic 5 = .ok (.invokevirtual 43, 3) := by decide +kernel
theorem dX8_isDeterministic_8 : decode cX8_isDeterministic 8 = .ok (.ifCond .ne 7, 3) := by decide +kernel
theorem dX8_isDeterministic_11 : decode cX8_isDeterministic 11 = .ok (.iconst 1, 1) := by decide +kernel
theorem dX8_isDeterministic_12 : decode cX8_isDeterministic 12 = .ok (.goto 4, 3) := by decide +kernel
theorem dX8_isDeterministic_15 : decode cX8_isDeterministic 15 = .ok (.iconst 0, 1) := by decide +kernel
theorem dX8_isDeterministic_16 : decode cX8_isDeterministic 16 = .ok (.istore_n 1, 1) := by decide +kernel
theorem dX8_isDeterministic_17 : decode cX8_isDeterministic 17 = .ok (.iconst 0, 1) := by decide +kernel
theorem dX8_isDeterministic_18 : decode cX8_isDeterministic 18 = .ok (.istore_n 2, 1) := by decide +kernel
theorem dX8_isDeterministic_19 : decode cX8_isDeterministic 19 = .ok (.iload_n 2, 1) := by decide +kernel
theorem dX8_isDeterministic_20 : decode cX8_isDeterministic 20 = .ok (.aload_n 0, 1) := by decide +kernel
theorem dX8_isDeterministic_21 : decode cX8_isDeterministic 21 = .ok (.getfield 12, 3) := by decide +kernel
theorem dX8_isDeterministic_24 : decode cX8_isDeterministic 24 = .ok (.invokevirtual 26, 3) := by decide +kernel
theorem dX8_isDeterministic_27 : decode cX8_isDeterministic 27 = .ok (.if_icmp .ge 32, 3) := by decide +kernel
theorem dX8_isDeterministic_30 : decode cX8_isDeterministic 30 = .ok (.iload_n 1, 1) := by decide +kernel
theorem dX8_isDeterministic_31 : decode cX8_isDeterministic 31 = .ok (.ifCond .eq 28, 3) := by decide +kernel
theorem dX8_isDeterministic_34 : decode cX8_isDeterministic 34 = .ok (.aload_n 0, 1) := by decide +kernel
theorem dX8_isDeterministic_35 : decode cX8_isDeterministic 35 = .ok (.aload_n 0, 1) := by decide +kernel
theorem dX8_isDeterministic_36 : decode cX8_isDeterministic 36 = .ok (.getfield 18, 3) := by decide +kernel
theorem dX8_isDeterministic_39 : decode cX8_isDeterministic 39 = .ok (.iload_n 2, 1) := by decide +kernel
theorem dX8_isDeterministic_40 : decode cX8_isDeterministic 40 = .ok (.laload, 1) := by decide +kernel
theorem dX8_isDeterministic_41 : decode cX8_isDeterministic 41 = .ok (.invokevirtual 43, 3) := by decide +kernel
theorem dX8_isDeterministic_44 : decode cX8_isDeterministic 44 = .ok (.ifCond .ne 7, 3) := by decide +kernel
theorem dX8_isDeterministic_47 : decode cX8_isDeterministic 47 = .ok (.iconst 1, 1) := by decide +kernel
theorem dX8_isDeterministic_48 : decode cX8_isDeterministic 48 = .ok (.goto 4, 3) := by decide +kernel
theorem dX8_isDeterministic_51 : decode cX8_isDeterministic 51 = .ok (.iconst 0, 1) := by decide +kernel
theorem dX8_isDeterministic_52 : decode cX8_isDeterministic 52 = .ok (.istore_n 1, 1) := by decide +kernel
theorem dX8_isDeterministic_53 : decode cX8_isDeterministic 53 = .ok (.iinc 2 1, 3) := by decide +kernel
theorem dX8_isDeterministic_56 : decode cX8_isDeterministic 56 = .ok (.goto (-37), 3) := by decide +kernel
theorem dX8_isDeterministic_59 : decode cX8_isDeterministic 59 = .ok (.iload_n 1, 1) := by decide +kernel
theorem dX8_isDeterministic_60 : decode cX8_isDeterministic 60 = .ok (.ireturn, 1) := by decide +kernel
def c_X8_isDeterministic_19 : Nat → MEM → Int → Int → Int → Option zc_O
  | 0, _, _, _, _ => none
  | n + 1, μ, x0, x1, x2 => ck (zt [8] (μ x0 (-1)) = true) (ck (zt [40] (μ (μ x0 2) (-1)) = true) (bc (b_lsize μ (μ x0 2)) (fun r3 μ4 => if r3 ≤ x2 then (some (0, x1, μ4)) else (if x1 = 0 then (some (0, x1, μ4)) else (ck (zt [8] (μ4 x0 (-1)) = true) (ck (zt [34] (μ4 (μ4 x0 3) (-1)) = true) (ck ((0 : Int) ≤ x2 ∧ x2 < μ4 (μ4 x0 3) (-2)) (bc (c_X8_isDoubled μ4 x0 (μ4 (μ4 x0 3) x2)) (fun r9 μ10 => if r9 = 0 then (ck (inR (x2 + 1)) (c_X8_isDeterministic_19 n μ10 x0 1 (x2 + 1))) else (ck (inR (x2 + 1)) (c_X8_isDeterministic_19 n μ10 x0 0 (x2 + 1))))))))))))
theorem u_X8_isDeterministic_19 {C : zv_Cx zc_O} {G : zc_G} {μ0 : MEM} (h : zv_Ok C cX8_isDeterministic "TreePress$Spec") (hc : zc_C C G μ0 3 (Option.some FieldType.boolean) 3 4 89 "isDeterministic" []) : ∀ (n : Nat) (μ : MEM) (x0 x1 x2 : Int), isB x1 → inR x2 → VV C (c_X8_isDeterministic_19 n μ x0 x1 x2) μ [(0, zc_rv G x0), (1, iv x1), (2, iv x2)] [] 19 := by
  have hN : ∀ i, i < 3 → i < zv_n C := fun i q => by rw [hc.2.1]; exact q
  intro n
  induction n with
  | zero => intros; exact r_none
  | succ n ih =>
    intro μ x0 x1 x2 hx1 hx2
    rw [c_X8_isDeterministic_19]
    refine r_iload_n h 2 dX8_isDeterministic_19 rfl rfl ?_
    refine c_aload_n (x := x0) h 0 dX8_isDeterministic_20 rfl rfl ?_
    refine r_ck (fun ht1 => ?_)
    refine c_getR (fin := true) h hc [8] 2 (zc_lk1 h q708) ht1 (by decide) dX8_isDeterministic_21 ?_
    refine r_ck (fun ht2 => ?_)
    refine c_callV (x := (μ x0 2)) h hc (As := []) (fun o1 e1 => w_lsize _ (μ x0 2) o1 e1) [40] ht2 (by decide) q1043 q343 (fun t ht => by cases List.mem_singleton.mp ht; exact q344) q345 q135 (by omega) (by omega) (zc_sc (iv_cat _) zc_s0) (by omega) (fun z hz => by cases hz) ⟨by decide, by decide⟩ (n := 0) (by decide +kernel) rfl rfl dX8_isDeterministic_24 (fun r3 μ4 hr5 => r_k1 ?_)
    refine r_icmp_ge (x := x2) (y := r3) h hx2 hr5 59 dX8_isDeterministic_27 rfl ?_ ?_
    · refine r_iload_n h 1 dX8_isDeterministic_59 rfl rfl ?_
      exact c_zret h hc rfl hx1 dX8_isDeterministic_60
    · refine r_iload_n h 1 dX8_isDeterministic_30 rfl rfl ?_
      refine r_if_eq (x := x1) h hx1.r 59 dX8_isDeterministic_31 rfl ?_ ?_
      · refine r_iload_n h 1 dX8_isDeterministic_59 rfl rfl ?_
        exact c_zret h hc rfl hx1 dX8_isDeterministic_60
      · refine c_aload_n (x := x0) h 0 dX8_isDeterministic_34 rfl rfl ?_
        refine c_aload_n (x := x0) h 0 dX8_isDeterministic_35 rfl rfl ?_
        refine r_ck (fun ht6 => ?_)
        refine c_getR (fin := true) h hc [8] 3 (zc_lk1 h q710) ht6 (by decide) dX8_isDeterministic_36 ?_
        refine r_iload_n h 2 dX8_isDeterministic_39 rfl rfl ?_
        refine r_ck (fun ht7 => ?_)
        refine c_ldJ h hc ht7 dX8_isDeterministic_40 (fun _ hr8 => ?_)
        refine c_callV (x := x0) h hc (As := [jv (μ4 (μ4 x0 3) x2)]) (fun o1 e1 => u_X8_isDoubled _ x0 (μ4 (μ4 x0 3) x2) hr8 o1 e1) [8] ht6 (by decide) q1039 q1041 (fun t ht => by cases List.mem_singleton.mp ht; exact qs33) q1042 q154 (by omega) (by omega) zc_s0 (by omega) (fun z hz => by cases hz) ⟨by decide, by decide⟩ (n := 1) (by decide +kernel) rfl rfl dX8_isDeterministic_41 (fun r9 μ10 hr11 => r_k3 ?_)
        refine r_if_ne (x := r9) h hr11.r 51 dX8_isDeterministic_44 rfl ?_ ?_
        · refine r_iconst h dX8_isDeterministic_47 ?_
          refine r_goto h 52 dX8_isDeterministic_48 rfl ?_
          refine r_istore_n (i := 1) (lv' := [(1, iv 1), (0, zc_rv G x0), (2, iv x2)]) h dX8_isDeterministic_52 rfl (hN _ (by decide)) (by simp [zc_rv_cat]) ?_
          refine r_iinc (lv' := [(2, iv (x2 + 1)), (1, iv 1), (0, zc_rv G x0)]) h 2 dX8_isDeterministic_53 rfl (hN _ (by decide)) rfl ?_
          refine r_goto h 19 dX8_isDeterministic_56 rfl ?_
          refine r_ck (fun hk12 => ?_)
          exact r_lv [2, 1, 0] rfl (ih _ x0 1 (x2 + 1) (by decide) hk12)
        · refine r_iconst h dX8_isDeterministic_51 ?_
          refine r_istore_n (i := 1) (lv' := [(1, iv 0), (0, zc_rv G x0), (2, iv x2)]) h dX8_isDeterministic_52 rfl (hN _ (by decide)) (by simp [zc_rv_cat]) ?_
          refine r_iinc (lv' := [(2, iv (x2 + 1)), (1, iv 0), (0, zc_rv G x0)]) h 2 dX8_isDeterministic_53 rfl (hN _ (by decide)) rfl ?_
          refine r_goto h 19 dX8_isDeterministic_56 rfl ?_
          refine r_ck (fun hk13 => ?_)
          exact r_lv [2, 1, 0] rfl (ih _ x0 0 (x2 + 1) (by decide) hk13)
def c_X8_isDeterministic (μ : MEM) (a0 : Int) : Option zc_O := ck (zt [8] (μ a0 (-1)) = true) (bc (c_X8_isDoubled μ a0 (μ a0 4)) (fun r3 μ4 => if r3 = 0 then (c_X8_isDeterministic_19 zF μ4 a0 1 0) else (c_X8_isDeterministic_19 zF μ4 a0 0 0)))
theorem u_X8_isDeterministic {G : zc_G} (μ : MEM) (a0 : Int) (o : zc_O) (hd : c_X8_isDeterministic μ a0 = some o) : zc_Met G yX8_isDeterministic cX8_isDeterministic 3 (Option.some FieldType.boolean) 3 4 89 μ [zc_rv G a0] o := by
  refine zc_intro hd (by decide) (by simp [lg_sl, zc_rv_cat, iv_cat, jv_cat]) (lv := [(0, zc_rv G a0)]) (by simp [lv_args, zc_rv_cat, iv_cat, jv_cat]) (fun C h hc => ?_)
  have h : zv_Ok C cX8_isDeterministic "TreePress$Spec" := h
  have hc : zc_C C G μ 3 (Option.some FieldType.boolean) 3 4 89 "isDeterministic" [] := hc
  have hN : ∀ i, i < 3 → i < zv_n C := fun i q => by rw [hc.2.1]; exact q
  unfold c_X8_isDeterministic
  refine c_aload_n (x := a0) h 0 dX8_isDeterministic_0 rfl rfl ?_
  refine c_aload_n (x := a0) h 0 dX8_isDeterministic_1 rfl rfl ?_
  refine r_ck (fun ht1 => ?_)
  refine c_getJ (fin := false) h hc [8] 4 (zc_lk1 h q712) ht1 (by decide) dX8_isDeterministic_2 (fun hr2 => ?_)
  refine c_callV (x := a0) h hc (As := [jv (μ a0 4)]) (fun o1 e1 => u_X8_isDoubled _ a0 (μ a0 4) hr2 o1 e1) [8] ht1 (by decide) q1039 q1041 (fun t ht => by cases List.mem_singleton.mp ht; exact qs33) q1042 q154 (by omega) (by omega) zc_s0 (by omega) (fun z hz => by cases hz) ⟨by decide, by decide⟩ (n := 1) (by decide +kernel) rfl rfl dX8_isDeterministic_5 (fun r3 μ4 hr5 => r_k3 ?_)
  refine r_if_ne (x := r3) h hr5.r 15 dX8_isDeterministic_8 rfl ?_ ?_
  · refine r_iconst h dX8_isDeterministic_11 ?_
    refine r_goto h 16 dX8_isDeterministic_12 rfl ?_
    refine r_istore_n (i := 1) (lv' := [(1, iv 1), (0, zc_rv G a0)]) h dX8_isDeterministic_16 rfl (hN _ (by decide)) (by simp [zc_rv_cat]) ?_
    refine r_iconst h dX8_isDeterministic_17 ?_
    refine r_istore_n (i := 2) (lv' := [(2, iv 0), (1, iv 1), (0, zc_rv G a0)]) h dX8_isDeterministic_18 rfl (hN _ (by decide)) rfl ?_
    exact r_lv [2, 1, 0] rfl (u_X8_isDeterministic_19 h hc zF _ a0 1 0 (by decide) (by decide))
  · refine r_iconst h dX8_isDeterministic_15 ?_
    refine r_istore_n (i := 1) (lv' := [(1, iv 0), (0, zc_rv G a0)]) h dX8_isDeterministic_16 rfl (hN _ (by decide)) (by simp [zc_rv_cat]) ?_
    refine r_iconst h dX8_isDeterministic_17 ?_
    refine r_istore_n (i := 2) (lv' := [(2, iv 0), (1, iv 0), (0, zc_rv G a0)]) h dX8_isDeterministic_18 rfl (hN _ (by decide)) rfl ?_
    exact r_lv [2, 1, 0] rfl (u_X8_isDeterministic_19 h hc zF _ a0 0 0 (by decide) (by decide))
theorem dX4_judgeSpec_0 : decode cX4_judgeSpec 0 = .ok (.aload_n 0, 1) := by decide +kernel
theorem dX4_judgeSpec_1 : decode cX4_judgeSpec 1 = .ok (.getfield 25, 3) := by decide +kernel
theorem dX4_judgeSpec_4 : decode cX4_judgeSpec 4 = .ok (.iload_n 1, 1) := by decide +kernel
theorem dX4_judgeSpec_5 : decode cX4_judgeSpec 5 = .ok (.invokevirtual 57, 3) := by decide +kernel
theorem dX4_judgeSpec_8 : decode cX4_judgeSpec 8 = .ok (.checkcast 61, 3) := by decide +kernel
theorem dX4_judgeSpec_11 : decode cX4_judgeSpec 11 = .ok (.astore_n 2, 1) := by decide +kernel
theorem dX4_judgeSpec_12 : decode cX4_judgeSpec 12 = .ok (.aload_n 0, 1) := by decide +kernel
theorem dX4_judgeSpec_13 : decode cX4_judgeSpec 13 = .ok (.aload_n 2, 1) := by decide +kernel
theorem dX4_judgeSpec_14 : decode cX4_judgeSpec 14 = .ok (.getfield 63, 3) := by decide +kernel
theorem dX4_judgeSpec_17 : decode cX4_judgeSpec 17 = .ok (.invokevirtual 77, 3) := by decide +kernel
theorem dX4_judgeSpec_20 : decode cX4_judgeSpec 20 = .ok (.aload_n 2, 1) := by decide +kernel
theorem dX4_judgeSpec_21 : decode cX4_judgeSpec 21 = .ok (.if_acmp .eq 9, 3) := by decide +kernel
theorem dX4_judgeSpec_24 : decode cX4_judgeSpec 24 = .ok (.aload_n 0, 1) := by decide +kernel
theorem dX4_judgeSpec_25 : decode cX4_judgeSpec 25 = .ok (.iconst 1, 1) := by decide +kernel
theorem dX4_judgeSpec_26 : decode cX4_judgeSpec 26 = .ok (.iload_n 1, 1) := by decide +kernel
theorem dX4_judgeSpec_27 : decode cX4_judgeSpec 27 = .ok (.invokevirtual 81, 3) := by decide +kernel
theorem dX4_judgeSpec_30 : decode cX4_judgeSpec 30 = .ok (.aload_n 2, 1) := by decide +kernel
theorem dX4_judgeSpec_31 : decode cX4_judgeSpec 31 = .ok (.getfield 85, 3) := by decide +kernel
theorem dX4_judgeSpec_34 : decode cX4_judgeSpec 34 = .ok (.iconst 3, 1) := by decide +kernel
theorem dX4_judgeSpec_35 : decode cX4_judgeSpec 35 = .ok (.if_icmp .ne 16, 3) := by decide +kernel
theorem dX4_judgeSpec_38 : decode cX4_judgeSpec 38 = .ok (.aload_n 2, 1) := by decide +kernel
theorem dX4_judgeSpec_39 : decode cX4_judgeSpec 39 = .ok (.invokevirtual 88, 3) := by decide +kernel
theorem dX4_judgeSpec_42 : decode cX4_judgeSpec 42 = .ok (.ifCond .ne 9, 3) := by decide +kernel
theorem dX4_judgeSpec_45 : decode cX4_judgeSpec 45 = .ok (.aload_n 0, 1) := by decide +kernel
theorem dX4_judgeSpec_46 : decode cX4_judgeSpec 46 = .ok (.iconst 2, 1) := by decide +kernel
theorem dX4_judgeSpec_47 : decode cX4_judgeSpec 47 = .ok (.iload_n 1, 1) := by decide +kernel
theorem dX4_judgeSpec_48 : decode cX4_judgeSpec 48 = .ok (.invokevirtual 81, 3) := by decide +kernel
theorem dX4_judgeSpec_51 : decode cX4_judgeSpec 51 = .ok (.aload_n 2, 1) := by decide +kernel
theorem dX4_judgeSpec_52 : decode cX4_judgeSpec 52 = .ok (.getfield 85, 3) := by decide +kernel
theorem dX4_judgeSpec_55 : decode cX4_judgeSpec 55 = .ok (.iconst 2, 1) := by decide +kernel
theorem dX4_judgeSpec_56 : decode cX4_judgeSpec 56 = .ok (.if_icmp .ne 19, 3) := by decide +kernel
theorem dX4_judgeSpec_59 : decode cX4_judgeSpec 59 = .ok (.aload_n 2, 1) := by decide +kernel
theorem dX4_judgeSpec_60 : decode cX4_judgeSpec 60 = .ok (.ldc2_w 92, 3) := by decide +kernel
theorem dX4_judgeSpec_63 : decode cX4_judgeSpec 63 = .ok (.invokevirtual 94, 3) := by decide +kernel
theorem dX4_judgeSpec_66 : decode cX4_judgeSpec 66 = .ok (.ifCond .eq 9, 3) := by decide +kernel
theorem dX4_judgeSpec_69 : decode cX4_judgeSpec 69 = .ok (.aload_n 0, 1) := by decide +kernel
theorem dX4_judgeSpec_70 : decode cX4_judgeSpec 70 = .ok (.iconst 3, 1) := by decide +kernel
theorem dX4_judgeSpec_71 : decode cX4_judgeSpec 71 = .ok (.iload_n 1, 1) := by decide +kernel
theorem dX4_judgeSpec_72 : decode cX4_judgeSpec 72 = .ok (.invokevirtual 81, 3) := by decide +kernel
theorem dX4_judgeSpec_75 : decode cX4_judgeSpec 75 = .ok (.return_, 1) := by decide +kernel
def c_X4_judgeSpec_51 (μ : MEM) (x0 x1 x2 : Int) : Option zc_O := ck (zt [8] (μ x2 (-1)) = true) (if (μ x2 1) = 2 then (bc (c_X8_isDoubled μ x2 (-1)) (fun r3 μ4 => if r3 = 0 then (some (0, 0, μ4)) else (ck (zt [4] (μ4 x0 (-1)) = true) (bc (c_X4_find μ4 x0 3 x1) (fun _ μ7 => some (0, 0, μ7)))))) else (some (0, 0, μ)))
theorem u_X4_judgeSpec_51 {C : zv_Cx zc_O} {G : zc_G} {μ0 : MEM} (h : zv_Ok C cX4_judgeSpec "TreePress$Document") (hc : zc_C C G μ0 3 (Option.none : Option FieldType) 0 8 174 "judgeSpec" []) (μ : MEM) (x0 x1 x2 : Int) (hx1 : inR x1) : VV C (c_X4_judgeSpec_51 μ x0 x1 x2) μ [(0, zc_rv G x0), (1, iv x1), (2, zc_rv G x2)] [] 51 := by
  have hN : ∀ i, i < 3 → i < zv_n C := fun i q => by rw [hc.2.1]; exact q
  unfold c_X4_judgeSpec_51
  refine c_aload_n (x := x2) h 2 dX4_judgeSpec_51 rfl rfl ?_
  refine r_ck (fun ht1 => ?_)
  refine c_getI (fin := false) h hc [8] 1 (zc_lk3 hc (O := "TreePress$Spec") (n := "kind") (ds := "I") (host := "TreePress") (by decide)) ht1 (by decide) dX4_judgeSpec_52 (fun hr2 => ?_)
  refine r_iconst h dX4_judgeSpec_55 ?_
  refine r_icmp_ne (x := (μ x2 1)) (y := 2) h hr2 (by decide) 75 dX4_judgeSpec_56 rfl ?_ ?_
  · refine c_aload_n (x := x2) h 2 dX4_judgeSpec_59 rfl rfl ?_
    refine r_ldc2 (x := (-1)) h q1047 (by decide) dX4_judgeSpec_60 ?_
    refine c_callVN (x := x2) h hc (As := [jv (-1)]) (fun o1 e1 => u_X8_isDoubled _ x2 (-1) (by decide) o1 e1) [8] ht1 (by decide) (host := "TreePress") (by decide) q1041 (fun t ht => by cases List.mem_singleton.mp ht; exact qs33) q1042 q154 (by omega) (by omega) zc_s0 (by omega) (fun z hz => by cases hz) ⟨by decide, by decide⟩ (n := 1) (by decide +kernel) rfl rfl dX4_judgeSpec_63 (fun r3 μ4 hr5 => r_k3 ?_)
    refine r_if_eq (x := r3) h hr5.r 75 dX4_judgeSpec_66 rfl ?_ ?_
    · exact c_vret h hc rfl dX4_judgeSpec_75
    · refine c_aload_n (x := x0) h 0 dX4_judgeSpec_69 rfl rfl ?_
      refine r_iconst h dX4_judgeSpec_70 ?_
      refine r_iload_n h 1 dX4_judgeSpec_71 rfl rfl ?_
      refine r_ck (fun ht6 => ?_)
      refine c_callV (x := x0) h hc (As := [iv 3, iv x1]) (fun o1 e1 => u_X4_find _ x0 3 x1 (by decide) hx1 o1 e1) [4] ht6 (by decide) q1031 q1033 (fun t ht => by cases List.mem_singleton.mp ht; exact qs32) q1034 q140 (by omega) (by omega) zc_s0 (by omega) (fun z hz => by cases hz) ⟨by decide, by decide⟩ (n := 2) (by decide +kernel) rfl rfl dX4_judgeSpec_72 (fun _ μ7 _ => r_k0 ?_)
      exact c_vret h hc rfl dX4_judgeSpec_75
  · exact c_vret h hc rfl dX4_judgeSpec_75
def c_X4_judgeSpec_30 (μ : MEM) (x0 x1 x2 : Int) : Option zc_O := ck (zt [8] (μ x2 (-1)) = true) (if (μ x2 1) = 3 then (bc (c_X8_isDeterministic μ x2) (fun r3 μ4 => if r3 = 0 then (ck (zt [4] (μ4 x0 (-1)) = true) (bc (c_X4_find μ4 x0 2 x1) (fun _ μ7 => c_X4_judgeSpec_51 μ7 x0 x1 x2))) else (c_X4_judgeSpec_51 μ4 x0 x1 x2))) else (c_X4_judgeSpec_51 μ x0 x1 x2))
theorem u_X4_judgeSpec_30 {C : zv_Cx zc_O} {G : zc_G} {μ0 : MEM} (h : zv_Ok C cX4_judgeSpec "TreePress$Document") (hc : zc_C C G μ0 3 (Option.none : Option FieldType) 0 8 174 "judgeSpec" []) (μ : MEM) (x0 x1 x2 : Int) (hx1 : inR x1) : VV C (c_X4_judgeSpec_30 μ x0 x1 x2) μ [(0, zc_rv G x0), (1, iv x1), (2, zc_rv G x2)] [] 30 := by
  have hN : ∀ i, i < 3 → i < zv_n C := fun i q => by rw [hc.2.1]; exact q
  unfold c_X4_judgeSpec_30
  refine c_aload_n (x := x2) h 2 dX4_judgeSpec_30 rfl rfl ?_
  refine r_ck (fun ht1 => ?_)
  refine c_getI (fin := false) h hc [8] 1 (zc_lk3 hc (O := "TreePress$Spec") (n := "kind") (ds := "I") (host := "TreePress") (by decide)) ht1 (by decide) dX4_judgeSpec_31 (fun hr2 => ?_)
  refine r_iconst h dX4_judgeSpec_34 ?_
  refine r_icmp_ne (x := (μ x2 1)) (y := 3) h hr2 (by decide) 51 dX4_judgeSpec_35 rfl ?_ ?_
  · refine c_aload_n (x := x2) h 2 dX4_judgeSpec_38 rfl rfl ?_
    refine c_callV (x := x2) h hc (As := []) (fun o1 e1 => u_X8_isDeterministic _ x2 o1 e1) [8] ht1 (by decide) q1035 q1036 (fun t ht => by cases List.mem_singleton.mp ht; exact q1037) q1038 q154 (by omega) (by omega) zc_s0 (by omega) (fun z hz => by cases hz) ⟨by decide, by decide⟩ (n := 0) (by decide +kernel) rfl rfl dX4_judgeSpec_39 (fun r3 μ4 hr5 => r_k3 ?_)
    refine r_if_ne (x := r3) h hr5.r 51 dX4_judgeSpec_42 rfl ?_ ?_
    · refine c_aload_n (x := x0) h 0 dX4_judgeSpec_45 rfl rfl ?_
      refine r_iconst h dX4_judgeSpec_46 ?_
      refine r_iload_n h 1 dX4_judgeSpec_47 rfl rfl ?_
      refine r_ck (fun ht6 => ?_)
      refine c_callV (x := x0) h hc (As := [iv 2, iv x1]) (fun o1 e1 => u_X4_find _ x0 2 x1 (by decide) hx1 o1 e1) [4] ht6 (by decide) q1031 q1033 (fun t ht => by cases List.mem_singleton.mp ht; exact qs32) q1034 q140 (by omega) (by omega) zc_s0 (by omega) (fun z hz => by cases hz) ⟨by decide, by decide⟩ (n := 2) (by decide +kernel) rfl rfl dX4_judgeSpec_48 (fun _ μ7 _ => r_k0 ?_)
      exact r_lv [0, 1, 2] rfl (u_X4_judgeSpec_51 h hc _ x0 x1 x2 hx1)
    · exact r_lv [0, 1, 2] rfl (u_X4_judgeSpec_51 h hc _ x0 x1 x2 hx1)
  · exact r_lv [0, 1, 2] rfl (u_X4_judgeSpec_51 h hc _ x0 x1 x2 hx1)
def c_X4_judgeSpec (μ : MEM) (a0 a1 : Int) : Option zc_O := ck (zt [4] (μ a0 (-1)) = true) (ck (zt [40] (μ (μ a0 3) (-1)) = true) (bc (b_lget μ (μ a0 3) a1) (fun r3 μ4 => ck (zt [8] (μ4 r3 (-1)) = true) (ck (zt [4] (μ4 a0 (-1)) = true) (bc (c_X4_spec μ4 a0 (μ4 r3 0)) (fun r8 μ9 => ck ((0 : Int) ≤ r8 ∧ (0 : Int) ≤ r3) (if r8 = r3 then (c_X4_judgeSpec_30 μ9 a0 a1 r3) else (ck (zt [4] (μ9 a0 (-1)) = true) (bc (c_X4_find μ9 a0 1 a1) (fun _ μ12 => c_X4_judgeSpec_30 μ12 a0 a1 r3))))))))))
theorem u_X4_judgeSpec {G : zc_G} (μ : MEM) (a0 a1 : Int) (ha1 : inR a1) (o : zc_O) (hd : c_X4_judgeSpec μ a0 a1 = some o) : zc_Met G yX4_judgeSpec cX4_judgeSpec 3 (Option.none : Option FieldType) 0 8 174 μ [zc_rv G a0, iv a1] o := by
  refine zc_intro hd (by decide) (by simp [lg_sl, zc_rv_cat, iv_cat, jv_cat]) (lv := [(0, zc_rv G a0), (1, iv a1)]) (by simp [lv_args, zc_rv_cat, iv_cat, jv_cat]) (fun C h hc => ?_)
  have h : zv_Ok C cX4_judgeSpec "TreePress$Document" := h
  have hc : zc_C C G μ 3 (Option.none : Option FieldType) 0 8 174 "judgeSpec" [] := hc
  have hN : ∀ i, i < 3 → i < zv_n C := fun i q => by rw [hc.2.1]; exact q
  unfold c_X4_judgeSpec
  refine c_aload_n (x := a0) h 0 dX4_judgeSpec_0 rfl rfl ?_
  refine r_ck (fun ht1 => ?_)
  refine c_getR (fin := true) h hc [4] 3 (zc_lk1 h q416) ht1 (by decide) dX4_judgeSpec_1 ?_
  refine r_iload_n h 1 dX4_judgeSpec_4 rfl rfl ?_
  refine r_ck (fun ht2 => ?_)
  refine c_callV (x := (μ a0 3)) h hc (As := [iv a1]) (fun o1 e1 => w_lget _ (μ a0 3) a1 ha1 o1 e1) [40] ht2 (by decide) q862 q844 (fun t ht => by cases List.mem_singleton.mp ht; exact q845) q846 q135 (by omega) (by omega) zc_s0 (by omega) (fun z hz => by cases hz) ⟨by decide, by decide⟩ (n := 1) (by decide +kernel) rfl rfl dX4_judgeSpec_5 (fun r3 μ4 hr5 => r_k4 ?_)
  refine r_ck (fun ht6 => ?_)
  refine c_cast h hc [8] q1026 ht6 (by decide) dX4_judgeSpec_8 ?_
  refine c_astore_n (i := 2) (lv' := [(2, zc_rv G r3), (0, zc_rv G a0), (1, iv a1)]) h dX4_judgeSpec_11 rfl (hN _ (by decide)) rfl ?_
  refine c_aload_n (x := a0) h 1 dX4_judgeSpec_12 rfl rfl ?_
  refine c_aload_n (x := r3) h 0 dX4_judgeSpec_13 rfl rfl ?_
  refine c_getR (fin := true) h hc [8] 0 (zc_lk3 hc (O := "TreePress$Spec") (n := "name") (ds := "[B") (host := "TreePress") (by decide)) ht6 (by decide) dX4_judgeSpec_14 ?_
  refine r_ck (fun ht7 => ?_)
  refine c_callV (x := a0) h hc (As := [zc_rv G (μ4 r3 0)]) (fun o1 e1 => u_X4_spec _ a0 (μ4 r3 0) o1 e1) [4] ht7 (by decide) q1027 q1028 (fun t ht => by cases List.mem_singleton.mp ht; exact q1029) q1030 q140 (by omega) (by omega) zc_s0 (by omega) (fun z hz => by cases hz) ⟨by decide, by decide⟩ (n := 1) (by decide +kernel) rfl rfl dX4_judgeSpec_17 (fun r8 μ9 hr10 => r_k4 ?_)
  refine c_aload_n (x := r3) h 0 dX4_judgeSpec_20 rfl rfl ?_
  refine c_acmp_eq (x := r8) (y := r3) h 30 dX4_judgeSpec_21 rfl ?_ ?_
  · exact r_lv [1, 2, 0] rfl (u_X4_judgeSpec_30 h hc _ a0 a1 r3 ha1)
  · refine c_aload_n (x := a0) h 1 dX4_judgeSpec_24 rfl rfl ?_
    refine r_iconst h dX4_judgeSpec_25 ?_
    refine r_iload_n h 2 dX4_judgeSpec_26 rfl rfl ?_
    refine r_ck (fun ht11 => ?_)
    refine c_callV (x := a0) h hc (As := [iv 1, iv a1]) (fun o1 e1 => u_X4_find _ a0 1 a1 (by decide) ha1 o1 e1) [4] ht11 (by decide) q1031 q1033 (fun t ht => by cases List.mem_singleton.mp ht; exact qs32) q1034 q140 (by omega) (by omega) zc_s0 (by omega) (fun z hz => by cases hz) ⟨by decide, by decide⟩ (n := 2) (by decide +kernel) rfl rfl dX4_judgeSpec_27 (fun _ μ12 _ => r_k0 ?_)
    exact r_lv [1, 2, 0] rfl (u_X4_judgeSpec_30 h hc _ a0 a1 r3 ha1)
theorem dX4_judgeRule_0 : decode cX4_judgeRule 0 = .ok (.aload_n 0, 1) := by decide +kernel
theorem dX4_judgeRule_1 : decode cX4_judgeRule 1 = .ok (.aload_n 1, 1) := by decide +kernel
theorem dX4_judgeRule_2 : decode cX4_judgeRule 2 = .ok (.getfield 73, 3) := by decide +kernel
theorem dX4_judgeRule_5 : decode cX4_judgeRule 5 = .ok (.aload_n 1, 1) := by decide +kernel
theorem dX4_judgeRule_6 : decode cX4_judgeRule 6 = .ok (.getfield 76, 3) := by decide +kernel
theorem dX4_judgeRule_9 : decode cX4_judgeRule 9 = .ok (.invokevirtual 98, 3) := by decide +kernel
theorem dX4_judgeRule_12 : decode cX4_judgeRule 12 = .ok (.aload_n 1, 1) := by decide +kernel
theorem dX4_judgeRule_13 : decode cX4_judgeRule 13 = .ok (.if_acmp .eq 4, 3) := by decide +kernel
theorem dX4_judgeRule_16 : decode cX4_judgeRule 16 = .ok (.return_, 1) := by decide +kernel
theorem dX4_judgeRule_17 : decode cX4_judgeRule 17 = .ok (.aload_n 1, 1) := by decide +kernel
theorem dX4_judgeRule_18 : decode cX4_judgeRule 18 = .ok (.getfield 102, 3) := by decide +kernel
theorem dX4_judgeRule_21 : decode cX4_judgeRule 21 = .ok (.iconst 1, 1) := by decide +kernel
theorem dX4_judgeRule_22 : decode cX4_judgeRule 22 = .ok (.if_icmp .ne 14, 3) := by decide +kernel
theorem dX4_judgeRule_25 : decode cX4_judgeRule 25 = .ok (.aload_n 1, 1) := by decide +kernel
theorem dX4_judgeRule_26 : decode cX4_judgeRule 26 = .ok (.getfield 105, 3) := by decide +kernel
theorem dX4_judgeRule_29 : decode cX4_judgeRule 29 = .ok (.ifnull 7, 3) := by decide +kernel
theorem dX4_judgeRule_32 : decode cX4_judgeRule 32 = .ok (.iconst 1, 1) := by decide +kernel
theorem dX4_judgeRule_33 : decode cX4_judgeRule 33 = .ok (.goto 4, 3) := by decide +kernel
theorem dX4_judgeRule_36 : decode cX4_judgeRule 36 = .ok (.iconst 0, 1) := by decide +kernel
theorem dX4_judgeRule_37 : decode cX4_judgeRule 37 = .ok (.istore_n 2, 1) := by decide +kernel
theorem dX4_judgeRule_38 : decode cX4_judgeRule 38 = .ok (.iconst 0, 1) := by decide +kernel
theorem dX4_judgeRule_39 : decode cX4_judgeRule 39 = .ok (.istore_n 3, 1) := by decide +kernel
theorem dX4_judgeRule_40 : decode cX4_judgeRule 40 = .ok (.iload_n 3, 1) := by decide +kernel
theorem dX4_judgeRule_41 : decode cX4_judgeRule 41 = .ok (.aload_n 1, 1) := by decide +kernel
theorem dX4_judgeRule_42 : decode cX4_judgeRule 42 = .ok (.getfield 108, 3) := by decide +kernel
theorem dX4_judgeRule_45 : decode cX4_judgeRule 45 = .ok (.if_icmp .ge 83, 3) := by decide +kernel
theorem dX4_judgeRule_48 : decode cX4_judgeRule 48 = .ok (.iload_n 2, 1) := by decide +kernel
theorem dX4_judgeRule_49 : decode cX4_judgeRule 49 = .ok (.ifCond .ne 79, 3) := by decide +kernel
theorem dX4_judgeRule_52 : decode cX4_judgeRule 52 = .ok (.aload_n 1, 1) := by decide +kernel
theorem dX4_judgeRule_53 : decode cX4_judgeRule 53 = .ok (.getfield 102, 3) := by decide +kernel
theorem dX4_judgeRule_56 : decode cX4_judgeRule 56 = .ok (.iconst 1, 1) := by decide +kernel
theorem dX4_judgeRule_57 : decode cX4_judgeRule 57 = .ok (.if_icmp .ne 71, 3) := by decide +kernel
theorem dX4_judgeRule_60 : decode cX4_judgeRule 60 = .ok (.aload_n 0, 1) := by decide +kernel
theorem dX4_judgeRule_61 : decode cX4_judgeRule 61 = .ok (.getfield 28, 3) := by decide +kernel
theorem dX4_judgeRule_64 : decode cX4_judgeRule 64 = .ok (.iload_n 3, 1) := by decide +kernel
theorem dX4_judgeRule_65 : decode cX4_judgeRule 65 = .ok (.invokevirtual 57, 3) := by decide +kernel
theorem dX4_judgeRule_68 : decode cX4_judgeRule 68 = .ok (.checkcast 71, 3) := by decide +kernel
theorem dX4_judgeRule_71 : decode cX4_judgeRule 71 = .ok (.astore 4, 2) := by decide +kernel
theorem dX4_judgeRule_73 : decode cX4_judgeRule 73 = .ok (.aload 4, 2) := by decide +kernel
theorem dX4_judgeRule_75 : decode cX4_judgeRule 75 = .ok (.getfield 102, 3) := by decide +kernel
theorem dX4_judgeRule_78 : decode cX4_judgeRule 78 = .ok (.iconst 1, 1) := by decide +kernel
theorem dX4_judgeRule_79 : decode cX4_judgeRule 79 = .ok (.if_icmp .ne 41, 3) := by decide +kernel
theorem dX4_judgeRule_82 : decode cX4_judgeRule 82 = .ok (.aload 4, 2) := by decide +kernel
theorem dX4_judgeRule_84 : decode cX4_judgeRule 84 = .ok (.getfield 73, 3) := by decide +kernel
theorem dX4_judgeRule_87 : decode cX4_judgeRule 87 = .ok (.aload_n 1, 1) := by decide +kernel
theorem dX4_judgeRule_88 : decode cX4_judgeRule 88 = .ok (.getfield 73, 3) := by decide +kernel
theorem dX4_judgeRule_91 : decode cX4_judgeRule 91 = .ok (.invokestatic 67, 3) := by decide +kernel
theorem dX4_judgeRule_94 : decode cX4_judgeRule 94 = .ok (.ifCond .eq 26, 3) := by decide +kernel
theorem dX4_judgeRule_97 : decode cX4_judgeRule 97 = .ok (.aload_n 0, 1) := by decide +kernel
theorem dX4_judgeRule_98 : decode cX4_judgeRule 98 = .ok (.aload 4, 2) := by decide +kernel
theorem dX4_judgeRule_100 : decode cX4_judgeRule 100 = .ok (.getfield 73, 3) := by decide +kernel
theorem dX4_judgeRule_103 : decode cX4_judgeRule 103 = .ok (.aload 4, 2) := by decide +kernel
theorem dX4_judgeRule_105 : decode cX4_judgeRule 105 = .ok (.getfield 76, 3) := by decide +kernel
theorem dX4_judgeRule_108 : decode cX4_judgeRule 108 = .ok (.invokevirtual 98, 3) := by decide +kernel
theorem dX4_judgeRule_111 : decode cX4_judgeRule 111 = .ok (.aload 4, 2) := by decide +kernel
theorem dX4_judgeRule_113 : decode cX4_judgeRule 113 = .ok (.if_acmp .ne 7, 3) := by decide +kernel
theorem dX4_judgeRule_116 : decode cX4_judgeRule 116 = .ok (.iconst 1, 1) := by decide +kernel
theorem dX4_judgeRule_117 : decode cX4_judgeRule 117 = .ok (.goto 4, 3) := by decide +kernel
theorem dX4_judgeRule_120 : decode cX4_judgeRule 120 = .ok (.iconst 0, 1) := by decide +kernel
theorem dX4_judgeRule_121 : decode cX4_judgeRule 121 = .ok (.istore_n 2, 1) := by decide +kernel
theorem dX4_judgeRule_122 : decode cX4_judgeRule 122 = .ok (.iinc 3 1, 3) := by decide +kernel
theorem dX4_judgeRule_125 : decode cX4_judgeRule 125 = .ok (.goto (-85), 3) := by decide +kernel
theorem dX4_judgeRule_128 : decode cX4_judgeRule 128 = .ok (.iload_n 2, 1) := by decide +kernel
theorem dX4_judgeRule_129 : decode cX4_judgeRule 129 = .ok (.ifCond .eq 12, 3) := by decide +kernel
theorem dX4_judgeRule_132 : decode cX4_judgeRule 132 = .ok (.aload_n 0, 1) := by decide +kernel
theorem dX4_judgeRule_133 : decode cX4_judgeRule 133 = .ok (.iconst 4, 1) := by decide +kernel
theorem dX4_judgeRule_134 : decode cX4_judgeRule 134 = .ok (.aload_n 1, 1) := by decide +kernel
theorem dX4_judgeRule_135 : decode cX4_judgeRule 135 = .ok (.getfield 108, 3) := by decide +kernel
theorem dX4_judgeRule_138 : decode cX4_judgeRule 138 = .ok (.invokevirtual 81, 3) := by decide +kernel
theorem dX4_judgeRule_141 : decode cX4_judgeRule 141 = .ok (.aload_n 1, 1) := by decide +kernel
theorem dX4_judgeRule_142 : decode cX4_judgeRule 142 = .ok (.getfield 105, 3) := by decide +kernel
theorem dX4_judgeRule_145 : decode cX4_judgeRule 145 = .ok (.ifnull 23, 3) := by decide +kernel
theorem dX4_judgeRule_148 : decode cX4_judgeRule 148 = .ok (.aload_n 1, 1) := by decide +kernel
theorem dX4_judgeRule_149 : decode cX4_judgeRule 149 = .ok (.aload_n 1, 1) := by decide +kernel
theorem dX4_judgeRule_150 : decode cX4_judgeRule 150 = .ok (.getfield 105, 3) := by decide +kernel
theorem dX4_judgeRule_153 : decode cX4_judgeRule 153 = .ok (.invokevirtual 109, 3) := by decide +kernel
theorem dX4_judgeRule_156 : decode cX4_judgeRule 156 = .ok (.ifCond .ne 12, 3) := by decide +kernel
theorem dX4_judgeRule_159 : decode cX4_judgeRule 159 = .ok (.aload_n 0, 1) := by decide +kernel
theorem dX4_judgeRule_160 : decode cX4_judgeRule 160 = .ok (.iconst 5, 1) := by decide +kernel
theorem dX4_judgeRule_161 : decode cX4_judgeRule 161 = .ok (.aload_n 1, 1) := by decide +kernel
theorem dX4_judgeRule_162 : decode cX4_judgeRule 162 = .ok (.getfield 108, 3) := by decide +kernel
theorem dX4_judgeRule_165 : decode cX4_judgeRule 165 = .ok (.invokevirtual 81, 3) := by decide +kernel
theorem dX4_judgeRule_168 : decode cX4_judgeRule 168 = .ok (.return_, 1) := by decide +kernel
def c_X4_judgeRule_141 (μ : MEM) (x0 x1 : Int) : Option zc_O := ck (zt [10] (μ x1 (-1)) = true) (if (μ x1 6) = 0 then (some (0, 0, μ)) else (bc (c_X10_isOf μ x1 (μ x1 6)) (fun r2 μ3 => if r2 = 0 then (ck (zt [10] (μ3 x1 (-1)) = true) (ck (zt [4] (μ3 x0 (-1)) = true) (bc (c_X4_find μ3 x0 5 (μ3 x1 2)) (fun _ μ8 => some (0, 0, μ8))))) else (some (0, 0, μ3)))))
theorem u_X4_judgeRule_141 {C : zv_Cx zc_O} {G : zc_G} {μ0 : MEM} (h : zv_Ok C cX4_judgeRule "TreePress$Document") (hc : zc_C C G μ0 5 (Option.none : Option FieldType) 0 8 174 "judgeRule" []) (μ : MEM) (x0 x1 : Int) : VV C (c_X4_judgeRule_141 μ x0 x1) μ [(0, zc_rv G x0), (1, zc_rv G x1)] [] 141 := by
  have hN : ∀ i, i < 5 → i < zv_n C := fun i q => by rw [hc.2.1]; exact q
  unfold c_X4_judgeRule_141
  refine c_aload_n (x := x1) h 1 dX4_judgeRule_141 rfl rfl ?_
  refine r_ck (fun ht1 => ?_)
  refine c_getR (fin := false) h hc [10] 6 (zc_lk3 hc (O := "TreePress$Rule") (n := "value") (ds := "[B") (host := "TreePress") (by decide)) ht1 (by decide) dX4_judgeRule_142 ?_
  refine c_ifnull (x := (μ x1 6)) h 168 dX4_judgeRule_145 rfl ?_ ?_
  · exact c_vret h hc rfl dX4_judgeRule_168
  · refine c_aload_n (x := x1) h 1 dX4_judgeRule_148 rfl rfl ?_
    refine c_aload_n (x := x1) h 1 dX4_judgeRule_149 rfl rfl ?_
    refine c_getR (fin := false) h hc [10] 6 (zc_lk3 hc (O := "TreePress$Rule") (n := "value") (ds := "[B") (host := "TreePress") (by decide)) ht1 (by decide) dX4_judgeRule_150 ?_
    refine c_callV (x := x1) h hc (As := [zc_rv G (μ x1 6)]) (fun o1 e1 => u_X10_isOf _ x1 (μ x1 6) o1 e1) [10] ht1 (by decide) q1054 q1055 (fun t ht => by cases List.mem_singleton.mp ht; exact q1056) q1057 q156 (by omega) (by omega) zc_s0 (by omega) (fun z hz => by cases hz) ⟨by decide, by decide⟩ (n := 1) (by decide +kernel) rfl rfl dX4_judgeRule_153 (fun r2 μ3 hr4 => r_k3 ?_)
    refine r_if_ne (x := r2) h hr4.r 168 dX4_judgeRule_156 rfl ?_ ?_
    · refine c_aload_n (x := x0) h 0 dX4_judgeRule_159 rfl rfl ?_
      refine r_iconst h dX4_judgeRule_160 ?_
      refine c_aload_n (x := x1) h 1 dX4_judgeRule_161 rfl rfl ?_
      refine r_ck (fun ht5 => ?_)
      refine c_getI (fin := true) h hc [10] 2 (zc_lk3 hc (O := "TreePress$Rule") (n := "number") (ds := "I") (host := "TreePress") (by decide)) ht5 (by decide) dX4_judgeRule_162 (fun hr6 => ?_)
      refine r_ck (fun ht7 => ?_)
      refine c_callV (x := x0) h hc (As := [iv 5, iv (μ3 x1 2)]) (fun o1 e1 => u_X4_find _ x0 5 (μ3 x1 2) (by decide) hr6 o1 e1) [4] ht7 (by decide) q1031 q1033 (fun t ht => by cases List.mem_singleton.mp ht; exact qs32) q1034 q140 (by omega) (by omega) zc_s0 (by omega) (fun z hz => by cases hz) ⟨by decide, by decide⟩ (n := 2) (by decide +kernel) rfl rfl dX4_judgeRule_165 (fun _ μ8 _ => r_k0 ?_)
      exact c_vret h hc rfl dX4_judgeRule_168
    · exact c_vret h hc rfl dX4_judgeRule_168
def c_X4_judgeRule_128 (μ : MEM) (x0 x1 x2 : Int) : Option zc_O := if x2 = 0 then (c_X4_judgeRule_141 μ x0 x1) else (ck (zt [10] (μ x1 (-1)) = true) (ck (zt [4] (μ x0 (-1)) = true) (bc (c_X4_find μ x0 4 (μ x1 2)) (fun _ μ4 => c_X4_judgeRule_141 μ4 x0 x1))))
theorem u_X4_judgeRule_128 {C : zv_Cx zc_O} {G : zc_G} {μ0 : MEM} (h : zv_Ok C cX4_judgeRule "TreePress$Document") (hc : zc_C C G μ0 5 (Option.none : Option FieldType) 0 8 174 "judgeRule" []) (μ : MEM) (x0 x1 x2 : Int) (hx2 : isB x2) : VV C (c_X4_judgeRule_128 μ x0 x1 x2) μ [(0, zc_rv G x0), (1, zc_rv G x1), (2, iv x2)] [] 128 := by
  have hN : ∀ i, i < 5 → i < zv_n C := fun i q => by rw [hc.2.1]; exact q
  unfold c_X4_judgeRule_128
  refine r_iload_n h 2 dX4_judgeRule_128 rfl rfl ?_
  refine r_if_eq (x := x2) h hx2.r 141 dX4_judgeRule_129 rfl ?_ ?_
  · exact r_lv [0, 1] rfl (u_X4_judgeRule_141 h hc _ x0 x1)
  · refine c_aload_n (x := x0) h 0 dX4_judgeRule_132 rfl rfl ?_
    refine r_iconst h dX4_judgeRule_133 ?_
    refine c_aload_n (x := x1) h 1 dX4_judgeRule_134 rfl rfl ?_
    refine r_ck (fun ht1 => ?_)
    refine c_getI (fin := true) h hc [10] 2 (zc_lk3 hc (O := "TreePress$Rule") (n := "number") (ds := "I") (host := "TreePress") (by decide)) ht1 (by decide) dX4_judgeRule_135 (fun hr2 => ?_)
    refine r_ck (fun ht3 => ?_)
    refine c_callV (x := x0) h hc (As := [iv 4, iv (μ x1 2)]) (fun o1 e1 => u_X4_find _ x0 4 (μ x1 2) (by decide) hr2 o1 e1) [4] ht3 (by decide) q1031 q1033 (fun t ht => by cases List.mem_singleton.mp ht; exact qs32) q1034 q140 (by omega) (by omega) zc_s0 (by omega) (fun z hz => by cases hz) ⟨by decide, by decide⟩ (n := 2) (by decide +kernel) rfl rfl dX4_judgeRule_138 (fun _ μ4 _ => r_k0 ?_)
    exact r_lv [0, 1] rfl (u_X4_judgeRule_141 h hc _ x0 x1)
def c_X4_judgeRule_40 : Nat → MEM → Int → Int → Int → Int → Option zc_O
  | 0, _, _, _, _, _ => none
  | n + 1, μ, x0, x1, x2, x3 => ck (zt [10] (μ x1 (-1)) = true) (if (μ x1 2) ≤ x3 then (c_X4_judgeRule_128 μ x0 x1 x2) else (if x2 = 0 then (if (μ x1 3) = 1 then (ck (zt [4] (μ x0 (-1)) = true) (ck (zt [40] (μ (μ x0 4) (-1)) = true) (bc (b_lget μ (μ x0 4) x3) (fun r6 μ7 => ck (zt [10] (μ7 r6 (-1)) = true) (if (μ7 r6 3) = 1 then (ck (zt [10] (μ7 x1 (-1)) = true) (bc (c_X0_isSame μ7 (μ7 r6 0) (μ7 x1 0)) (fun r12 μ13 => if r12 = 0 then (ck (inR (x3 + 1)) (c_X4_judgeRule_40 n μ13 x0 x1 0 (x3 + 1))) else (ck (zt [10] (μ13 r6 (-1)) = true) (ck (zt [4] (μ13 x0 (-1)) = true) (bc (c_X4_rule μ13 x0 (μ13 r6 0) (μ13 r6 1)) (fun r18 μ19 => ck ((0 : Int) ≤ r18 ∧ (0 : Int) ≤ r6) (if r18 = r6 then (ck (inR (x3 + 1)) (c_X4_judgeRule_40 n μ19 x0 x1 1 (x3 + 1))) else (ck (inR (x3 + 1)) (c_X4_judgeRule_40 n μ19 x0 x1 0 (x3 + 1))))))))))) else (ck (inR (x3 + 1)) (c_X4_judgeRule_40 n μ7 x0 x1 0 (x3 + 1)))))))) else (c_X4_judgeRule_128 μ x0 x1 x2)) else (c_X4_judgeRule_128 μ x0 x1 x2)))
theorem u_X4_judgeRule_40 {C : zv_Cx zc_O} {G : zc_G} {μ0 : MEM} (h : zv_Ok C cX4_judgeRule "TreePress$Document") (hc : zc_C C G μ0 5 (Option.none : Option FieldType) 0 8 174 "judgeRule" []) : ∀ (n : Nat) (μ : MEM) (x0 x1 x2 x3 : Int), isB x2 → inR x3 → VV C (c_X4_judgeRule_40 n μ x0 x1 x2 x3) μ [(0, zc_rv G x0), (1, zc_rv G x1), (2, iv x2), (3, iv x3)] [] 40 := by
  have hN : ∀ i, i < 5 → i < zv_n C := fun i q => by rw [hc.2.1]; exact q
  intro n
  induction n with
  | zero => intros; exact r_none
  | succ n ih =>
    intro μ x0 x1 x2 x3 hx2 hx3
    rw [c_X4_judgeRule_40]
    refine r_iload_n h 3 dX4_judgeRule_40 rfl rfl ?_
    refine c_aload_n (x := x1) h 1 dX4_judgeRule_41 rfl rfl ?_
    refine r_ck (fun ht1 => ?_)
    refine c_getI (fin := true) h hc [10] 2 (zc_lk3 hc (O := "TreePress$Rule") (n := "number") (ds := "I") (host := "TreePress") (by decide)) ht1 (by decide) dX4_judgeRule_42 (fun hr2 => ?_)
    refine r_icmp_ge (x := x3) (y := (μ x1 2)) h hx3 hr2 128 dX4_judgeRule_45 rfl ?_ ?_
    · exact r_lv [0, 1, 2] rfl (u_X4_judgeRule_128 h hc _ x0 x1 x2 hx2)
    · refine r_iload_n h 2 dX4_judgeRule_48 rfl rfl ?_
      refine r_if_ne (x := x2) h hx2.r 128 dX4_judgeRule_49 rfl ?_ ?_
      · refine c_aload_n (x := x1) h 1 dX4_judgeRule_52 rfl rfl ?_
        refine c_getI (fin := false) h hc [10] 3 (zc_lk3 hc (O := "TreePress$Rule") (n := "type") (ds := "I") (host := "TreePress") (by decide)) ht1 (by decide) dX4_judgeRule_53 (fun hr3 => ?_)
        refine r_iconst h dX4_judgeRule_56 ?_
        refine r_icmp_ne (x := (μ x1 3)) (y := 1) h hr3 (by decide) 128 dX4_judgeRule_57 rfl ?_ ?_
        · refine c_aload_n (x := x0) h 0 dX4_judgeRule_60 rfl rfl ?_
          refine r_ck (fun ht4 => ?_)
          refine c_getR (fin := true) h hc [4] 4 (zc_lk1 h q419) ht4 (by decide) dX4_judgeRule_61 ?_
          refine r_iload_n h 3 dX4_judgeRule_64 rfl rfl ?_
          refine r_ck (fun ht5 => ?_)
          refine c_callV (x := (μ x0 4)) h hc (As := [iv x3]) (fun o1 e1 => w_lget _ (μ x0 4) x3 hx3 o1 e1) [40] ht5 (by decide) q862 q844 (fun t ht => by cases List.mem_singleton.mp ht; exact q845) q846 q135 (by omega) (by omega) zc_s0 (by omega) (fun z hz => by cases hz) ⟨by decide, by decide⟩ (n := 1) (by decide +kernel) rfl rfl dX4_judgeRule_65 (fun r6 μ7 hr8 => r_k4 ?_)
          refine r_ck (fun ht9 => ?_)
          refine c_cast h hc [10] q863 ht9 (by decide) dX4_judgeRule_68 ?_
          refine c_astore (lv' := [(4, zc_rv G r6), (0, zc_rv G x0), (1, zc_rv G x1), (2, iv x2), (3, iv x3)]) h dX4_judgeRule_71 (hN _ (by decide)) rfl ?_
          refine c_aload (x := r6) h 0 dX4_judgeRule_73 rfl ?_
          refine c_getI (fin := false) h hc [10] 3 (zc_lk3 hc (O := "TreePress$Rule") (n := "type") (ds := "I") (host := "TreePress") (by decide)) ht9 (by decide) dX4_judgeRule_75 (fun hr10 => ?_)
          refine r_iconst h dX4_judgeRule_78 ?_
          refine r_icmp_ne (x := (μ7 r6 3)) (y := 1) h hr10 (by decide) 120 dX4_judgeRule_79 rfl ?_ ?_
          · refine c_aload (x := r6) h 0 dX4_judgeRule_82 rfl ?_
            refine c_getR (fin := true) h hc [10] 0 (zc_lk3 hc (O := "TreePress$Rule") (n := "of") (ds := "[B") (host := "TreePress") (by decide)) ht9 (by decide) dX4_judgeRule_84 ?_
            refine c_aload_n (x := x1) h 2 dX4_judgeRule_87 rfl rfl ?_
            refine r_ck (fun ht11 => ?_)
            refine c_getR (fin := true) h hc [10] 0 (zc_lk3 hc (O := "TreePress$Rule") (n := "of") (ds := "[B") (host := "TreePress") (by decide)) ht11 (by decide) dX4_judgeRule_88 ?_
            refine c_callSN h hc (As := [zc_rv G (μ7 r6 0), zc_rv G (μ7 x1 0)]) (fun o1 e1 => u_X0_isSame _ (μ7 r6 0) (μ7 x1 0) o1 e1) (host := "TreePress") (by decide) q856 q857 q132 (by omega) (by omega) zc_s0 (by omega) (fun z hz => by cases hz) ⟨by decide, by decide⟩ (n := 2) (by decide +kernel) rfl rfl dX4_judgeRule_91 (fun r12 μ13 hr14 => r_k3 ?_)
            refine r_if_eq (x := r12) h hr14.r 120 dX4_judgeRule_94 rfl ?_ ?_
            · refine r_iconst h dX4_judgeRule_120 ?_
              refine r_istore_n (i := 2) (lv' := [(2, iv 0), (4, zc_rv G r6), (0, zc_rv G x0), (1, zc_rv G x1), (3, iv x3)]) h dX4_judgeRule_121 rfl (hN _ (by decide)) (by simp [zc_rv_cat]) ?_
              refine r_iinc (lv' := [(3, iv (x3 + 1)), (2, iv 0), (4, zc_rv G r6), (0, zc_rv G x0), (1, zc_rv G x1)]) h 4 dX4_judgeRule_122 rfl (hN _ (by decide)) rfl ?_
              refine r_goto h 40 dX4_judgeRule_125 rfl ?_
              refine r_ck (fun hk15 => ?_)
              exact r_lv [3, 4, 1, 0] rfl (ih _ x0 x1 0 (x3 + 1) (by decide) hk15)
            · refine c_aload_n (x := x0) h 1 dX4_judgeRule_97 rfl rfl ?_
              refine c_aload (x := r6) h 0 dX4_judgeRule_98 rfl ?_
              refine r_ck (fun ht16 => ?_)
              refine c_getR (fin := true) h hc [10] 0 (zc_lk3 hc (O := "TreePress$Rule") (n := "of") (ds := "[B") (host := "TreePress") (by decide)) ht16 (by decide) dX4_judgeRule_100 ?_
              refine c_aload (x := r6) h 0 dX4_judgeRule_103 rfl ?_
              refine c_getR (fin := true) h hc [10] 1 (zc_lk3 hc (O := "TreePress$Rule") (n := "name") (ds := "[B") (host := "TreePress") (by decide)) ht16 (by decide) dX4_judgeRule_105 ?_
              refine r_ck (fun ht17 => ?_)
              refine c_callV (x := x0) h hc (As := [zc_rv G (μ13 r6 0), zc_rv G (μ13 r6 1)]) (fun o1 e1 => u_X4_rule _ x0 (μ13 r6 0) (μ13 r6 1) o1 e1) [4] ht17 (by decide) q1053 q859 (fun t ht => by cases List.mem_singleton.mp ht; exact q860) q861 q140 (by omega) (by omega) zc_s0 (by omega) (fun z hz => by cases hz) ⟨by decide, by decide⟩ (n := 2) (by decide +kernel) rfl rfl dX4_judgeRule_108 (fun r18 μ19 hr20 => r_k4 ?_)
              refine c_aload (x := r6) h 0 dX4_judgeRule_111 rfl ?_
              refine c_acmp_ne (x := r18) (y := r6) h 120 dX4_judgeRule_113 rfl ?_ ?_
              · refine r_iconst h dX4_judgeRule_116 ?_
                refine r_goto h 121 dX4_judgeRule_117 rfl ?_
                refine r_istore_n (i := 2) (lv' := [(2, iv 1), (4, zc_rv G r6), (0, zc_rv G x0), (1, zc_rv G x1), (3, iv x3)]) h dX4_judgeRule_121 rfl (hN _ (by decide)) (by simp [zc_rv_cat]) ?_
                refine r_iinc (lv' := [(3, iv (x3 + 1)), (2, iv 1), (4, zc_rv G r6), (0, zc_rv G x0), (1, zc_rv G x1)]) h 4 dX4_judgeRule_122 rfl (hN _ (by decide)) rfl ?_
                refine r_goto h 40 dX4_judgeRule_125 rfl ?_
                refine r_ck (fun hk21 => ?_)
                exact r_lv [3, 4, 1, 0] rfl (ih _ x0 x1 1 (x3 + 1) (by decide) hk21)
              · refine r_iconst h dX4_judgeRule_120 ?_
                refine r_istore_n (i := 2) (lv' := [(2, iv 0), (4, zc_rv G r6), (0, zc_rv G x0), (1, zc_rv G x1), (3, iv x3)]) h dX4_judgeRule_121 rfl (hN _ (by decide)) (by simp [zc_rv_cat]) ?_
                refine r_iinc (lv' := [(3, iv (x3 + 1)), (2, iv 0), (4, zc_rv G r6), (0, zc_rv G x0), (1, zc_rv G x1)]) h 4 dX4_judgeRule_122 rfl (hN _ (by decide)) rfl ?_
                refine r_goto h 40 dX4_judgeRule_125 rfl ?_
                refine r_ck (fun hk22 => ?_)
                exact r_lv [3, 4, 1, 0] rfl (ih _ x0 x1 0 (x3 + 1) (by decide) hk22)
          · refine r_iconst h dX4_judgeRule_120 ?_
            refine r_istore_n (i := 2) (lv' := [(2, iv 0), (4, zc_rv G r6), (0, zc_rv G x0), (1, zc_rv G x1), (3, iv x3)]) h dX4_judgeRule_121 rfl (hN _ (by decide)) (by simp [zc_rv_cat]) ?_
            refine r_iinc (lv' := [(3, iv (x3 + 1)), (2, iv 0), (4, zc_rv G r6), (0, zc_rv G x0), (1, zc_rv G x1)]) h 4 dX4_judgeRule_122 rfl (hN _ (by decide)) rfl ?_
            refine r_goto h 40 dX4_judgeRule_125 rfl ?_
            refine r_ck (fun hk23 => ?_)
            exact r_lv [3, 4, 1, 0] rfl (ih _ x0 x1 0 (x3 + 1) (by decide) hk23)
        · exact r_lv [0, 1, 2] rfl (u_X4_judgeRule_128 h hc _ x0 x1 x2 hx2)
      · exact r_lv [0, 1, 2] rfl (u_X4_judgeRule_128 h hc _ x0 x1 x2 hx2)
def c_X4_judgeRule (μ : MEM) (a0 a1 : Int) : Option zc_O := ck (zt [10] (μ a1 (-1)) = true) (ck (zt [4] (μ a0 (-1)) = true) (bc (c_X4_rule μ a0 (μ a1 0) (μ a1 1)) (fun r3 μ4 => ck ((0 : Int) ≤ r3 ∧ (0 : Int) ≤ a1) (if r3 = a1 then (ck (zt [10] (μ4 a1 (-1)) = true) (if (μ4 a1 3) = 1 then (if (μ4 a1 6) = 0 then (c_X4_judgeRule_40 zF μ4 a0 a1 0 0) else (c_X4_judgeRule_40 zF μ4 a0 a1 1 0)) else (c_X4_judgeRule_40 zF μ4 a0 a1 0 0))) else (some (0, 0, μ4))))))
theorem u_X4_judgeRule {G : zc_G} (μ : MEM) (a0 a1 : Int) (o : zc_O) (hd : c_X4_judgeRule μ a0 a1 = some o) : zc_Met G yX4_judgeRule cX4_judgeRule 5 (Option.none : Option FieldType) 0 8 174 μ [zc_rv G a0, zc_rv G a1] o := by
  refine zc_intro hd (by decide) (by simp [lg_sl, zc_rv_cat, iv_cat, jv_cat]) (lv := [(0, zc_rv G a0), (1, zc_rv G a1)]) (by simp [lv_args, zc_rv_cat, iv_cat, jv_cat]) (fun C h hc => ?_)
  have h : zv_Ok C cX4_judgeRule "TreePress$Document" := h
  have hc : zc_C C G μ 5 (Option.none : Option FieldType) 0 8 174 "judgeRule" [] := hc
  have hN : ∀ i, i < 5 → i < zv_n C := fun i q => by rw [hc.2.1]; exact q
  unfold c_X4_judgeRule
  refine c_aload_n (x := a0) h 0 dX4_judgeRule_0 rfl rfl ?_
  refine c_aload_n (x := a1) h 1 dX4_judgeRule_1 rfl rfl ?_
  refine r_ck (fun ht1 => ?_)
  refine c_getR (fin := true) h hc [10] 0 (zc_lk3 hc (O := "TreePress$Rule") (n := "of") (ds := "[B") (host := "TreePress") (by decide)) ht1 (by decide) dX4_judgeRule_2 ?_
  refine c_aload_n (x := a1) h 1 dX4_judgeRule_5 rfl rfl ?_
  refine c_getR (fin := true) h hc [10] 1 (zc_lk3 hc (O := "TreePress$Rule") (n := "name") (ds := "[B") (host := "TreePress") (by decide)) ht1 (by decide) dX4_judgeRule_6 ?_
  refine r_ck (fun ht2 => ?_)
  refine c_callV (x := a0) h hc (As := [zc_rv G (μ a1 0), zc_rv G (μ a1 1)]) (fun o1 e1 => u_X4_rule _ a0 (μ a1 0) (μ a1 1) o1 e1) [4] ht2 (by decide) q1053 q859 (fun t ht => by cases List.mem_singleton.mp ht; exact q860) q861 q140 (by omega) (by omega) zc_s0 (by omega) (fun z hz => by cases hz) ⟨by decide, by decide⟩ (n := 2) (by decide +kernel) rfl rfl dX4_judgeRule_9 (fun r3 μ4 hr5 => r_k4 ?_)
  refine c_aload_n (x := a1) h 1 dX4_judgeRule_12 rfl rfl ?_
  refine c_acmp_eq (x := r3) (y := a1) h 17 dX4_judgeRule_13 rfl ?_ ?_
  · refine c_aload_n (x := a1) h 1 dX4_judgeRule_17 rfl rfl ?_
    refine r_ck (fun ht6 => ?_)
    refine c_getI (fin := false) h hc [10] 3 (zc_lk3 hc (O := "TreePress$Rule") (n := "type") (ds := "I") (host := "TreePress") (by decide)) ht6 (by decide) dX4_judgeRule_18 (fun hr7 => ?_)
    refine r_iconst h dX4_judgeRule_21 ?_
    refine r_icmp_ne (x := (μ4 a1 3)) (y := 1) h hr7 (by decide) 36 dX4_judgeRule_22 rfl ?_ ?_
    · refine c_aload_n (x := a1) h 1 dX4_judgeRule_25 rfl rfl ?_
      refine c_getR (fin := false) h hc [10] 6 (zc_lk3 hc (O := "TreePress$Rule") (n := "value") (ds := "[B") (host := "TreePress") (by decide)) ht6 (by decide) dX4_judgeRule_26 ?_
      refine c_ifnull (x := (μ4 a1 6)) h 36 dX4_judgeRule_29 rfl ?_ ?_
      · refine r_iconst h dX4_judgeRule_36 ?_
        refine r_istore_n (i := 2) (lv' := [(2, iv 0), (0, zc_rv G a0), (1, zc_rv G a1)]) h dX4_judgeRule_37 rfl (hN _ (by decide)) (by simp [zc_rv_cat]) ?_
        refine r_iconst h dX4_judgeRule_38 ?_
        refine r_istore_n (i := 3) (lv' := [(3, iv 0), (2, iv 0), (0, zc_rv G a0), (1, zc_rv G a1)]) h dX4_judgeRule_39 rfl (hN _ (by decide)) rfl ?_
        exact r_lv [2, 3, 1, 0] rfl (u_X4_judgeRule_40 h hc zF _ a0 a1 0 0 (by decide) (by decide))
      · refine r_iconst h dX4_judgeRule_32 ?_
        refine r_goto h 37 dX4_judgeRule_33 rfl ?_
        refine r_istore_n (i := 2) (lv' := [(2, iv 1), (0, zc_rv G a0), (1, zc_rv G a1)]) h dX4_judgeRule_37 rfl (hN _ (by decide)) (by simp [zc_rv_cat]) ?_
        refine r_iconst h dX4_judgeRule_38 ?_
        refine r_istore_n (i := 3) (lv' := [(3, iv 0), (2, iv 1), (0, zc_rv G a0), (1, zc_rv G a1)]) h dX4_judgeRule_39 rfl (hN _ (by decide)) rfl ?_
        exact r_lv [2, 3, 1, 0] rfl (u_X4_judgeRule_40 h hc zF _ a0 a1 1 0 (by decide) (by decide))
    · refine r_iconst h dX4_judgeRule_36 ?_
      refine r_istore_n (i := 2) (lv' := [(2, iv 0), (0, zc_rv G a0), (1, zc_rv G a1)]) h dX4_judgeRule_37 rfl (hN _ (by decide)) (by simp [zc_rv_cat]) ?_
      refine r_iconst h dX4_judgeRule_38 ?_
      refine r_istore_n (i := 3) (lv' := [(3, iv 0), (2, iv 0), (0, zc_rv G a0), (1, zc_rv G a1)]) h dX4_judgeRule_39 rfl (hN _ (by decide)) rfl ?_
      exact r_lv [2, 3, 1, 0] rfl (u_X4_judgeRule_40 h hc zF _ a0 a1 0 0 (by decide) (by decide))
  · exact c_vret h hc rfl dX4_judgeRule_16
theorem dX8_of_0 : decode cX8_of 0 = .ok (.lconst 0, 1) := by decide +kernel
theorem dX8_of_1 : decode cX8_of 1 = .ok (.lstore 4, 2) := by decide +kernel
theorem dX8_of_3 : decode cX8_of 3 = .ok (.iconst 0, 1) := by decide +kernel
theorem dX8_of_4 : decode cX8_of 4 = .ok (.istore 6, 2) := by decide +kernel
theorem dX8_of_6 : decode cX8_of 6 = .ok (.iload 6, 2) := by decide +kernel
theorem dX8_of_8 : decode cX8_of 8 = .ok (.aload_n 0, 1) := by decide +kernel
theorem dX8_of_9 : decode cX8_of 9 = .ok (.getfield 12, 3) := by decide +kernel
theorem dX8_of_12 : decode cX8_of 12 = .ok (.invokevirtual 26, 3) := by decide +kernel
theorem dX8_of_15 : decode cX8_of 15 = .ok (.if_icmp .ge 48, 3) := by decide +kernel
theorem dX8_of_18 : decode cX8_of 18 = .ok (.lload_n 1, 1) := by decide +kernel
theorem dX8_of_19 : decode cX8_of 19 = .ok (.iload 6, 2) := by decide +kernel
theorem dX8_of_21 : decode cX8_of 21 = .ok (.lshr, 1) := by decide +kernel
theorem dX8_of_22 : decode cX8_of 22 = .ok (.lconst 1, 1) := by decide +kernel
theorem dX8_of_23 : decode cX8_of 23 = .ok (.land, 1) := by decide +kernel
theorem dX8_of_24 : decode cX8_of 24 = .ok (.lconst 1, 1) := by decide +kernel
theorem dX8_of_25 : decode cX8_of 25 = .ok (.lcmp, 1) := by decide +kernel
theorem dX8_of_26 : decode cX8_of 26 = .ok (.ifCond .ne 31, 3) := by decide +kernel
theorem dX8_of_29 : decode cX8_of 29 = .ok (.aload_n 0, 1) := by decide +kernel
theorem dX8_of_30 : decode cX8_of 30 = .ok (.getfield 12, 3) := by decide +kernel
theorem dX8_of_33 : decode cX8_of 33 = .ok (.iload 6, 2) := by decide +kernel
theorem dX8_of_35 : decode cX8_of 35 = .ok (.invokevirtual 30, 3) := by decide +kernel
theorem dX8_of_38 : decode cX8_of 38 = .ok (.checkcast 34, 3) := by decide +kernel
theorem dX8_of_41 : decode cX8_of 41 = .ok (.aload_n 3, 1) := by decide +kernel
theorem dX8_of_42 : decode cX8_of 42 = .ok (.invokestatic 35, 3) := by decide +kernel
theorem dX8_of_45 : decode cX8_of 45 = .ok (.ifCond .eq 12, 3) := by decide +kernel
theorem dX8_of_48 : decode cX8_of 48 = .ok (.lload 4, 2) := by decide +kernel
theorem dX8_of_50 : decode cX8_of 50 = .ok (.lconst 1, 1) := by decide +kernel
theorem dX8_of_51 : decode cX8_of 51 = .ok (.iload 6, 2) := by decide +kernel
theorem dX8_of_53 : decode cX8_of 53 = .ok (.lshl, 1) := by decide +kernel
theorem dX8_of_54 : decode cX8_of 54 = .ok (.lor, 1) := by decide +kernel
theorem dX8_of_55 : decode cX8_of 55 = .ok (.lstore 4, 2) := by decide +kernel
theorem dX8_of_57 : decode cX8_of 57 = .ok (.iinc 6 1, 3) := by decide +kernel
theorem dX8_of_60 : decode cX8_of 60 = .ok (.goto (-54), 3) := by decide +kernel
theorem dX8_of_63 : decode cX8_of 63 = .ok (.lload 4, 2) := by decide +kernel
theorem dX8_of_65 : decode cX8_of 65 = .ok (.lreturn, 1) := by decide +kernel
def c_X8_of_6 : Nat → MEM → Int → Int → Int → Int → Int → Option zc_O
  | 0, _, _, _, _, _, _ => none
  | n + 1, μ, x0, x1, x3, x4, x6 => ck (zt [8] (μ x0 (-1)) = true) (ck (zt [40] (μ (μ x0 2) (-1)) = true) (bc (b_lsize μ (μ x0 2)) (fun r3 μ4 => if r3 ≤ x6 then (some (0, x4, μ4)) else (if (j_cmp (j_and (j_shr x1 x6) 1) 1) = 0 then (ck (zt [8] (μ4 x0 (-1)) = true) (ck (zt [40] (μ4 (μ4 x0 2) (-1)) = true) (bc (b_lget μ4 (μ4 x0 2) x6) (fun r8 μ9 => ck (zt [31] (μ9 r8 (-1)) = true) (bc (c_X0_isSame μ9 r8 x3) (fun r12 μ13 => if r12 = 0 then (ck (inR (x6 + 1)) (c_X8_of_6 n μ13 x0 x1 x3 x4 (x6 + 1))) else (ck (inR (x6 + 1)) (c_X8_of_6 n μ13 x0 x1 x3 (j_or x4 (j_shl 1 x6)) (x6 + 1))))))))) else (ck (inR (x6 + 1)) (c_X8_of_6 n μ4 x0 x1 x3 x4 (x6 + 1)))))))
theorem u_X8_of_6 {C : zv_Cx zc_O} {G : zc_G} {μ0 : MEM} (h : zv_Ok C cX8_of "TreePress$Spec") (hc : zc_C C G μ0 7 (Option.some FieldType.long) 2 3 64 "of" []) : ∀ (n : Nat) (μ : MEM) (x0 x1 x3 x4 x6 : Int), inL x1 → inL x4 → inR x6 → VV C (c_X8_of_6 n μ x0 x1 x3 x4 x6) μ [(0, zc_rv G x0), (1, jv x1), (3, zc_rv G x3), (4, jv x4), (6, iv x6)] [] 6 := by
  have hN : ∀ i, i < 7 → i < zv_n C := fun i q => by rw [hc.2.1]; exact q
  intro n
  induction n with
  | zero => intros; exact r_none
  | succ n ih =>
    intro μ x0 x1 x3 x4 x6 hx1 hx4 hx6
    rw [c_X8_of_6]
    refine r_iload h 4 dX8_of_6 rfl ?_
    refine c_aload_n (x := x0) h 0 dX8_of_8 rfl rfl ?_
    refine r_ck (fun ht1 => ?_)
    refine c_getR (fin := true) h hc [8] 2 (zc_lk1 h q708) ht1 (by decide) dX8_of_9 ?_
    refine r_ck (fun ht2 => ?_)
    refine c_callV (x := (μ x0 2)) h hc (As := []) (fun o1 e1 => w_lsize _ (μ x0 2) o1 e1) [40] ht2 (by decide) q1043 q343 (fun t ht => by cases List.mem_singleton.mp ht; exact q344) q345 q135 (by omega) (by omega) (zc_sc (iv_cat _) zc_s0) (by omega) (fun z hz => by cases hz) ⟨by decide, by decide⟩ (n := 0) (by decide +kernel) rfl rfl dX8_of_12 (fun r3 μ4 hr5 => r_k1 ?_)
    refine r_icmp_ge (x := x6) (y := r3) h hx6 hr5 63 dX8_of_15 rfl ?_ ?_
    · refine r_lload h 3 dX8_of_63 rfl ?_
      exact c_jret h hc rfl hx4 dX8_of_65
    · refine r_lload_n h 1 dX8_of_18 rfl rfl ?_
      refine r_iload h 4 dX8_of_19 rfl ?_
      refine r_lshr h dX8_of_21 ?_
      refine r_lconst (x := 1) h dX8_of_22 (by decide) ?_
      refine r_land h dX8_of_23 ?_
      refine r_lconst (x := 1) h dX8_of_24 (by decide) ?_
      refine r_lcmp h (inL_t _) (by decide) dX8_of_25 ?_
      refine r_if_ne (x := (j_cmp (j_and (j_shr x1 x6) 1) 1)) h (j_cmp_r _ _) 57 dX8_of_26 rfl ?_ ?_
      · refine c_aload_n (x := x0) h 0 dX8_of_29 rfl rfl ?_
        refine r_ck (fun ht6 => ?_)
        refine c_getR (fin := true) h hc [8] 2 (zc_lk1 h q708) ht6 (by decide) dX8_of_30 ?_
        refine r_iload h 4 dX8_of_33 rfl ?_
        refine r_ck (fun ht7 => ?_)
        refine c_callV (x := (μ4 x0 2)) h hc (As := [iv x6]) (fun o1 e1 => w_lget _ (μ4 x0 2) x6 hx6 o1 e1) [40] ht7 (by decide) q1044 q844 (fun t ht => by cases List.mem_singleton.mp ht; exact q845) q846 q135 (by omega) (by omega) zc_s0 (by omega) (fun z hz => by cases hz) ⟨by decide, by decide⟩ (n := 1) (by decide +kernel) rfl rfl dX8_of_35 (fun r8 μ9 hr10 => r_k4 ?_)
        refine r_ck (fun ht11 => ?_)
        refine c_cast h hc [31] q1045 ht11 (by decide) dX8_of_38 ?_
        refine c_aload_n (x := x3) h 2 dX8_of_41 rfl rfl ?_
        refine c_callSN h hc (As := [zc_rv G r8, zc_rv G x3]) (fun o1 e1 => u_X0_isSame _ r8 x3 o1 e1) (host := "TreePress") (by decide) q856 q857 q132 (by omega) (by omega) zc_s0 (by omega) (fun z hz => by cases hz) ⟨by decide, by decide⟩ (n := 2) (by decide +kernel) rfl rfl dX8_of_42 (fun r12 μ13 hr14 => r_k3 ?_)
        refine r_if_eq (x := r12) h hr14.r 57 dX8_of_45 rfl ?_ ?_
        · refine r_iinc (lv' := [(6, iv (x6 + 1)), (0, zc_rv G x0), (1, jv x1), (3, zc_rv G x3), (4, jv x4)]) h 4 dX8_of_57 rfl (hN _ (by decide)) rfl ?_
          refine r_goto h 6 dX8_of_60 rfl ?_
          refine r_ck (fun hk15 => ?_)
          exact r_lv [1, 2, 3, 4, 0] rfl (ih _ x0 x1 x3 x4 (x6 + 1) hx1 hx4 hk15)
        · refine r_lload h 3 dX8_of_48 rfl ?_
          refine r_lconst (x := 1) h dX8_of_50 (by decide) ?_
          refine r_iload h 4 dX8_of_51 rfl ?_
          refine r_lshl h dX8_of_53 ?_
          refine r_lor h dX8_of_54 ?_
          refine r_lstore (lv' := [(4, jv (j_or x4 (j_shl 1 x6))), (0, zc_rv G x0), (1, jv x1), (3, zc_rv G x3), (6, iv x6)]) h dX8_of_55 (hN _ (by decide)) (by simp [zc_rv_cat]) ?_
          refine r_iinc (lv' := [(6, iv (x6 + 1)), (4, jv (j_or x4 (j_shl 1 x6))), (0, zc_rv G x0), (1, jv x1), (3, zc_rv G x3)]) h 4 dX8_of_57 rfl (hN _ (by decide)) rfl ?_
          refine r_goto h 6 dX8_of_60 rfl ?_
          refine r_ck (fun hk16 => ?_)
          exact r_lv [2, 3, 4, 1, 0] rfl (ih _ x0 x1 x3 (j_or x4 (j_shl 1 x6)) (x6 + 1) hx1 (inL_t _) hk16)
      · refine r_iinc (lv' := [(6, iv (x6 + 1)), (0, zc_rv G x0), (1, jv x1), (3, zc_rv G x3), (4, jv x4)]) h 4 dX8_of_57 rfl (hN _ (by decide)) rfl ?_
        refine r_goto h 6 dX8_of_60 rfl ?_
        refine r_ck (fun hk17 => ?_)
        exact r_lv [1, 2, 3, 4, 0] rfl (ih _ x0 x1 x3 x4 (x6 + 1) hx1 hx4 hk17)
def c_X8_of (μ : MEM) (a0 a1 a2 : Int) : Option zc_O := c_X8_of_6 zF μ a0 a1 a2 0 0
theorem u_X8_of {G : zc_G} (μ : MEM) (a0 a1 a2 : Int) (ha1 : inL a1) (o : zc_O) (hd : c_X8_of μ a0 a1 a2 = some o) : zc_Met G yX8_of cX8_of 7 (Option.some FieldType.long) 2 3 64 μ [zc_rv G a0, jv a1, zc_rv G a2] o := by
  refine zc_intro hd (by decide) (by simp [lg_sl, zc_rv_cat, iv_cat, jv_cat]) (lv := [(0, zc_rv G a0), (1, jv a1), (3, zc_rv G a2)]) (by simp [lv_args, zc_rv_cat, iv_cat, jv_cat]) (fun C h hc => ?_)
  have h : zv_Ok C cX8_of "TreePress$Spec" := h
  have hc : zc_C C G μ 7 (Option.some FieldType.long) 2 3 64 "of" [] := hc
  have hN : ∀ i, i < 7 → i < zv_n C := fun i q => by rw [hc.2.1]; exact q
  unfold c_X8_of
  refine r_lconst (x := 0) h dX8_of_0 (by decide) ?_
  refine r_lstore (lv' := [(4, jv 0), (0, zc_rv G a0), (1, jv a1), (3, zc_rv G a2)]) h dX8_of_1 (hN _ (by decide)) (by simp [zc_rv_cat]) ?_
  refine r_iconst h dX8_of_3 ?_
  refine r_istore (lv' := [(6, iv 0), (4, jv 0), (0, zc_rv G a0), (1, jv a1), (3, zc_rv G a2)]) h dX8_of_4 (hN _ (by decide)) rfl ?_
  exact r_lv [2, 3, 4, 1, 0] rfl (u_X8_of_6 h hc zF _ a0 a1 a2 0 0 ha1 (by decide) (by decide))
theorem dX8_isRow_0 : decode cX8_isRow 0 = .ok (.lconst 0, 1) := by decide +kernel
theorem dX8_isRow_1 : decode cX8_isRow 1 = .ok (.lstore_n 2, 1) := by decide +kernel
theorem dX8_isRow_2 : decode cX8_isRow 2 = .ok (.iconst 0, 1) := by decide +kernel
theorem dX8_isRow_3 : decode cX8_isRow 3 = .ok (.istore 4, 2) := by decide +kernel
theorem dX8_isRow_5 : decode cX8_isRow 5 = .ok (.iconst 0, 1) := by decide +kernel
theorem dX8_isRow_6 : decode cX8_isRow 6 = .ok (.istore 5, 2) := by decide +kernel
theorem dX8_isRow_8 : decode cX8_isRow 8 = .ok (.iload 5, 2) := by decide +kernel
theorem dX8_isRow_10 : decode cX8_isRow 10 = .ok (.aload_n 1, 1) := by decide +kernel
theorem dX8_isRow_11 : decode cX8_isRow 11 = .ok (.getfield 53, 3) := by decide +kernel
theorem dX8_isRow_14 : decode cX8_isRow 14 = .ok (.invokevirtual 26, 3) := by decide +kernel
theorem dX8_isRow_17 : decode cX8_isRow 17 = .ok (.if_icmp .ge 135, 3) := by decide +kernel
theorem dX8_isRow_20 : decode cX8_isRow 20 = .ok (.aload_n 1, 1) := by decide +kernel
theorem dX8_isRow_21 : decode cX8_isRow 21 = .ok (.getfield 53, 3) := by decide +kernel
theorem dX8_isRow_24 : decode cX8_isRow 24 = .ok (.iload 5, 2) := by decide +kernel
theorem dX8_isRow_26 : decode cX8_isRow 26 = .ok (.invokevirtual 30, 3) := by decide +kernel
theorem dX8_isRow_29 : decode cX8_isRow 29 = .ok (.checkcast 58, 3) := by decide +kernel
theorem dX8_isRow_32 : decode cX8_isRow 32 = .ok (.astore 6, 2) := by decide +kernel
theorem dX8_isRow_34 : decode cX8_isRow 34 = .ok (.aload 6, 2) := by decide +kernel
theorem dX8_isRow_36 : decode cX8_isRow 36 = .ok (.instanceof 60, 3) := by decide +kernel
theorem dX8_isRow_39 : decode cX8_isRow 39 = .ok (.ifCond .eq 20, 3) := by decide +kernel
theorem dX8_isRow_42 : decode cX8_isRow 42 = .ok (.aload 6, 2) := by decide +kernel
theorem dX8_isRow_44 : decode cX8_isRow 44 = .ok (.checkcast 60, 3) := by decide +kernel
theorem dX8_isRow_47 : decode cX8_isRow 47 = .ok (.astore 7, 2) := by decide +kernel
theorem dX8_isRow_49 : decode cX8_isRow 49 = .ok (.aload 7, 2) := by decide +kernel
theorem dX8_isRow_51 : decode cX8_isRow 51 = .ok (.getfield 62, 3) := by decide +kernel
theorem dX8_isRow_54 : decode cX8_isRow 54 = .ok (.ifCond .ne 92, 3) := by decide +kernel
theorem dX8_isRow_57 : decode cX8_isRow 57 = .ok (.iconst 0, 1) := by decide +kernel
theorem dX8_isRow_58 : decode cX8_isRow 58 = .ok (.ireturn, 1) := by decide +kernel
theorem dX8_isRow_59 : decode cX8_isRow 59 = .ok (.lconst 0, 1) := by decide +kernel
theorem dX8_isRow_60 : decode cX8_isRow 60 = .ok (.lstore 7, 2) := by decide +kernel
theorem dX8_isRow_62 : decode cX8_isRow 62 = .ok (.iconst 0, 1) := by decide +kernel
theorem dX8_isRow_63 : decode cX8_isRow 63 = .ok (.istore 9, 2) := by decide +kernel
theorem dX8_isRow_65 : decode cX8_isRow 65 = .ok (.iload 9, 2) := by decide +kernel
theorem dX8_isRow_67 : decode cX8_isRow 67 = .ok (.aload_n 0, 1) := by decide +kernel
theorem dX8_isRow_68 : decode cX8_isRow 68 = .ok (.getfield 12, 3) := by decide +kernel
theorem dX8_isRow_71 : decode cX8_isRow 71 = .ok (.invokevirtual 26, 3) := by decide +kernel
theorem dX8_isRow_74 : decode cX8_isRow 74 = .ok (.if_icmp .ge 37, 3) := by decide +kernel
theorem dX8_isRow_77 : decode cX8_isRow 77 = .ok (.iload 4, 2) := by decide +kernel
theorem dX8_isRow_79 : decode cX8_isRow 79 = .ok (.ifCond .eq 32, 3) := by decide +kernel
theorem dX8_isRow_82 : decode cX8_isRow 82 = .ok (.lload_n 2, 1) := by decide +kernel
theorem dX8_isRow_83 : decode cX8_isRow 83 = .ok (.iload 9, 2) := by decide +kernel
theorem dX8_isRow_85 : decode cX8_isRow 85 = .ok (.lshr, 1) := by decide +kernel
theorem dX8_isRow_86 : decode cX8_isRow 86 = .ok (.lconst 1, 1) := by decide +kernel
theorem dX8_isRow_87 : decode cX8_isRow 87 = .ok (.land, 1) := by decide +kernel
theorem dX8_isRow_88 : decode cX8_isRow 88 = .ok (.lconst 1, 1) := by decide +kernel
theorem dX8_isRow_89 : decode cX8_isRow 89 = .ok (.lcmp, 1) := by decide +kernel
theorem dX8_isRow_90 : decode cX8_isRow 90 = .ok (.ifCond .ne 15, 3) := by decide +kernel
theorem dX8_isRow_93 : decode cX8_isRow 93 = .ok (.lload 7, 2) := by decide +kernel
theorem dX8_isRow_95 : decode cX8_isRow 95 = .ok (.aload_n 0, 1) := by decide +kernel
theorem dX8_isRow_96 : decode cX8_isRow 96 = .ok (.getfield 18, 3) := by decide +kernel
theorem dX8_isRow_99 : decode cX8_isRow 99 = .ok (.iload 9, 2) := by decide +kernel
theorem dX8_isRow_101 : decode cX8_isRow 101 = .ok (.laload, 1) := by decide +kernel
theorem dX8_isRow_102 : decode cX8_isRow 102 = .ok (.lor, 1) := by decide +kernel
theorem dX8_isRow_103 : decode cX8_isRow 103 = .ok (.lstore 7, 2) := by decide +kernel
theorem dX8_isRow_105 : decode cX8_isRow 105 = .ok (.iinc 9 1, 3) := by decide +kernel
theorem dX8_isRow_108 : decode cX8_isRow 108 = .ok (.goto (-43), 3) := by decide +kernel
theorem dX8_isRow_111 : decode cX8_isRow 111 = .ok (.aload_n 0, 1) := by decide +kernel
theorem dX8_isRow_112 : decode cX8_isRow 112 = .ok (.iload 4, 2) := by decide +kernel
theorem dX8_isRow_114 : decode cX8_isRow 114 = .ok (.ifCond .eq 8, 3) := by decide +kernel
theorem dX8_isRow_117 : decode cX8_isRow 117 = .ok (.lload 7, 2) := by decide +kernel
theorem dX8_isRow_119 : decode cX8_isRow 119 = .ok (.goto 7, 3) := by decide +kernel
theorem dX8_isRow_122 : decode cX8_isRow 122 = .ok (.aload_n 0, 1) := by decide +kernel
theorem dX8_isRow_123 : decode cX8_isRow 123 = .ok (.getfield 39, 3) := by decide +kernel
theorem dX8_isRow_126 : decode cX8_isRow 126 = .ok (.aload 6, 2) := by decide +kernel
theorem dX8_isRow_128 : decode cX8_isRow 128 = .ok (.invokevirtual 66, 3) := by decide +kernel
theorem dX8_isRow_131 : decode cX8_isRow 131 = .ok (.invokevirtual 49, 3) := by decide +kernel
theorem dX8_isRow_134 : decode cX8_isRow 134 = .ok (.lstore_n 2, 1) := by decide +kernel
theorem dX8_isRow_135 : decode cX8_isRow 135 = .ok (.iconst 1, 1) := by decide +kernel
theorem dX8_isRow_136 : decode cX8_isRow 136 = .ok (.istore 4, 2) := by decide +kernel
theorem dX8_isRow_138 : decode cX8_isRow 138 = .ok (.lload_n 2, 1) := by decide +kernel
theorem dX8_isRow_139 : decode cX8_isRow 139 = .ok (.lconst 0, 1) := by decide +kernel
theorem dX8_isRow_140 : decode cX8_isRow 140 = .ok (.lcmp, 1) := by decide +kernel
theorem dX8_isRow_141 : decode cX8_isRow 141 = .ok (.ifCond .ne 5, 3) := by decide +kernel
theorem dX8_isRow_144 : decode cX8_isRow 144 = .ok (.iconst 0, 1) := by decide +kernel
theorem dX8_isRow_145 : decode cX8_isRow 145 = .ok (.ireturn, 1) := by decide +kernel
theorem dX8_isRow_146 : decode cX8_isRow 146 = .ok (.iinc 5 1, 3) := by decide +kernel
theorem dX8_isRow_149 : decode cX8_isRow 149 = .ok (.goto (-141), 3) := by decide +kernel
theorem dX8_isRow_152 : decode cX8_isRow 152 = .ok (.iload 4, 2) := by decide +kernel
theorem dX8_isRow_154 : decode cX8_isRow 154 = .ok (.ifCond .eq 22, 3) := by decide +kernel
theorem dX8_isRow_157 : decode cX8_isRow 157 = .ok (.lload_n 2, 1) := by decide +kernel
theorem dX8_isRow_158 : decode cX8_isRow 158 = .ok (.aload_n 0, 1) := by decide +kernel
theorem dX8_isRow_159 : decode cX8_isRow 159 = .ok (.getfield 69, 3) := by decide +kernel
theorem dX8_isRow_162 : decode cX8_isRow 162 = .ok (.land, 1) := by decide +kernel
theorem dX8_isRow_163 : decode cX8_isRow 163 = .ok (.lconst 0, 1) := by decide +kernel
theorem dX8_isRow_164 : decode cX8_isRow 164 = .ok (.lcmp, 1) := by decide +kernel
theorem dX8_isRow_165 : decode cX8_isRow 165 = .ok (.ifCond .eq 7, 3) := by decide +kernel
theorem dX8_isRow_168 : decode cX8_isRow 168 = .ok (.iconst 1, 1) := by decide +kernel
theorem dX8_isRow_169 : decode cX8_isRow 169 = .ok (.goto 11, 3) := by decide +kernel
theorem dX8_isRow_172 : decode cX8_isRow 172 = .ok (.iconst 0, 1) := by decide +kernel
theorem dX8_isRow_173 : decode cX8_isRow 173 = .ok (.goto 7, 3) := by decide +kernel
theorem dX8_isRow_176 : decode cX8_isRow 176 = .ok (.aload_n 0, 1) := by decide +kernel
theorem dX8_isRow_177 : decode cX8_isRow 177 = .ok (.getfield 72, 3) := by decide +kernel
theorem dX8_isRow_180 : decode cX8_isRow 180 = .ok (.ireturn, 1) := by decide +kernel
def c_X8_isRow_126 (lp8 : MEM → Int → Int → Int → Int → Int → Option zc_O) (μ : MEM) (x0 x1 x5 x6 s0 s1 : Int) : Option zc_O := ck (zt [6, 11, 13, 14] (μ x6 (-1)) = true) (bc (dv_name μ x6) (fun r2 μ3 => ck (zt [8] (μ3 s0 (-1)) = true) (bc (c_X8_of μ3 s0 s1 r2) (fun r6 μ7 => if (j_cmp r6 0) = 0 then (some (0, 0, μ7)) else (ck (inR (x5 + 1)) (lp8 μ7 x0 x1 r6 1 (x5 + 1)))))))
theorem u_X8_isRow_126 {C : zv_Cx zc_O} {G : zc_G} {μ0 : MEM} (h : zv_Ok C cX8_isRow "TreePress$Spec") (hc : zc_C C G μ0 10 (Option.some FieldType.boolean) 3 4 90 "isRow" []) (lp8 : MEM → Int → Int → Int → Int → Int → Option zc_O) (hlp8 : ∀ (μ : MEM) (x0 x1 x2 x4 x5 : Int), inL x2 → isB x4 → inR x5 → VV C (lp8 μ x0 x1 x2 x4 x5) μ [(0, zc_rv G x0), (1, zc_rv G x1), (2, jv x2), (4, iv x4), (5, iv x5)] [] 8) (μ : MEM) (x0 x1 x5 x6 s0 s1 : Int) (hx5 : inR x5) (hs1 : inL s1) : VV C (c_X8_isRow_126 lp8 μ x0 x1 x5 x6 s0 s1) μ [(0, zc_rv G x0), (1, zc_rv G x1), (5, iv x5), (6, zc_rv G x6)] [jv s1, zc_rv G s0] 126 := by
  have hN : ∀ i, i < 10 → i < zv_n C := fun i q => by rw [hc.2.1]; exact q
  unfold c_X8_isRow_126
  refine c_aload (x := x6) h 3 dX8_isRow_126 rfl ?_
  refine r_ck (fun ht1 => ?_)
  refine cd_name (x := x6)  h hc (hM := dm_name) ht1 q1081 (by omega) (by omega) (zc_sc (jv_cat _) (zc_sc (zc_rv_cat G _) zc_s0)) (by omega) (fun z hz => by cases hz) dX8_isRow_128 (fun r2 μ3 hr4 => r_k4 ?_)
  refine r_ck (fun ht5 => ?_)
  refine c_callV (x := s0) h hc (As := [jv s1, zc_rv G r2]) (fun o1 e1 => u_X8_of _ s0 s1 r2 hs1 o1 e1) [8] ht5 (by decide) q1093 q1095 (fun t ht => by cases List.mem_singleton.mp ht; exact qs38) q1096 q154 (by omega) (by omega) zc_s0 (by omega) (fun z hz => by cases hz) ⟨by decide, by decide⟩ (n := 2) (by decide +kernel) rfl rfl dX8_isRow_131 (fun r6 μ7 hr8 => r_k2 ?_)
  refine r_lstore_n (i := 2) (lv' := [(2, jv r6), (0, zc_rv G x0), (1, zc_rv G x1), (5, iv x5), (6, zc_rv G x6)]) h dX8_isRow_134 rfl (hN _ (by decide)) (by simp [zc_rv_cat]) ?_
  refine r_iconst h dX8_isRow_135 ?_
  refine r_istore (lv' := [(4, iv 1), (2, jv r6), (0, zc_rv G x0), (1, zc_rv G x1), (5, iv x5), (6, zc_rv G x6)]) h dX8_isRow_136 (hN _ (by decide)) rfl ?_
  refine r_lload_n h 1 dX8_isRow_138 rfl rfl ?_
  refine r_lconst (x := 0) h dX8_isRow_139 (by decide) ?_
  refine r_lcmp h hr8 (by decide) dX8_isRow_140 ?_
  refine r_if_ne (x := (j_cmp r6 0)) h (j_cmp_r _ _) 146 dX8_isRow_141 rfl ?_ ?_
  · refine r_iconst h dX8_isRow_144 ?_
    exact c_zret h hc rfl (by decide) dX8_isRow_145
  · refine r_iinc (lv' := [(5, iv (x5 + 1)), (4, iv 1), (2, jv r6), (0, zc_rv G x0), (1, zc_rv G x1), (6, zc_rv G x6)]) h 4 dX8_isRow_146 rfl (hN _ (by decide)) rfl ?_
    refine r_goto h 8 dX8_isRow_149 rfl ?_
    refine r_ck (fun hk9 => ?_)
    exact r_lv [3, 4, 2, 1, 0] rfl (hlp8 _ x0 x1 r6 1 (x5 + 1) hr8 (by decide) hk9)
def c_X8_isRow_111 (lp8 : MEM → Int → Int → Int → Int → Int → Option zc_O) (μ : MEM) (x0 x1 x4 x5 x6 x7 : Int) : Option zc_O := if x4 = 0 then (ck (zt [8] (μ x0 (-1)) = true) (c_X8_isRow_126 lp8 μ x0 x1 x5 x6 x0 (μ x0 4))) else (c_X8_isRow_126 lp8 μ x0 x1 x5 x6 x0 x7)
theorem u_X8_isRow_111 {C : zv_Cx zc_O} {G : zc_G} {μ0 : MEM} (h : zv_Ok C cX8_isRow "TreePress$Spec") (hc : zc_C C G μ0 10 (Option.some FieldType.boolean) 3 4 90 "isRow" []) (lp8 : MEM → Int → Int → Int → Int → Int → Option zc_O) (hlp8 : ∀ (μ : MEM) (x0 x1 x2 x4 x5 : Int), inL x2 → isB x4 → inR x5 → VV C (lp8 μ x0 x1 x2 x4 x5) μ [(0, zc_rv G x0), (1, zc_rv G x1), (2, jv x2), (4, iv x4), (5, iv x5)] [] 8) (μ : MEM) (x0 x1 x4 x5 x6 x7 : Int) (hx4 : isB x4) (hx5 : inR x5) (hx7 : inL x7) : VV C (c_X8_isRow_111 lp8 μ x0 x1 x4 x5 x6 x7) μ [(0, zc_rv G x0), (1, zc_rv G x1), (4, iv x4), (5, iv x5), (6, zc_rv G x6), (7, jv x7)] [] 111 := by
  have hN : ∀ i, i < 10 → i < zv_n C := fun i q => by rw [hc.2.1]; exact q
  unfold c_X8_isRow_111
  refine c_aload_n (x := x0) h 0 dX8_isRow_111 rfl rfl ?_
  refine r_iload h 2 dX8_isRow_112 rfl ?_
  refine r_if_eq (x := x4) h hx4.r 122 dX8_isRow_114 rfl ?_ ?_
  · refine c_aload_n (x := x0) h 0 dX8_isRow_122 rfl rfl ?_
    refine r_ck (fun ht1 => ?_)
    refine c_getJ (fin := false) h hc [8] 4 (zc_lk1 h q712) ht1 (by decide) dX8_isRow_123 (fun hr2 => ?_)
    exact r_lv [0, 1, 3, 4] rfl (u_X8_isRow_126 h hc lp8 hlp8 _ x0 x1 x5 x6 x0 (μ x0 4) hx5 hr2)
  · refine r_lload h 5 dX8_isRow_117 rfl ?_
    refine r_goto h 126 dX8_isRow_119 rfl ?_
    exact r_lv [0, 1, 3, 4] rfl (u_X8_isRow_126 h hc lp8 hlp8 _ x0 x1 x5 x6 x0 x7 hx5 hx7)
def c_X8_isRow_65 (lp8 : MEM → Int → Int → Int → Int → Int → Option zc_O) : Nat → MEM → Int → Int → Int → Int → Int → Int → Int → Int → Option zc_O
  | 0, _, _, _, _, _, _, _, _, _ => none
  | n + 1, μ, x0, x1, x2, x4, x5, x6, x7, x9 => ck (zt [8] (μ x0 (-1)) = true) (ck (zt [40] (μ (μ x0 2) (-1)) = true) (bc (b_lsize μ (μ x0 2)) (fun r3 μ4 => if r3 ≤ x9 then (c_X8_isRow_111 lp8 μ4 x0 x1 x4 x5 x6 x7) else (if x4 = 0 then (c_X8_isRow_111 lp8 μ4 x0 x1 x4 x5 x6 x7) else (if (j_cmp (j_and (j_shr x2 x9) 1) 1) = 0 then (ck (zt [8] (μ4 x0 (-1)) = true) (ck (zt [34] (μ4 (μ4 x0 3) (-1)) = true) (ck ((0 : Int) ≤ x9 ∧ x9 < μ4 (μ4 x0 3) (-2)) (ck (inR (x9 + 1)) (c_X8_isRow_65 lp8 n μ4 x0 x1 x2 x4 x5 x6 (j_or x7 (μ4 (μ4 x0 3) x9)) (x9 + 1)))))) else (ck (inR (x9 + 1)) (c_X8_isRow_65 lp8 n μ4 x0 x1 x2 x4 x5 x6 x7 (x9 + 1))))))))
theorem u_X8_isRow_65 {C : zv_Cx zc_O} {G : zc_G} {μ0 : MEM} (h : zv_Ok C cX8_isRow "TreePress$Spec") (hc : zc_C C G μ0 10 (Option.some FieldType.boolean) 3 4 90 "isRow" []) (lp8 : MEM → Int → Int → Int → Int → Int → Option zc_O) (hlp8 : ∀ (μ : MEM) (x0 x1 x2 x4 x5 : Int), inL x2 → isB x4 → inR x5 → VV C (lp8 μ x0 x1 x2 x4 x5) μ [(0, zc_rv G x0), (1, zc_rv G x1), (2, jv x2), (4, iv x4), (5, iv x5)] [] 8) : ∀ (n : Nat) (μ : MEM) (x0 x1 x2 x4 x5 x6 x7 x9 : Int), inL x2 → isB x4 → inR x5 → inL x7 → inR x9 → VV C (c_X8_isRow_65 lp8 n μ x0 x1 x2 x4 x5 x6 x7 x9) μ [(0, zc_rv G x0), (1, zc_rv G x1), (2, jv x2), (4, iv x4), (5, iv x5), (6, zc_rv G x6), (7, jv x7), (9, iv x9)] [] 65 := by
  have hN : ∀ i, i < 10 → i < zv_n C := fun i q => by rw [hc.2.1]; exact q
  intro n
  induction n with
  | zero => intros; exact r_none
  | succ n ih =>
    intro μ x0 x1 x2 x4 x5 x6 x7 x9 hx2 hx4 hx5 hx7 hx9
    rw [c_X8_isRow_65]
    refine r_iload h 7 dX8_isRow_65 rfl ?_
    refine c_aload_n (x := x0) h 0 dX8_isRow_67 rfl rfl ?_
    refine r_ck (fun ht1 => ?_)
    refine c_getR (fin := true) h hc [8] 2 (zc_lk1 h q708) ht1 (by decide) dX8_isRow_68 ?_
    refine r_ck (fun ht2 => ?_)
    refine c_callV (x := (μ x0 2)) h hc (As := []) (fun o1 e1 => w_lsize _ (μ x0 2) o1 e1) [40] ht2 (by decide) q1043 q343 (fun t ht => by cases List.mem_singleton.mp ht; exact q344) q345 q135 (by omega) (by omega) (zc_sc (iv_cat _) zc_s0) (by omega) (fun z hz => by cases hz) ⟨by decide, by decide⟩ (n := 0) (by decide +kernel) rfl rfl dX8_isRow_71 (fun r3 μ4 hr5 => r_k1 ?_)
    refine r_icmp_ge (x := x9) (y := r3) h hx9 hr5 111 dX8_isRow_74 rfl ?_ ?_
    · exact r_lv [0, 1, 3, 4, 5, 6] rfl (u_X8_isRow_111 h hc lp8 hlp8 _ x0 x1 x4 x5 x6 x7 hx4 hx5 hx7)
    · refine r_iload h 3 dX8_isRow_77 rfl ?_
      refine r_if_eq (x := x4) h hx4.r 111 dX8_isRow_79 rfl ?_ ?_
      · exact r_lv [0, 1, 3, 4, 5, 6] rfl (u_X8_isRow_111 h hc lp8 hlp8 _ x0 x1 x4 x5 x6 x7 hx4 hx5 hx7)
      · refine r_lload_n h 2 dX8_isRow_82 rfl rfl ?_
        refine r_iload h 7 dX8_isRow_83 rfl ?_
        refine r_lshr h dX8_isRow_85 ?_
        refine r_lconst (x := 1) h dX8_isRow_86 (by decide) ?_
        refine r_land h dX8_isRow_87 ?_
        refine r_lconst (x := 1) h dX8_isRow_88 (by decide) ?_
        refine r_lcmp h (inL_t _) (by decide) dX8_isRow_89 ?_
        refine r_if_ne (x := (j_cmp (j_and (j_shr x2 x9) 1) 1)) h (j_cmp_r _ _) 105 dX8_isRow_90 rfl ?_ ?_
        · refine r_lload h 6 dX8_isRow_93 rfl ?_
          refine c_aload_n (x := x0) h 0 dX8_isRow_95 rfl rfl ?_
          refine r_ck (fun ht6 => ?_)
          refine c_getR (fin := true) h hc [8] 3 (zc_lk1 h q710) ht6 (by decide) dX8_isRow_96 ?_
          refine r_iload h 7 dX8_isRow_99 rfl ?_
          refine r_ck (fun ht7 => ?_)
          refine c_ldJ h hc ht7 dX8_isRow_101 (fun _ hr8 => ?_)
          refine r_lor h dX8_isRow_102 ?_
          refine r_lstore (lv' := [(7, jv (j_or x7 (μ4 (μ4 x0 3) x9))), (0, zc_rv G x0), (1, zc_rv G x1), (2, jv x2), (4, iv x4), (5, iv x5), (6, zc_rv G x6), (9, iv x9)]) h dX8_isRow_103 (hN _ (by decide)) (by simp [zc_rv_cat]) ?_
          refine r_iinc (lv' := [(9, iv (x9 + 1)), (7, jv (j_or x7 (μ4 (μ4 x0 3) x9))), (0, zc_rv G x0), (1, zc_rv G x1), (2, jv x2), (4, iv x4), (5, iv x5), (6, zc_rv G x6)]) h 7 dX8_isRow_105 rfl (hN _ (by decide)) rfl ?_
          refine r_goto h 65 dX8_isRow_108 rfl ?_
          refine r_ck (fun hk9 => ?_)
          exact r_lv [2, 3, 4, 5, 6, 7, 1, 0] rfl (ih _ x0 x1 x2 x4 x5 x6 (j_or x7 (μ4 (μ4 x0 3) x9)) (x9 + 1) hx2 hx4 hx5 (inL_t _) hk9)
        · refine r_iinc (lv' := [(9, iv (x9 + 1)), (0, zc_rv G x0), (1, zc_rv G x1), (2, jv x2), (4, iv x4), (5, iv x5), (6, zc_rv G x6), (7, jv x7)]) h 7 dX8_isRow_105 rfl (hN _ (by decide)) rfl ?_
          refine r_goto h 65 dX8_isRow_108 rfl ?_
          refine r_ck (fun hk10 => ?_)
          exact r_lv [1, 2, 3, 4, 5, 6, 7, 0] rfl (ih _ x0 x1 x2 x4 x5 x6 x7 (x9 + 1) hx2 hx4 hx5 hx7 hk10)
def c_X8_isRow_8 : Nat → MEM → Int → Int → Int → Int → Int → Option zc_O
  | 0, _, _, _, _, _, _ => none
  | n + 1, μ, x0, x1, x2, x4, x5 => ck (zt [11] (μ x1 (-1)) = true) (ck (zt [40] (μ (μ x1 2) (-1)) = true) (bc (b_lsize μ (μ x1 2)) (fun r3 μ4 => if r3 ≤ x5 then (if x4 = 0 then (ck (zt [8] (μ4 x0 (-1)) = true) (some (0, (μ4 x0 6), μ4))) else (ck (zt [8] (μ4 x0 (-1)) = true) (if (j_cmp (j_and x2 (μ4 x0 5)) 0) = 0 then (some (0, 0, μ4)) else (some (0, 1, μ4))))) else (ck (zt [11] (μ4 x1 (-1)) = true) (ck (zt [40] (μ4 (μ4 x1 2) (-1)) = true) (bc (b_lget μ4 (μ4 x1 2) x5) (fun r12 μ13 => ck (zt [6, 11, 13, 14] (μ13 r12 (-1)) = true) (if (zi [14] (μ13 r12 (-1))) = 0 then (c_X8_isRow_65 (c_X8_isRow_8 n) zF μ13 x0 x1 x2 x4 x5 r12 0 0) else (ck (zt [14] (μ13 r12 (-1)) = true) (if (μ13 r12 9) = 0 then (some (0, 0, μ13)) else (ck (inR (x5 + 1)) (c_X8_isRow_8 n μ13 x0 x1 x2 x4 (x5 + 1)))))))))))))
theorem u_X8_isRow_8 {C : zv_Cx zc_O} {G : zc_G} {μ0 : MEM} (h : zv_Ok C cX8_isRow "TreePress$Spec") (hc : zc_C C G μ0 10 (Option.some FieldType.boolean) 3 4 90 "isRow" []) : ∀ (n : Nat) (μ : MEM) (x0 x1 x2 x4 x5 : Int), inL x2 → isB x4 → inR x5 → VV C (c_X8_isRow_8 n μ x0 x1 x2 x4 x5) μ [(0, zc_rv G x0), (1, zc_rv G x1), (2, jv x2), (4, iv x4), (5, iv x5)] [] 8 := by
  have hN : ∀ i, i < 10 → i < zv_n C := fun i q => by rw [hc.2.1]; exact q
  intro n
  induction n with
  | zero => intros; exact r_none
  | succ n ih =>
    intro μ x0 x1 x2 x4 x5 hx2 hx4 hx5
    rw [c_X8_isRow_8]
    refine r_iload h 4 dX8_isRow_8 rfl ?_
    refine c_aload_n (x := x1) h 1 dX8_isRow_10 rfl rfl ?_
    refine r_ck (fun ht1 => ?_)
    refine c_getR (fin := true) h hc [11] 2 (zc_lk2 h q309 q310) ht1 (by decide) dX8_isRow_11 ?_
    refine r_ck (fun ht2 => ?_)
    refine c_callV (x := (μ x1 2)) h hc (As := []) (fun o1 e1 => w_lsize _ (μ x1 2) o1 e1) [40] ht2 (by decide) q1043 q343 (fun t ht => by cases List.mem_singleton.mp ht; exact q344) q345 q135 (by omega) (by omega) (zc_sc (iv_cat _) zc_s0) (by omega) (fun z hz => by cases hz) ⟨by decide, by decide⟩ (n := 0) (by decide +kernel) rfl rfl dX8_isRow_14 (fun r3 μ4 hr5 => r_k1 ?_)
    refine r_icmp_ge (x := x5) (y := r3) h hx5 hr5 152 dX8_isRow_17 rfl ?_ ?_
    · refine r_iload h 3 dX8_isRow_152 rfl ?_
      refine r_if_eq (x := x4) h hx4.r 176 dX8_isRow_154 rfl ?_ ?_
      · refine c_aload_n (x := x0) h 0 dX8_isRow_176 rfl rfl ?_
        refine r_ck (fun ht6 => ?_)
        refine c_getZ (fin := false) h hc [8] 6 (zc_lk1 h q716) ht6 (by decide) dX8_isRow_177 (fun hr7 => ?_)
        exact c_zret h hc rfl hr7 dX8_isRow_180
      · refine r_lload_n h 2 dX8_isRow_157 rfl rfl ?_
        refine c_aload_n (x := x0) h 0 dX8_isRow_158 rfl rfl ?_
        refine r_ck (fun ht8 => ?_)
        refine c_getJ (fin := false) h hc [8] 5 (zc_lk1 h q714) ht8 (by decide) dX8_isRow_159 (fun hr9 => ?_)
        refine r_land h dX8_isRow_162 ?_
        refine r_lconst (x := 0) h dX8_isRow_163 (by decide) ?_
        refine r_lcmp h (inL_t _) (by decide) dX8_isRow_164 ?_
        refine r_if_eq (x := (j_cmp (j_and x2 (μ4 x0 5)) 0)) h (j_cmp_r _ _) 172 dX8_isRow_165 rfl ?_ ?_
        · refine r_iconst h dX8_isRow_172 ?_
          refine r_goto h 180 dX8_isRow_173 rfl ?_
          exact c_zret h hc rfl (by decide) dX8_isRow_180
        · refine r_iconst h dX8_isRow_168 ?_
          refine r_goto h 180 dX8_isRow_169 rfl ?_
          exact c_zret h hc rfl (by decide) dX8_isRow_180
    · refine c_aload_n (x := x1) h 1 dX8_isRow_20 rfl rfl ?_
      refine r_ck (fun ht10 => ?_)
      refine c_getR (fin := true) h hc [11] 2 (zc_lk2 h q309 q310) ht10 (by decide) dX8_isRow_21 ?_
      refine r_iload h 4 dX8_isRow_24 rfl ?_
      refine r_ck (fun ht11 => ?_)
      refine c_callV (x := (μ4 x1 2)) h hc (As := [iv x5]) (fun o1 e1 => w_lget _ (μ4 x1 2) x5 hx5 o1 e1) [40] ht11 (by decide) q1044 q844 (fun t ht => by cases List.mem_singleton.mp ht; exact q845) q846 q135 (by omega) (by omega) zc_s0 (by omega) (fun z hz => by cases hz) ⟨by decide, by decide⟩ (n := 1) (by decide +kernel) rfl rfl dX8_isRow_26 (fun r12 μ13 hr14 => r_k4 ?_)
      refine r_ck (fun ht15 => ?_)
      refine c_cast h hc [6, 11, 13, 14] q1079 ht15 (by decide) dX8_isRow_29 ?_
      refine c_astore (lv' := [(6, zc_rv G r12), (0, zc_rv G x0), (1, zc_rv G x1), (2, jv x2), (4, iv x4), (5, iv x5)]) h dX8_isRow_32 (hN _ (by decide)) rfl ?_
      refine c_aload (x := r12) h 0 dX8_isRow_34 rfl ?_
      refine c_inst h hc [6, 11, 13, 14] [14] q1080 ht15 (by decide) dX8_isRow_36 ?_
      refine r_if_eq (x := (zi [14] (μ13 r12 (-1)))) h ((zi_B _ _)).r 59 dX8_isRow_39 rfl ?_ ?_
      · refine r_lconst (x := 0) h dX8_isRow_59 (by decide) ?_
        refine r_lstore (lv' := [(7, jv 0), (6, zc_rv G r12), (0, zc_rv G x0), (1, zc_rv G x1), (2, jv x2), (4, iv x4), (5, iv x5)]) h dX8_isRow_60 (hN _ (by decide)) (by simp [zc_rv_cat]) ?_
        refine r_iconst h dX8_isRow_62 ?_
        refine r_istore (lv' := [(9, iv 0), (7, jv 0), (6, zc_rv G r12), (0, zc_rv G x0), (1, zc_rv G x1), (2, jv x2), (4, iv x4), (5, iv x5)]) h dX8_isRow_63 (hN _ (by decide)) rfl ?_
        exact r_lv [3, 4, 5, 6, 7, 2, 1, 0] rfl (u_X8_isRow_65 h hc (c_X8_isRow_8 n) ih zF _ x0 x1 x2 x4 x5 r12 0 0 hx2 hx4 hx5 (by decide) (by decide))
      · refine c_aload (x := r12) h 0 dX8_isRow_42 rfl ?_
        refine r_ck (fun ht16 => ?_)
        refine c_cast h hc [14] q1080 ht16 (by decide) dX8_isRow_44 ?_
        refine c_astore (lv' := [(7, zc_rv G r12), (6, zc_rv G r12), (0, zc_rv G x0), (1, zc_rv G x1), (2, jv x2), (4, iv x4), (5, iv x5)]) h dX8_isRow_47 (hN _ (by decide)) (by simp [zc_rv_cat]) ?_
        refine c_aload (x := r12) h 0 dX8_isRow_49 rfl ?_
        refine c_getZ (fin := true) h hc [14] 9 (zc_lk3 hc (O := "TreePress$Text") (n := "blank") (ds := "Z") (host := "TreePress") (by decide)) ht16 (by decide) dX8_isRow_51 (fun hr17 => ?_)
        refine r_if_ne (x := (μ13 r12 9)) h hr17.r 146 dX8_isRow_54 rfl ?_ ?_
        · refine r_iconst h dX8_isRow_57 ?_
          exact c_zret h hc rfl (by decide) dX8_isRow_58
        · refine r_iinc (lv' := [(5, iv (x5 + 1)), (7, zc_rv G r12), (6, zc_rv G r12), (0, zc_rv G x0), (1, zc_rv G x1), (2, jv x2), (4, iv x4)]) h 6 dX8_isRow_146 rfl (hN _ (by decide)) rfl ?_
          refine r_goto h 8 dX8_isRow_149 rfl ?_
          refine r_ck (fun hk18 => ?_)
          exact r_lv [3, 4, 5, 6, 0] rfl (ih _ x0 x1 x2 x4 (x5 + 1) hx2 hx4 hk18)
def c_X8_isRow (μ : MEM) (a0 a1 : Int) : Option zc_O := c_X8_isRow_8 zF μ a0 a1 0 0 0
theorem u_X8_isRow {G : zc_G} (μ : MEM) (a0 a1 : Int) (o : zc_O) (hd : c_X8_isRow μ a0 a1 = some o) : zc_Met G yX8_isRow cX8_isRow 10 (Option.some FieldType.boolean) 3 4 90 μ [zc_rv G a0, zc_rv G a1] o := by
  refine zc_intro hd (by decide) (by simp [lg_sl, zc_rv_cat, iv_cat, jv_cat]) (lv := [(0, zc_rv G a0), (1, zc_rv G a1)]) (by simp [lv_args, zc_rv_cat, iv_cat, jv_cat]) (fun C h hc => ?_)
  have h : zv_Ok C cX8_isRow "TreePress$Spec" := h
  have hc : zc_C C G μ 10 (Option.some FieldType.boolean) 3 4 90 "isRow" [] := hc
  have hN : ∀ i, i < 10 → i < zv_n C := fun i q => by rw [hc.2.1]; exact q
  unfold c_X8_isRow
  refine r_lconst (x := 0) h dX8_isRow_0 (by decide) ?_
  refine r_lstore_n (i := 2) (lv' := [(2, jv 0), (0, zc_rv G a0), (1, zc_rv G a1)]) h dX8_isRow_1 rfl (hN _ (by decide)) (by simp [zc_rv_cat]) ?_
  refine r_iconst h dX8_isRow_2 ?_
  refine r_istore (lv' := [(4, iv 0), (2, jv 0), (0, zc_rv G a0), (1, zc_rv G a1)]) h dX8_isRow_3 (hN _ (by decide)) rfl ?_
  refine r_iconst h dX8_isRow_5 ?_
  refine r_istore (lv' := [(5, iv 0), (4, iv 0), (2, jv 0), (0, zc_rv G a0), (1, zc_rv G a1)]) h dX8_isRow_6 (hN _ (by decide)) rfl ?_
  exact r_lv [3, 4, 2, 1, 0] rfl (u_X8_isRow_8 h hc zF _ a0 a1 0 0 0 (by decide) (by decide) (by decide))
