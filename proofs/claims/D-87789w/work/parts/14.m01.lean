set_option maxRecDepth 100000
set_option maxHeartbeats 1000000
/-! methods of the class side: decode rows, denotations c_.., walks u_.. (written by wip/gen/cmain.py) -/
theorem dX3_part_0 : decode cX3_part 0 = .ok (.aload_n 0, 1) := by decide +kernel
theorem dX3_part_1 : decode cX3_part 1 = .ok (.invokevirtual 35, 3) := by decide +kernel
theorem dX3_part_4 : decode cX3_part 4 = .ok (.bipush 40, 2) := by decide +kernel
theorem dX3_part_6 : decode cX3_part 6 = .ok (.if_icmp .ne 48, 3) := by decide +kernel
theorem dX3_part_9 : decode cX3_part 9 = .ok (.iload_n 2, 1) := by decide +kernel
theorem dX3_part_10 : decode cX3_part 10 = .ok (.bipush 6, 2) := by decide +kernel
theorem dX3_part_12 : decode cX3_part 12 = .ok (.if_icmp .ne 17, 3) := by decide +kernel
theorem dX3_part_15 : decode cX3_part 15 = .ok (.new 50, 3) := by decide +kernel
theorem dX3_part_18 : decode cX3_part 18 = .ok (.dup, 1) := by decide +kernel
theorem dX3_part_19 : decode cX3_part 19 = .ok (.bipush (-3), 2) := by decide +kernel
theorem dX3_part_21 : decode cX3_part 21 = .ok (.aload_n 0, 1) := by decide +kernel
theorem dX3_part_22 : decode cX3_part 22 = .ok (.invokevirtual 31, 3) := by decide +kernel
theorem dX3_part_25 : decode cX3_part 25 = .ok (.invokespecial 52, 3) := by decide +kernel
theorem dX3_part_28 : decode cX3_part 28 = .ok (.athrow, 1) := by decide +kernel
theorem dX3_part_29 : decode cX3_part 29 = .ok (.aload_n 0, 1) := by decide +kernel
theorem dX3_part_30 : decode cX3_part 30 = .ok (.ldc 159, 2) := by decide +kernel
theorem dX3_part_32 : decode cX3_part 32 = .ok (.invokevirtual 57, 3) := by decide +kernel
theorem dX3_part_35 : decode cX3_part 35 = .ok (.aload_n 0, 1) := by decide +kernel
theorem dX3_part_36 : decode cX3_part 36 = .ok (.invokevirtual 46, 3) := by decide +kernel
theorem dX3_part_39 : decode cX3_part 39 = .ok (.pop, 1) := by decide +kernel
theorem dX3_part_40 : decode cX3_part 40 = .ok (.aload_n 0, 1) := by decide +kernel
theorem dX3_part_41 : decode cX3_part 41 = .ok (.aload_n 1, 1) := by decide +kernel
theorem dX3_part_42 : decode cX3_part 42 = .ok (.aload_n 0, 1) := by decide +kernel
theorem dX3_part_43 : decode cX3_part 43 = .ok (.aload_n 1, 1) := by decide +kernel
theorem dX3_part_44 : decode cX3_part 44 = .ok (.iload_n 2, 1) := by decide +kernel
theorem dX3_part_45 : decode cX3_part 45 = .ok (.iconst 1, 1) := by decide +kernel
theorem dX3_part_46 : decode cX3_part 46 = .ok (.iadd, 1) := by decide +kernel
theorem dX3_part_47 : decode cX3_part 47 = .ok (.invokevirtual 163, 3) := by decide +kernel
theorem dX3_part_50 : decode cX3_part 50 = .ok (.invokevirtual 167, 3) := by decide +kernel
theorem dX3_part_53 : decode cX3_part 53 = .ok (.areturn, 1) := by decide +kernel
theorem dX3_part_54 : decode cX3_part 54 = .ok (.aload_n 0, 1) := by decide +kernel
theorem dX3_part_55 : decode cX3_part 55 = .ok (.aload_n 1, 1) := by decide +kernel
theorem dX3_part_56 : decode cX3_part 56 = .ok (.invokevirtual 188, 3) := by decide +kernel
theorem dX3_part_59 : decode cX3_part 59 = .ok (.istore_n 3, 1) := by decide +kernel
theorem dX3_part_60 : decode cX3_part 60 = .ok (.new 172, 3) := by decide +kernel
theorem dX3_part_63 : decode cX3_part 63 = .ok (.dup, 1) := by decide +kernel
theorem dX3_part_64 : decode cX3_part 64 = .ok (.invokespecial 215, 3) := by decide +kernel
theorem dX3_part_67 : decode cX3_part 67 = .ok (.astore 4, 2) := by decide +kernel
theorem dX3_part_69 : decode cX3_part 69 = .ok (.aload 4, 2) := by decide +kernel
theorem dX3_part_71 : decode cX3_part 71 = .ok (.lconst 1, 1) := by decide +kernel
theorem dX3_part_72 : decode cX3_part 72 = .ok (.iload_n 3, 1) := by decide +kernel
theorem dX3_part_73 : decode cX3_part 73 = .ok (.lshl, 1) := by decide +kernel
theorem dX3_part_74 : decode cX3_part 74 = .ok (.putfield 171, 3) := by decide +kernel
theorem dX3_part_77 : decode cX3_part 77 = .ok (.aload 4, 2) := by decide +kernel
theorem dX3_part_79 : decode cX3_part 79 = .ok (.aload 4, 2) := by decide +kernel
theorem dX3_part_81 : decode cX3_part 81 = .ok (.getfield 171, 3) := by decide +kernel
theorem dX3_part_84 : decode cX3_part 84 = .ok (.putfield 178, 3) := by decide +kernel
theorem dX3_part_87 : decode cX3_part 87 = .ok (.aload_n 0, 1) := by decide +kernel
theorem dX3_part_88 : decode cX3_part 88 = .ok (.aload_n 1, 1) := by decide +kernel
theorem dX3_part_89 : decode cX3_part 89 = .ok (.aload 4, 2) := by decide +kernel
theorem dX3_part_91 : decode cX3_part 91 = .ok (.invokevirtual 167, 3) := by decide +kernel
theorem dX3_part_94 : decode cX3_part 94 = .ok (.areturn, 1) := by decide +kernel
def c_X3_part (rrest : MEM → Int → Int → Int → Option zc_O) (μ : MEM) (a0 a1 a2 : Int) : Option zc_O := ck (zt [3] (μ a0 (-1)) = true) (bc (c_X2_here μ a0) (fun r2 μ3 => if r2 = 40 then (if a2 = 6 then (ck (1 ≤ μ3 0 1 ∧ (8 : Int) ≤ μ3 0 2) (nu (mnew μ3 22 0 8) (fun μ5 => ck (zt [3] (μ5 a0 (-1)) = true) (bc (c_X2_place μ5 a0) (fun r8 μ9 => ck (zt [22] (μ9 (μ3 0 0) (-1)) = true) (bc (b_finit μ9 (μ3 0 0) (-3) r8) (fun _ μ12 => ck (0 < (μ3 0 0)) (some (1, (μ3 0 0), μ12))))))))) else (ck (zt [3] (μ3 a0 (-1)) = true) (bc (c_X2_must μ3 a0 (-10)) (fun _ μ14 => ck (zt [3] (μ14 a0 (-1)) = true) (bc (c_X3_space μ14 a0) (fun r16 μ17 => ck (inR (a2 + 1)) (ck (zt [3] (μ17 a0 (-1)) = true) (bc (rrest μ17 a0 a1 (a2 + 1)) (fun r21 μ22 => ck (zt [3] (μ22 a0 (-1)) = true) (bc (c_X3_sign μ22 a0 a1 r21) (fun r25 μ26 => some (0, r25, μ26)))))))))))) else (ck (zt [3] (μ3 a0 (-1)) = true) (bc (c_X3_nameOf μ3 a0 a1) (fun r29 μ30 => ck (1 ≤ μ30 0 1 ∧ (3 : Int) ≤ μ30 0 2) (nu (mnew μ30 9 0 3) (fun μ32 => bc (c_X9_init μ32 (μ30 0 0)) (fun _ μ34 => ck (zt [9] (μ34 (μ30 0 0) (-1)) = true) (nu (mup μ34 (μ30 0 0) 0 (j_shl 1 r29)) (fun μ36 => nu (mup μ36 (μ30 0 0) 1 (μ36 (μ30 0 0) 0)) (fun μ39 => ck (zt [3] (μ39 a0 (-1)) = true) (bc (c_X3_sign μ39 a0 a1 (μ30 0 0)) (fun r42 μ43 => some (0, r42, μ43))))))))))))))
theorem u_X3_part {G : zc_G} {F L FRv LOv : Nat} (hfr1 : F + 1 ≤ FRv) (hfr2 : 10 ≤ FRv) (hlo1 : L + 25 ≤ LOv) (hlo2 : 206 ≤ LOv) (rrest : MEM → Int → Int → Int → Option zc_O) (hrrest : ∀ (μ : MEM) (a0 a1 a2 : Int), inR a2 → ∀ o, rrest μ a0 a1 a2 = some o → zc_Met G yX3_rest cX3_rest 6 (Option.some (FieldType.object "TreePress$Part")) 4 F L μ [zc_rv G a0, zc_rv G a1, iv a2] o) (μ : MEM) (a0 a1 a2 : Int) (ha2 : inR a2) (o : zc_O) (hd : c_X3_part rrest μ a0 a1 a2 = some o) : zc_Met G yX3_part cX3_part 5 (Option.some (FieldType.object "TreePress$Part")) 4 FRv LOv μ [zc_rv G a0, zc_rv G a1, iv a2] o := by
  refine zc_intro hd (by decide) (by simp [lg_sl, zc_rv_cat, iv_cat, jv_cat]) (lv := [(0, zc_rv G a0), (1, zc_rv G a1), (2, iv a2)]) (by simp [lv_args, zc_rv_cat, iv_cat, jv_cat]) (fun C h hc => ?_)
  have h : zv_Ok C cX3_part "TreePress$Parser" := h
  have hc : zc_C C G μ 5 (Option.some (FieldType.object "TreePress$Part")) 4 FRv LOv "part" [] := hc
  have hN : ∀ i, i < 5 → i < zv_n C := fun i q => by rw [hc.2.1]; exact q
  unfold c_X3_part
  refine c_aload_n (x := a0) h 0 dX3_part_0 rfl rfl ?_
  refine r_ck (fun ht1 => ?_)
  refine c_callU (x := a0) (xm := ⟨"TreePress$Parser", "here", "()I"⟩) (owner := "TreePress$Reader") h hc (As := []) (fun o1 e1 => u_X2_here _ a0 o1 e1) [3] ht1 (by decide) q489 q490 (va_Decl.of (h.2.2.2.2 _ q493) (h.2.2.2.2 _ q494)) ⟨by decide, by decide⟩ q493 (fun t ht => by cases List.mem_singleton.mp ht; exact q492) q494 q137 (by omega) (by omega) zc_s0 (by omega) (fun z hz => by cases hz) (n := 0) (by decide +kernel) rfl rfl dX3_part_1 (fun r2 μ3 hr4 => r_k1 ?_)
  refine r_bipush h dX3_part_4 (by decide) ?_
  refine r_icmp_ne (x := r2) (y := 40) h hr4 (by decide) 54 dX3_part_6 rfl ?_ ?_
  · refine r_iload_n h 2 dX3_part_9 rfl rfl ?_
    refine r_bipush h dX3_part_10 (by decide) ?_
    refine r_icmp_ne (x := a2) (y := 6) h ha2 (by decide) 29 dX3_part_12 rfl ?_ ?_
    · refine c_newF h hc q650 q577 q153 dX3_part_15 (fun _ μ5 he6 => ?_)
      refine r_dup h dX3_part_18 (zc_rv_cat G _) ?_
      refine r_bipush h dX3_part_19 (by decide) ?_
      refine c_aload_n (x := a0) h 0 dX3_part_21 rfl rfl ?_
      refine r_ck (fun ht7 => ?_)
      refine c_callU (x := a0) (xm := ⟨"TreePress$Parser", "place", "()I"⟩) (owner := "TreePress$Reader") h hc (As := []) (fun o1 e1 => u_X2_place _ a0 o1 e1) [3] ht7 (by decide) q483 q484 (va_Decl.of (h.2.2.2.2 _ q487) (h.2.2.2.2 _ q488)) ⟨by decide, by decide⟩ q487 (fun t ht => by cases List.mem_singleton.mp ht; exact q486) q488 q137 (by omega) (by omega) (zc_sc (iv_cat _) (zc_sc (zc_rv_cat G _) (zc_sc (zc_rv_cat G _) zc_s0))) (by omega) (fun z hz => by cases hz) (n := 0) (by decide +kernel) rfl rfl dX3_part_22 (fun r8 μ9 hr10 => r_k1 ?_)
      refine r_ck (fun ht11 => ?_)
      refine c_callI (x := (μ3 0 0)) h hc (As := [iv (-3), iv r8]) (fun o1 e1 => w_finit _ (μ3 0 0) (-3) r8 (by decide) hr10 o1 e1) [22] ht11 (by decide) q651 q616 rfl q617 q153 (by omega) (by omega) (zc_sc (zc_rv_cat G _) zc_s0) (by omega) (fun z hz => by cases hz) ⟨by decide, by decide⟩ (n := 2) (by decide +kernel) rfl rfl dX3_part_25 (fun _ μ12 _ => r_k0 ?_)
      exact c_athrow h hc (fun z hz => by cases hz) dX3_part_28
    · refine c_aload_n (x := a0) h 0 dX3_part_29 rfl rfl ?_
      refine c_ldcs (tx := "(") h hc 10 (by decide) (-10) rfl (by decide) dX3_part_30 ?_
      refine r_ck (fun ht13 => ?_)
      refine c_callU (x := a0) (xm := ⟨"TreePress$Parser", "must", "(Ljava/lang/String;)V"⟩) (owner := "TreePress$Reader") h hc (As := [zc_rv G (-10)]) (fun o1 e1 => u_X2_must _ a0 (-10) o1 e1) [3] ht13 (by decide) q563 q564 (va_Decl.of (h.2.2.2.2 _ q567) (h.2.2.2.2 _ q568)) ⟨by decide, by decide⟩ q567 (fun t ht => by cases List.mem_singleton.mp ht; exact q566) q568 q137 (by omega) (by omega) zc_s0 (by omega) (fun z hz => by cases hz) (n := 1) (by decide +kernel) rfl rfl dX3_part_32 (fun _ μ14 _ => r_k0 ?_)
      refine c_aload_n (x := a0) h 0 dX3_part_35 rfl rfl ?_
      refine r_ck (fun ht15 => ?_)
      refine c_callV (x := a0) h hc (As := []) (fun o1 e1 => u_X3_space _ a0 o1 e1) [3] ht15 (by decide) q479 q481 (fun t ht => by cases List.mem_singleton.mp ht; exact qs5) q482 q138 (by omega) (by omega) zc_s0 (by omega) (fun z hz => by cases hz) ⟨by decide, by decide⟩ (n := 0) (by decide +kernel) rfl rfl dX3_part_36 (fun r16 μ17 hr18 => r_k3 ?_)
      refine r_pop h dX3_part_39 (iv_cat _) ?_
      refine c_aload_n (x := a0) h 0 dX3_part_40 rfl rfl ?_
      refine c_aload_n (x := a1) h 1 dX3_part_41 rfl rfl ?_
      refine c_aload_n (x := a0) h 0 dX3_part_42 rfl rfl ?_
      refine c_aload_n (x := a1) h 1 dX3_part_43 rfl rfl ?_
      refine r_iload_n h 2 dX3_part_44 rfl rfl ?_
      refine r_iconst h dX3_part_45 ?_
      refine r_iadd h dX3_part_46 ?_
      refine r_ck (fun hk19 => ?_)
      refine r_ck (fun ht20 => ?_)
      refine c_callV (x := a0) h hc (As := [zc_rv G a1, iv (a2 + 1)]) (fun o1 e1 => hrrest _ a0 a1 (a2 + 1) hk19 o1 e1) [3] ht20 (by decide) q746 q748 (fun t ht => by cases List.mem_singleton.mp ht; exact qs12) q749 q138 (by omega) (by omega) (zc_sc (zc_rv_cat G _) (zc_sc (zc_rv_cat G _) zc_s0)) (by omega) (fun z hz => by cases hz) ⟨by decide, by decide⟩ (n := 2) (by decide +kernel) rfl rfl dX3_part_47 (fun r21 μ22 hr23 => r_k4 ?_)
      refine r_ck (fun ht24 => ?_)
      refine c_callV (x := a0) h hc (As := [zc_rv G a1, zc_rv G r21]) (fun o1 e1 => u_X3_sign _ a0 a1 r21 o1 e1) [3] ht24 (by decide) q754 q756 (fun t ht => by cases List.mem_singleton.mp ht; exact qs14) q757 q138 (by omega) (by omega) zc_s0 (by omega) (fun z hz => by cases hz) ⟨by decide, by decide⟩ (n := 2) (by decide +kernel) rfl rfl dX3_part_50 (fun r25 μ26 hr27 => r_k4 ?_)
      exact c_aret h hc rfl (Or.inl ⟨_, rfl⟩) dX3_part_53
  · refine c_aload_n (x := a0) h 0 dX3_part_54 rfl rfl ?_
    refine c_aload_n (x := a1) h 1 dX3_part_55 rfl rfl ?_
    refine r_ck (fun ht28 => ?_)
    refine c_callV (x := a0) h hc (As := [zc_rv G a1]) (fun o1 e1 => u_X3_nameOf _ a0 a1 o1 e1) [3] ht28 (by decide) q761 q763 (fun t ht => by cases List.mem_singleton.mp ht; exact qs15) q764 q138 (by omega) (by omega) zc_s0 (by omega) (fun z hz => by cases hz) ⟨by decide, by decide⟩ (n := 1) (by decide +kernel) rfl rfl dX3_part_56 (fun r29 μ30 hr31 => r_k1 ?_)
    refine r_istore_n (i := 3) (lv' := [(3, iv r29), (0, zc_rv G a0), (1, zc_rv G a1), (2, iv a2)]) h dX3_part_59 rfl (hN _ (by decide)) rfl ?_
    refine c_new h hc 9 (N := 3) rfl (by decide) q766 q767 q155 dX3_part_60 (fun _ μ32 he33 => ?_)
    refine r_dup h dX3_part_63 (zc_rv_cat G _) ?_
    refine c_callIN (x := (μ30 0 0)) h hc (As := []) (fun o1 e1 => u_X9_init _ (μ30 0 0) o1 e1) [9] (zt_nw he33) (by decide) (host := "TreePress") (by decide) q769 rfl q770 q155 (by omega) (by omega) (zc_sc (zc_rv_cat G _) zc_s0) (by omega) (fun z hz => by cases hz) ⟨by decide, by decide⟩ (n := 0) (by decide +kernel) rfl rfl dX3_part_64 (fun _ μ34 _ => r_k0 ?_)
    refine c_astore (lv' := [(4, zc_rv G (μ30 0 0)), (3, iv r29), (0, zc_rv G a0), (1, zc_rv G a1), (2, iv a2)]) h dX3_part_67 (hN _ (by decide)) rfl ?_
    refine c_aload (x := (μ30 0 0)) h 0 dX3_part_69 rfl ?_
    refine r_lconst (x := 1) h dX3_part_71 (by decide) ?_
    refine r_iload_n h 1 dX3_part_72 rfl rfl ?_
    refine r_lshl h dX3_part_73 ?_
    refine r_ck (fun ht35 => ?_)
    refine c_putJ (x := (μ30 0 0)) (y := (j_shl 1 r29)) h hc [9] 0 false (zc_lk3 hc (O := "TreePress$Part") (n := "first") (ds := "J") (host := "TreePress") (by decide)) ht35 (by decide) (Or.inl rfl) (inL_t _) dX3_part_74 (fun μ36 he37 => ?_)
    refine c_aload (x := (μ30 0 0)) h 0 dX3_part_77 rfl ?_
    refine c_aload (x := (μ30 0 0)) h 0 dX3_part_79 rfl ?_
    refine c_getJ (fin := false) h hc [9] 0 (zc_lk3 hc (O := "TreePress$Part") (n := "first") (ds := "J") (host := "TreePress") (by decide)) (zt_mup he37 (by decide) ht35) (by decide) dX3_part_81 (fun hr38 => ?_)
    refine c_putJ (x := (μ30 0 0)) (y := (μ36 (μ30 0 0) 0)) h hc [9] 1 false (zc_lk3 hc (O := "TreePress$Part") (n := "last") (ds := "J") (host := "TreePress") (by decide)) (zt_mup he37 (by decide) ht35) (by decide) (Or.inl rfl) hr38 dX3_part_84 (fun μ39 he40 => ?_)
    refine c_aload_n (x := a0) h 2 dX3_part_87 rfl rfl ?_
    refine c_aload_n (x := a1) h 3 dX3_part_88 rfl rfl ?_
    refine c_aload (x := (μ30 0 0)) h 0 dX3_part_89 rfl ?_
    refine r_ck (fun ht41 => ?_)
    refine c_callV (x := a0) h hc (As := [zc_rv G a1, zc_rv G (μ30 0 0)]) (fun o1 e1 => u_X3_sign _ a0 a1 (μ30 0 0) o1 e1) [3] ht41 (by decide) q754 q756 (fun t ht => by cases List.mem_singleton.mp ht; exact qs14) q757 q138 (by omega) (by omega) zc_s0 (by omega) (fun z hz => by cases hz) ⟨by decide, by decide⟩ (n := 2) (by decide +kernel) rfl rfl dX3_part_91 (fun r42 μ43 hr44 => r_k4 ?_)
    exact c_aret h hc rfl (Or.inl ⟨_, rfl⟩) dX3_part_94
theorem dX3_either_0 : decode cX3_either 0 = .ok (.aload_n 0, 1) := by decide +kernel
theorem dX3_either_1 : decode cX3_either 1 = .ok (.dup, 1) := by decide +kernel
theorem dX3_either_2 : decode cX3_either 2 = .ok (.getfield 171, 3) := by decide +kernel
theorem dX3_either_5 : decode cX3_either 5 = .ok (.aload_n 1, 1) := by decide +kernel
theorem dX3_either_6 : decode cX3_either 6 = .ok (.getfield 171, 3) := by decide +kernel
theorem dX3_either_9 : decode cX3_either 9 = .ok (.lor, 1) := by decide +kernel
theorem dX3_either_10 : decode cX3_either 10 = .ok (.putfield 171, 3) := by decide +kernel
theorem dX3_either_13 : decode cX3_either 13 = .ok (.aload_n 0, 1) := by decide +kernel
theorem dX3_either_14 : decode cX3_either 14 = .ok (.dup, 1) := by decide +kernel
theorem dX3_either_15 : decode cX3_either 15 = .ok (.getfield 178, 3) := by decide +kernel
theorem dX3_either_18 : decode cX3_either 18 = .ok (.aload_n 1, 1) := by decide +kernel
theorem dX3_either_19 : decode cX3_either 19 = .ok (.getfield 178, 3) := by decide +kernel
theorem dX3_either_22 : decode cX3_either 22 = .ok (.lor, 1) := by decide +kernel
theorem dX3_either_23 : decode cX3_either 23 = .ok (.putfield 178, 3) := by decide +kernel
theorem dX3_either_26 : decode cX3_either 26 = .ok (.aload_n 0, 1) := by decide +kernel
theorem dX3_either_27 : decode cX3_either 27 = .ok (.dup, 1) := by decide +kernel
theorem dX3_either_28 : decode cX3_either 28 = .ok (.getfield 181, 3) := by decide +kernel
theorem dX3_either_31 : decode cX3_either 31 = .ok (.aload_n 1, 1) := by decide +kernel
theorem dX3_either_32 : decode cX3_either 32 = .ok (.getfield 181, 3) := by decide +kernel
theorem dX3_either_35 : decode cX3_either 35 = .ok (.ior, 1) := by decide +kernel
theorem dX3_either_36 : decode cX3_either 36 = .ok (.putfield 181, 3) := by decide +kernel
theorem dX3_either_39 : decode cX3_either 39 = .ok (.return_, 1) := by decide +kernel
def c_X3_either (μ : MEM) (a0 a1 : Int) : Option zc_O := ck (zt [9] (μ a0 (-1)) = true) (ck (zt [9] (μ a1 (-1)) = true) (nu (mup μ a0 0 (j_or (μ a0 0) (μ a1 0))) (fun μ5 => nu (mup μ5 a0 1 (j_or (μ5 a0 1) (μ5 a1 1))) (fun μ9 => nu (mup μ9 a0 2 (i_or (μ9 a0 2) (μ9 a1 2))) (fun μ13 => some (0, 0, μ13))))))
theorem u_X3_either {G : zc_G} (μ : MEM) (a0 a1 : Int) (o : zc_O) (hd : c_X3_either μ a0 a1 = some o) : zc_Met G yX3_either cX3_either 2 (Option.none : Option FieldType) 0 0 0 μ [zc_rv G a0, zc_rv G a1] o := by
  refine zc_intro hd (by decide) (by simp [lg_sl, zc_rv_cat, iv_cat, jv_cat]) (lv := [(0, zc_rv G a0), (1, zc_rv G a1)]) (by simp [lv_args, zc_rv_cat, iv_cat, jv_cat]) (fun C h hc => ?_)
  have h : zv_Ok C cX3_either "TreePress$Parser" := h
  have hc : zc_C C G μ 2 (Option.none : Option FieldType) 0 0 0 "either" [] := hc
  have hN : ∀ i, i < 2 → i < zv_n C := fun i q => by rw [hc.2.1]; exact q
  unfold c_X3_either
  refine c_aload_n (x := a0) h 0 dX3_either_0 rfl rfl ?_
  refine r_dup h dX3_either_1 (zc_rv_cat G _) ?_
  refine r_ck (fun ht1 => ?_)
  refine c_getJ (fin := false) h hc [9] 0 (zc_lk3 hc (O := "TreePress$Part") (n := "first") (ds := "J") (host := "TreePress") (by decide)) ht1 (by decide) dX3_either_2 (fun hr2 => ?_)
  refine c_aload_n (x := a1) h 1 dX3_either_5 rfl rfl ?_
  refine r_ck (fun ht3 => ?_)
  refine c_getJ (fin := false) h hc [9] 0 (zc_lk3 hc (O := "TreePress$Part") (n := "first") (ds := "J") (host := "TreePress") (by decide)) ht3 (by decide) dX3_either_6 (fun hr4 => ?_)
  refine r_lor h dX3_either_9 ?_
  refine c_putJ (x := a0) (y := (j_or (μ a0 0) (μ a1 0))) h hc [9] 0 false (zc_lk3 hc (O := "TreePress$Part") (n := "first") (ds := "J") (host := "TreePress") (by decide)) ht1 (by decide) (Or.inl rfl) (inL_t _) dX3_either_10 (fun μ5 he6 => ?_)
  refine c_aload_n (x := a0) h 0 dX3_either_13 rfl rfl ?_
  refine r_dup h dX3_either_14 (zc_rv_cat G _) ?_
  refine c_getJ (fin := false) h hc [9] 1 (zc_lk3 hc (O := "TreePress$Part") (n := "last") (ds := "J") (host := "TreePress") (by decide)) (zt_mup he6 (by decide) ht1) (by decide) dX3_either_15 (fun hr7 => ?_)
  refine c_aload_n (x := a1) h 1 dX3_either_18 rfl rfl ?_
  refine c_getJ (fin := false) h hc [9] 1 (zc_lk3 hc (O := "TreePress$Part") (n := "last") (ds := "J") (host := "TreePress") (by decide)) (zt_mup he6 (by decide) ht3) (by decide) dX3_either_19 (fun hr8 => ?_)
  refine r_lor h dX3_either_22 ?_
  refine c_putJ (x := a0) (y := (j_or (μ5 a0 1) (μ5 a1 1))) h hc [9] 1 false (zc_lk3 hc (O := "TreePress$Part") (n := "last") (ds := "J") (host := "TreePress") (by decide)) (zt_mup he6 (by decide) ht1) (by decide) (Or.inl rfl) (inL_t _) dX3_either_23 (fun μ9 he10 => ?_)
  refine c_aload_n (x := a0) h 0 dX3_either_26 rfl rfl ?_
  refine r_dup h dX3_either_27 (zc_rv_cat G _) ?_
  refine c_getZ (fin := false) h hc [9] 2 (zc_lk3 hc (O := "TreePress$Part") (n := "nothing") (ds := "Z") (host := "TreePress") (by decide)) (zt_mup he10 (by decide) (zt_mup he6 (by decide) ht1)) (by decide) dX3_either_28 (fun hr11 => ?_)
  refine c_aload_n (x := a1) h 1 dX3_either_31 rfl rfl ?_
  refine c_getZ (fin := false) h hc [9] 2 (zc_lk3 hc (O := "TreePress$Part") (n := "nothing") (ds := "Z") (host := "TreePress") (by decide)) (zt_mup he10 (by decide) (zt_mup he6 (by decide) ht3)) (by decide) dX3_either_32 (fun hr12 => ?_)
  refine r_ior h dX3_either_35 ?_
  refine c_putZ (x := a0) (y := (i_or (μ9 a0 2) (μ9 a1 2))) h hc [9] 2 false (zc_lk3 hc (O := "TreePress$Part") (n := "nothing") (ds := "Z") (host := "TreePress") (by decide)) (zt_mup he10 (by decide) (zt_mup he6 (by decide) ht1)) (by decide) (Or.inl rfl) (i_or_B hr11 hr12) dX3_either_36 (fun μ13 he14 => ?_)
  exact c_vret h hc rfl dX3_either_39
theorem dX3_behind_0 : decode cX3_behind 0 = .ok (.aload_n 0, 1) := by decide +kernel
theorem dX3_behind_1 : decode cX3_behind 1 = .ok (.aload_n 1, 1) := by decide +kernel
theorem dX3_behind_2 : decode cX3_behind 2 = .ok (.getfield 178, 3) := by decide +kernel
theorem dX3_behind_5 : decode cX3_behind 5 = .ok (.aload_n 2, 1) := by decide +kernel
theorem dX3_behind_6 : decode cX3_behind 6 = .ok (.getfield 171, 3) := by decide +kernel
theorem dX3_behind_9 : decode cX3_behind 9 = .ok (.invokestatic 211, 3) := by decide +kernel
theorem dX3_behind_12 : decode cX3_behind 12 = .ok (.aload_n 1, 1) := by decide +kernel
theorem dX3_behind_13 : decode cX3_behind 13 = .ok (.dup, 1) := by decide +kernel
theorem dX3_behind_14 : decode cX3_behind 14 = .ok (.getfield 171, 3) := by decide +kernel
theorem dX3_behind_17 : decode cX3_behind 17 = .ok (.aload_n 1, 1) := by decide +kernel
theorem dX3_behind_18 : decode cX3_behind 18 = .ok (.getfield 181, 3) := by decide +kernel
theorem dX3_behind_21 : decode cX3_behind 21 = .ok (.ifCond .eq 10, 3) := by decide +kernel
theorem dX3_behind_24 : decode cX3_behind 24 = .ok (.aload_n 2, 1) := by decide +kernel
theorem dX3_behind_25 : decode cX3_behind 25 = .ok (.getfield 171, 3) := by decide +kernel
theorem dX3_behind_28 : decode cX3_behind 28 = .ok (.goto 4, 3) := by decide +kernel
theorem dX3_behind_31 : decode cX3_behind 31 = .ok (.lconst 0, 1) := by decide +kernel
theorem dX3_behind_32 : decode cX3_behind 32 = .ok (.lor, 1) := by decide +kernel
theorem dX3_behind_33 : decode cX3_behind 33 = .ok (.putfield 171, 3) := by decide +kernel
theorem dX3_behind_36 : decode cX3_behind 36 = .ok (.aload_n 1, 1) := by decide +kernel
theorem dX3_behind_37 : decode cX3_behind 37 = .ok (.aload_n 2, 1) := by decide +kernel
theorem dX3_behind_38 : decode cX3_behind 38 = .ok (.getfield 178, 3) := by decide +kernel
theorem dX3_behind_41 : decode cX3_behind 41 = .ok (.aload_n 2, 1) := by decide +kernel
theorem dX3_behind_42 : decode cX3_behind 42 = .ok (.getfield 181, 3) := by decide +kernel
theorem dX3_behind_45 : decode cX3_behind 45 = .ok (.ifCond .eq 10, 3) := by decide +kernel
theorem dX3_behind_48 : decode cX3_behind 48 = .ok (.aload_n 1, 1) := by decide +kernel
theorem dX3_behind_49 : decode cX3_behind 49 = .ok (.getfield 178, 3) := by decide +kernel
theorem dX3_behind_52 : decode cX3_behind 52 = .ok (.goto 4, 3) := by decide +kernel
theorem dX3_behind_55 : decode cX3_behind 55 = .ok (.lconst 0, 1) := by decide +kernel
theorem dX3_behind_56 : decode cX3_behind 56 = .ok (.lor, 1) := by decide +kernel
theorem dX3_behind_57 : decode cX3_behind 57 = .ok (.putfield 178, 3) := by decide +kernel
theorem dX3_behind_60 : decode cX3_behind 60 = .ok (.aload_n 1, 1) := by decide +kernel
theorem dX3_behind_61 : decode cX3_behind 61 = .ok (.dup, 1) := by decide +kernel
theorem dX3_behind_62 : decode cX3_behind 62 = .ok (.getfield 181, 3) := by decide +kernel
theorem dX3_behind_65 : decode cX3_behind 65 = .ok (.aload_n 2, 1) := by decide +kernel
theorem dX3_behind_66 : decode cX3_behind 66 = .ok (.getfield 181, 3) := by decide +kernel
theorem dX3_behind_69 : decode cX3_behind 69 = .ok (.iand, 1) := by decide +kernel
theorem dX3_behind_70 : decode cX3_behind 70 = .ok (.putfield 181, 3) := by decide +kernel
theorem dX3_behind_73 : decode cX3_behind 73 = .ok (.return_, 1) := by decide +kernel
def c_X3_behind_56 (μ : MEM) (x1 x2 s0 s1 s2 : Int) : Option zc_O := ck (zt [9] (μ s0 (-1)) = true) (nu (mup μ s0 1 (j_or s1 s2)) (fun μ2 => ck (zt [9] (μ2 x1 (-1)) = true) (ck (zt [9] (μ2 x2 (-1)) = true) (nu (mup μ2 x1 2 (i_and (μ2 x1 2) (μ2 x2 2))) (fun μ8 => some (0, 0, μ8))))))
theorem u_X3_behind_56 {C : zv_Cx zc_O} {G : zc_G} {μ0 : MEM} (h : zv_Ok C cX3_behind "TreePress$Parser") (hc : zc_C C G μ0 3 (Option.none : Option FieldType) 0 2 45 "behind" []) (μ : MEM) (x1 x2 s0 s1 s2 : Int) (hs1 : inL s1) (hs2 : inL s2) : VV C (c_X3_behind_56 μ x1 x2 s0 s1 s2) μ [(1, zc_rv G x1), (2, zc_rv G x2)] [jv s2, jv s1, zc_rv G s0] 56 := by
  have hN : ∀ i, i < 3 → i < zv_n C := fun i q => by rw [hc.2.1]; exact q
  unfold c_X3_behind_56
  refine r_lor h dX3_behind_56 ?_
  refine r_ck (fun ht1 => ?_)
  refine c_putJ (x := s0) (y := (j_or s1 s2)) h hc [9] 1 false (zc_lk3 hc (O := "TreePress$Part") (n := "last") (ds := "J") (host := "TreePress") (by decide)) ht1 (by decide) (Or.inl rfl) (inL_t _) dX3_behind_57 (fun μ2 he3 => ?_)
  refine c_aload_n (x := x1) h 0 dX3_behind_60 rfl rfl ?_
  refine r_dup h dX3_behind_61 (zc_rv_cat G _) ?_
  refine r_ck (fun ht4 => ?_)
  refine c_getZ (fin := false) h hc [9] 2 (zc_lk3 hc (O := "TreePress$Part") (n := "nothing") (ds := "Z") (host := "TreePress") (by decide)) ht4 (by decide) dX3_behind_62 (fun hr5 => ?_)
  refine c_aload_n (x := x2) h 1 dX3_behind_65 rfl rfl ?_
  refine r_ck (fun ht6 => ?_)
  refine c_getZ (fin := false) h hc [9] 2 (zc_lk3 hc (O := "TreePress$Part") (n := "nothing") (ds := "Z") (host := "TreePress") (by decide)) ht6 (by decide) dX3_behind_66 (fun hr7 => ?_)
  refine r_iand h dX3_behind_69 ?_
  refine c_putZ (x := x1) (y := (i_and (μ2 x1 2) (μ2 x2 2))) h hc [9] 2 false (zc_lk3 hc (O := "TreePress$Part") (n := "nothing") (ds := "Z") (host := "TreePress") (by decide)) ht4 (by decide) (Or.inl rfl) (i_and_B hr5 hr7) dX3_behind_70 (fun μ8 he9 => ?_)
  exact c_vret h hc rfl dX3_behind_73
def c_X3_behind_32 (μ : MEM) (x1 x2 s0 s1 s2 : Int) : Option zc_O := ck (zt [9] (μ s0 (-1)) = true) (nu (mup μ s0 0 (j_or s1 s2)) (fun μ2 => ck (zt [9] (μ2 x2 (-1)) = true) (if (μ2 x2 2) = 0 then (c_X3_behind_56 μ2 x1 x2 x1 (μ2 x2 1) 0) else (ck (zt [9] (μ2 x1 (-1)) = true) (c_X3_behind_56 μ2 x1 x2 x1 (μ2 x2 1) (μ2 x1 1))))))
theorem u_X3_behind_32 {C : zv_Cx zc_O} {G : zc_G} {μ0 : MEM} (h : zv_Ok C cX3_behind "TreePress$Parser") (hc : zc_C C G μ0 3 (Option.none : Option FieldType) 0 2 45 "behind" []) (μ : MEM) (x1 x2 s0 s1 s2 : Int) (hs1 : inL s1) (hs2 : inL s2) : VV C (c_X3_behind_32 μ x1 x2 s0 s1 s2) μ [(1, zc_rv G x1), (2, zc_rv G x2)] [jv s2, jv s1, zc_rv G s0] 32 := by
  have hN : ∀ i, i < 3 → i < zv_n C := fun i q => by rw [hc.2.1]; exact q
  unfold c_X3_behind_32
  refine r_lor h dX3_behind_32 ?_
  refine r_ck (fun ht1 => ?_)
  refine c_putJ (x := s0) (y := (j_or s1 s2)) h hc [9] 0 false (zc_lk3 hc (O := "TreePress$Part") (n := "first") (ds := "J") (host := "TreePress") (by decide)) ht1 (by decide) (Or.inl rfl) (inL_t _) dX3_behind_33 (fun μ2 he3 => ?_)
  refine c_aload_n (x := x1) h 0 dX3_behind_36 rfl rfl ?_
  refine c_aload_n (x := x2) h 1 dX3_behind_37 rfl rfl ?_
  refine r_ck (fun ht4 => ?_)
  refine c_getJ (fin := false) h hc [9] 1 (zc_lk3 hc (O := "TreePress$Part") (n := "last") (ds := "J") (host := "TreePress") (by decide)) ht4 (by decide) dX3_behind_38 (fun hr5 => ?_)
  refine c_aload_n (x := x2) h 1 dX3_behind_41 rfl rfl ?_
  refine c_getZ (fin := false) h hc [9] 2 (zc_lk3 hc (O := "TreePress$Part") (n := "nothing") (ds := "Z") (host := "TreePress") (by decide)) ht4 (by decide) dX3_behind_42 (fun hr6 => ?_)
  refine r_if_eq (x := (μ2 x2 2)) h hr6.r 55 dX3_behind_45 rfl ?_ ?_
  · refine r_lconst (x := 0) h dX3_behind_55 (by decide) ?_
    exact r_lv [0, 1] rfl (u_X3_behind_56 h hc _ x1 x2 x1 (μ2 x2 1) 0 hr5 (by decide))
  · refine c_aload_n (x := x1) h 0 dX3_behind_48 rfl rfl ?_
    refine r_ck (fun ht7 => ?_)
    refine c_getJ (fin := false) h hc [9] 1 (zc_lk3 hc (O := "TreePress$Part") (n := "last") (ds := "J") (host := "TreePress") (by decide)) ht7 (by decide) dX3_behind_49 (fun hr8 => ?_)
    refine r_goto h 56 dX3_behind_52 rfl ?_
    exact r_lv [0, 1] rfl (u_X3_behind_56 h hc _ x1 x2 x1 (μ2 x2 1) (μ2 x1 1) hr5 hr8)
def c_X3_behind (μ : MEM) (a0 a1 a2 : Int) : Option zc_O := ck (zt [9] (μ a1 (-1)) = true) (ck (zt [9] (μ a2 (-1)) = true) (bc (c_X3_joins μ a0 (μ a1 1) (μ a2 0)) (fun _ μ5 => ck (zt [9] (μ5 a1 (-1)) = true) (if (μ5 a1 2) = 0 then (c_X3_behind_32 μ5 a1 a2 a1 (μ5 a1 0) 0) else (ck (zt [9] (μ5 a2 (-1)) = true) (c_X3_behind_32 μ5 a1 a2 a1 (μ5 a1 0) (μ5 a2 0)))))))
theorem u_X3_behind {G : zc_G} (μ : MEM) (a0 a1 a2 : Int) (o : zc_O) (hd : c_X3_behind μ a0 a1 a2 = some o) : zc_Met G yX3_behind cX3_behind 3 (Option.none : Option FieldType) 0 2 45 μ [zc_rv G a0, zc_rv G a1, zc_rv G a2] o := by
  refine zc_intro hd (by decide) (by simp [lg_sl, zc_rv_cat, iv_cat, jv_cat]) (lv := [(0, zc_rv G a0), (1, zc_rv G a1), (2, zc_rv G a2)]) (by simp [lv_args, zc_rv_cat, iv_cat, jv_cat]) (fun C h hc => ?_)
  have h : zv_Ok C cX3_behind "TreePress$Parser" := h
  have hc : zc_C C G μ 3 (Option.none : Option FieldType) 0 2 45 "behind" [] := hc
  have hN : ∀ i, i < 3 → i < zv_n C := fun i q => by rw [hc.2.1]; exact q
  unfold c_X3_behind
  refine c_aload_n (x := a0) h 0 dX3_behind_0 rfl rfl ?_
  refine c_aload_n (x := a1) h 1 dX3_behind_1 rfl rfl ?_
  refine r_ck (fun ht1 => ?_)
  refine c_getJ (fin := false) h hc [9] 1 (zc_lk3 hc (O := "TreePress$Part") (n := "last") (ds := "J") (host := "TreePress") (by decide)) ht1 (by decide) dX3_behind_2 (fun hr2 => ?_)
  refine c_aload_n (x := a2) h 2 dX3_behind_5 rfl rfl ?_
  refine r_ck (fun ht3 => ?_)
  refine c_getJ (fin := false) h hc [9] 0 (zc_lk3 hc (O := "TreePress$Part") (n := "first") (ds := "J") (host := "TreePress") (by decide)) ht3 (by decide) dX3_behind_6 (fun hr4 => ?_)
  refine c_callS h hc (As := [zc_rv G a0, jv (μ a1 1), jv (μ a2 0)]) (fun o1 e1 => u_X3_joins _ a0 (μ a1 1) (μ a2 0) hr2 hr4 o1 e1) q758 q759 q760 q138 (by omega) (by omega) zc_s0 (by omega) (fun z hz => by cases hz) ⟨by decide, by decide⟩ (n := 3) (by decide +kernel) rfl rfl dX3_behind_9 (fun _ μ5 _ => r_k0 ?_)
  refine c_aload_n (x := a1) h 1 dX3_behind_12 rfl rfl ?_
  refine r_dup h dX3_behind_13 (zc_rv_cat G _) ?_
  refine r_ck (fun ht6 => ?_)
  refine c_getJ (fin := false) h hc [9] 0 (zc_lk3 hc (O := "TreePress$Part") (n := "first") (ds := "J") (host := "TreePress") (by decide)) ht6 (by decide) dX3_behind_14 (fun hr7 => ?_)
  refine c_aload_n (x := a1) h 1 dX3_behind_17 rfl rfl ?_
  refine c_getZ (fin := false) h hc [9] 2 (zc_lk3 hc (O := "TreePress$Part") (n := "nothing") (ds := "Z") (host := "TreePress") (by decide)) ht6 (by decide) dX3_behind_18 (fun hr8 => ?_)
  refine r_if_eq (x := (μ5 a1 2)) h hr8.r 31 dX3_behind_21 rfl ?_ ?_
  · refine r_lconst (x := 0) h dX3_behind_31 (by decide) ?_
    exact r_lv [1, 2] rfl (u_X3_behind_32 h hc _ a1 a2 a1 (μ5 a1 0) 0 hr7 (by decide))
  · refine c_aload_n (x := a2) h 2 dX3_behind_24 rfl rfl ?_
    refine r_ck (fun ht9 => ?_)
    refine c_getJ (fin := false) h hc [9] 0 (zc_lk3 hc (O := "TreePress$Part") (n := "first") (ds := "J") (host := "TreePress") (by decide)) ht9 (by decide) dX3_behind_25 (fun hr10 => ?_)
    refine r_goto h 32 dX3_behind_28 rfl ?_
    exact r_lv [1, 2] rfl (u_X3_behind_32 h hc _ a1 a2 a1 (μ5 a1 0) (μ5 a2 0) hr7 hr10)
theorem dX3_rest_0 : decode cX3_rest 0 = .ok (.aload_n 0, 1) := by decide +kernel
theorem dX3_rest_1 : decode cX3_rest 1 = .ok (.aload_n 1, 1) := by decide +kernel
theorem dX3_rest_2 : decode cX3_rest 2 = .ok (.iload_n 2, 1) := by decide +kernel
theorem dX3_rest_3 : decode cX3_rest 3 = .ok (.invokevirtual 196, 3) := by decide +kernel
theorem dX3_rest_6 : decode cX3_rest 6 = .ok (.astore_n 3, 1) := by decide +kernel
theorem dX3_rest_7 : decode cX3_rest 7 = .ok (.aload_n 0, 1) := by decide +kernel
theorem dX3_rest_8 : decode cX3_rest 8 = .ok (.invokevirtual 46, 3) := by decide +kernel
theorem dX3_rest_11 : decode cX3_rest 11 = .ok (.pop, 1) := by decide +kernel
theorem dX3_rest_12 : decode cX3_rest 12 = .ok (.aload_n 0, 1) := by decide +kernel
theorem dX3_rest_13 : decode cX3_rest 13 = .ok (.invokevirtual 35, 3) := by decide +kernel
theorem dX3_rest_16 : decode cX3_rest 16 = .ok (.istore 4, 2) := by decide +kernel
theorem dX3_rest_18 : decode cX3_rest 18 = .ok (.aload_n 0, 1) := by decide +kernel
theorem dX3_rest_19 : decode cX3_rest 19 = .ok (.invokevirtual 35, 3) := by decide +kernel
theorem dX3_rest_22 : decode cX3_rest 22 = .ok (.bipush 124, 2) := by decide +kernel
theorem dX3_rest_24 : decode cX3_rest 24 = .ok (.if_icmp .eq 12, 3) := by decide +kernel
theorem dX3_rest_27 : decode cX3_rest 27 = .ok (.aload_n 0, 1) := by decide +kernel
theorem dX3_rest_28 : decode cX3_rest 28 = .ok (.invokevirtual 35, 3) := by decide +kernel
theorem dX3_rest_31 : decode cX3_rest 31 = .ok (.bipush 44, 2) := by decide +kernel
theorem dX3_rest_33 : decode cX3_rest 33 = .ok (.if_icmp .ne 79, 3) := by decide +kernel
theorem dX3_rest_36 : decode cX3_rest 36 = .ok (.aload_n 0, 1) := by decide +kernel
theorem dX3_rest_37 : decode cX3_rest 37 = .ok (.invokevirtual 35, 3) := by decide +kernel
theorem dX3_rest_40 : decode cX3_rest 40 = .ok (.iload 4, 2) := by decide +kernel
theorem dX3_rest_42 : decode cX3_rest 42 = .ok (.if_icmp .eq 16, 3) := by decide +kernel
theorem dX3_rest_45 : decode cX3_rest 45 = .ok (.new 50, 3) := by decide +kernel
theorem dX3_rest_48 : decode cX3_rest 48 = .ok (.dup, 1) := by decide +kernel
theorem dX3_rest_49 : decode cX3_rest 49 = .ok (.iconst (-1), 1) := by decide +kernel
theorem dX3_rest_50 : decode cX3_rest 50 = .ok (.aload_n 0, 1) := by decide +kernel
theorem dX3_rest_51 : decode cX3_rest 51 = .ok (.invokevirtual 31, 3) := by decide +kernel
theorem dX3_rest_54 : decode cX3_rest 54 = .ok (.invokespecial 52, 3) := by decide +kernel
theorem dX3_rest_57 : decode cX3_rest 57 = .ok (.athrow, 1) := by decide +kernel
theorem dX3_rest_58 : decode cX3_rest 58 = .ok (.aload_n 0, 1) := by decide +kernel
theorem dX3_rest_59 : decode cX3_rest 59 = .ok (.aload_n 0, 1) := by decide +kernel
theorem dX3_rest_60 : decode cX3_rest 60 = .ok (.invokevirtual 31, 3) := by decide +kernel
theorem dX3_rest_63 : decode cX3_rest 63 = .ok (.iconst 1, 1) := by decide +kernel
theorem dX3_rest_64 : decode cX3_rest 64 = .ok (.iadd, 1) := by decide +kernel
theorem dX3_rest_65 : decode cX3_rest 65 = .ok (.invokevirtual 42, 3) := by decide +kernel
theorem dX3_rest_68 : decode cX3_rest 68 = .ok (.aload_n 0, 1) := by decide +kernel
theorem dX3_rest_69 : decode cX3_rest 69 = .ok (.invokevirtual 46, 3) := by decide +kernel
theorem dX3_rest_72 : decode cX3_rest 72 = .ok (.pop, 1) := by decide +kernel
theorem dX3_rest_73 : decode cX3_rest 73 = .ok (.aload_n 0, 1) := by decide +kernel
theorem dX3_rest_74 : decode cX3_rest 74 = .ok (.aload_n 1, 1) := by decide +kernel
theorem dX3_rest_75 : decode cX3_rest 75 = .ok (.iload_n 2, 1) := by decide +kernel
theorem dX3_rest_76 : decode cX3_rest 76 = .ok (.invokevirtual 196, 3) := by decide +kernel
theorem dX3_rest_79 : decode cX3_rest 79 = .ok (.astore 5, 2) := by decide +kernel
theorem dX3_rest_81 : decode cX3_rest 81 = .ok (.iload 4, 2) := by decide +kernel
theorem dX3_rest_83 : decode cX3_rest 83 = .ok (.bipush 124, 2) := by decide +kernel
theorem dX3_rest_85 : decode cX3_rest 85 = .ok (.if_icmp .ne 12, 3) := by decide +kernel
theorem dX3_rest_88 : decode cX3_rest 88 = .ok (.aload_n 3, 1) := by decide +kernel
theorem dX3_rest_89 : decode cX3_rest 89 = .ok (.aload 5, 2) := by decide +kernel
theorem dX3_rest_91 : decode cX3_rest 91 = .ok (.invokestatic 199, 3) := by decide +kernel
theorem dX3_rest_94 : decode cX3_rest 94 = .ok (.goto 10, 3) := by decide +kernel
theorem dX3_rest_97 : decode cX3_rest 97 = .ok (.aload_n 1, 1) := by decide +kernel
theorem dX3_rest_98 : decode cX3_rest 98 = .ok (.aload_n 3, 1) := by decide +kernel
theorem dX3_rest_99 : decode cX3_rest 99 = .ok (.aload 5, 2) := by decide +kernel
theorem dX3_rest_101 : decode cX3_rest 101 = .ok (.invokestatic 203, 3) := by decide +kernel
theorem dX3_rest_104 : decode cX3_rest 104 = .ok (.aload_n 0, 1) := by decide +kernel
theorem dX3_rest_105 : decode cX3_rest 105 = .ok (.invokevirtual 46, 3) := by decide +kernel
theorem dX3_rest_108 : decode cX3_rest 108 = .ok (.pop, 1) := by decide +kernel
theorem dX3_rest_109 : decode cX3_rest 109 = .ok (.goto (-91), 3) := by decide +kernel
theorem dX3_rest_112 : decode cX3_rest 112 = .ok (.aload_n 0, 1) := by decide +kernel
theorem dX3_rest_113 : decode cX3_rest 113 = .ok (.ldc 192, 2) := by decide +kernel
theorem dX3_rest_115 : decode cX3_rest 115 = .ok (.invokevirtual 57, 3) := by decide +kernel
theorem dX3_rest_118 : decode cX3_rest 118 = .ok (.aload_n 3, 1) := by decide +kernel
theorem dX3_rest_119 : decode cX3_rest 119 = .ok (.areturn, 1) := by decide +kernel
def c_X3_rest_36 (rrest : MEM → Int → Int → Int → Option zc_O) (lp18 : MEM → Int → Int → Int → Int → Int → Option zc_O) (μ : MEM) (x0 x1 x2 x3 x4 : Int) : Option zc_O := ck (zt [3] (μ x0 (-1)) = true) (bc (c_X2_here μ x0) (fun r2 μ3 => if r2 = x4 then (ck (zt [3] (μ3 x0 (-1)) = true) (bc (c_X2_place μ3 x0) (fun r6 μ7 => ck (inR (r6 + 1)) (ck (zt [3] (μ7 x0 (-1)) = true) (bc (c_X2_goTo μ7 x0 (r6 + 1)) (fun _ μ11 => ck (zt [3] (μ11 x0 (-1)) = true) (bc (c_X3_space μ11 x0) (fun r13 μ14 => ck (zt [3] (μ14 x0 (-1)) = true) (bc (c_X3_part rrest μ14 x0 x1 x2) (fun r17 μ18 => if x4 = 124 then (bc (c_X3_either μ18 x3 r17) (fun _ μ20 => ck (zt [3] (μ20 x0 (-1)) = true) (bc (c_X3_space μ20 x0) (fun r22 μ23 => lp18 μ23 x0 x1 x2 x3 x4)))) else (bc (c_X3_behind μ18 x1 x3 r17) (fun _ μ25 => ck (zt [3] (μ25 x0 (-1)) = true) (bc (c_X3_space μ25 x0) (fun r27 μ28 => lp18 μ28 x0 x1 x2 x3 x4)))))))))))))) else (ck (1 ≤ μ3 0 1 ∧ (8 : Int) ≤ μ3 0 2) (nu (mnew μ3 22 0 8) (fun μ30 => ck (zt [3] (μ30 x0 (-1)) = true) (bc (c_X2_place μ30 x0) (fun r33 μ34 => ck (zt [22] (μ34 (μ3 0 0) (-1)) = true) (bc (b_finit μ34 (μ3 0 0) (-1) r33) (fun _ μ37 => ck (0 < (μ3 0 0)) (some (1, (μ3 0 0), μ37)))))))))))
theorem u_X3_rest_36 {C : zv_Cx zc_O} {G : zc_G} {μ0 : MEM} {F L FRv LOv : Nat} (hfr1 : F + 11 ≤ FRv) (hfr2 : 8 ≤ FRv) (hlo1 : L + 230 ≤ LOv) (hlo2 : 163 ≤ LOv) (h : zv_Ok C cX3_rest "TreePress$Parser") (hc : zc_C C G μ0 6 (Option.some (FieldType.object "TreePress$Part")) 4 FRv LOv "rest" []) (rrest : MEM → Int → Int → Int → Option zc_O) (hrrest : ∀ (μ : MEM) (a0 a1 a2 : Int), inR a2 → ∀ o, rrest μ a0 a1 a2 = some o → zc_Met G yX3_rest cX3_rest 6 (Option.some (FieldType.object "TreePress$Part")) 4 F L μ [zc_rv G a0, zc_rv G a1, iv a2] o) (lp18 : MEM → Int → Int → Int → Int → Int → Option zc_O) (hlp18 : ∀ (μ : MEM) (x0 x1 x2 x3 x4 : Int), inR x2 → inR x4 → VV C (lp18 μ x0 x1 x2 x3 x4) μ [(0, zc_rv G x0), (1, zc_rv G x1), (2, iv x2), (3, zc_rv G x3), (4, iv x4)] [] 18) (μ : MEM) (x0 x1 x2 x3 x4 : Int) (hx2 : inR x2) (hx4 : inR x4) : VV C (c_X3_rest_36 rrest lp18 μ x0 x1 x2 x3 x4) μ [(0, zc_rv G x0), (1, zc_rv G x1), (2, iv x2), (3, zc_rv G x3), (4, iv x4)] [] 36 := by
  have hN : ∀ i, i < 6 → i < zv_n C := fun i q => by rw [hc.2.1]; exact q
  unfold c_X3_rest_36
  refine c_aload_n (x := x0) h 0 dX3_rest_36 rfl rfl ?_
  refine r_ck (fun ht1 => ?_)
  refine c_callU (x := x0) (xm := ⟨"TreePress$Parser", "here", "()I"⟩) (owner := "TreePress$Reader") h hc (As := []) (fun o1 e1 => u_X2_here _ x0 o1 e1) [3] ht1 (by decide) q489 q490 (va_Decl.of (h.2.2.2.2 _ q493) (h.2.2.2.2 _ q494)) ⟨by decide, by decide⟩ q493 (fun t ht => by cases List.mem_singleton.mp ht; exact q492) q494 q137 (by omega) (by omega) zc_s0 (by omega) (fun z hz => by cases hz) (n := 0) (by decide +kernel) rfl rfl dX3_rest_37 (fun r2 μ3 hr4 => r_k1 ?_)
  refine r_iload h 4 dX3_rest_40 rfl ?_
  refine r_icmp_eq (x := r2) (y := x4) h hr4 hx4 58 dX3_rest_42 rfl ?_ ?_
  · refine c_aload_n (x := x0) h 0 dX3_rest_58 rfl rfl ?_
    refine c_aload_n (x := x0) h 0 dX3_rest_59 rfl rfl ?_
    refine r_ck (fun ht5 => ?_)
    refine c_callU (x := x0) (xm := ⟨"TreePress$Parser", "place", "()I"⟩) (owner := "TreePress$Reader") h hc (As := []) (fun o1 e1 => u_X2_place _ x0 o1 e1) [3] ht5 (by decide) q483 q484 (va_Decl.of (h.2.2.2.2 _ q487) (h.2.2.2.2 _ q488)) ⟨by decide, by decide⟩ q487 (fun t ht => by cases List.mem_singleton.mp ht; exact q486) q488 q137 (by omega) (by omega) (zc_sc (zc_rv_cat G _) zc_s0) (by omega) (fun z hz => by cases hz) (n := 0) (by decide +kernel) rfl rfl dX3_rest_60 (fun r6 μ7 hr8 => r_k1 ?_)
    refine r_iconst h dX3_rest_63 ?_
    refine r_iadd h dX3_rest_64 ?_
    refine r_ck (fun hk9 => ?_)
    refine r_ck (fun ht10 => ?_)
    refine c_callU (x := x0) (xm := ⟨"TreePress$Parser", "goTo", "(I)V"⟩) (owner := "TreePress$Reader") h hc (As := [iv (r6 + 1)]) (fun o1 e1 => u_X2_goTo _ x0 (r6 + 1) hk9 o1 e1) [3] ht10 (by decide) q498 q499 (va_Decl.of (h.2.2.2.2 _ q502) (h.2.2.2.2 _ q503)) ⟨by decide, by decide⟩ q502 (fun t ht => by cases List.mem_singleton.mp ht; exact q501) q503 q137 (by omega) (by omega) zc_s0 (by omega) (fun z hz => by cases hz) (n := 1) (by decide +kernel) rfl rfl dX3_rest_65 (fun _ μ11 _ => r_k0 ?_)
    refine c_aload_n (x := x0) h 0 dX3_rest_68 rfl rfl ?_
    refine r_ck (fun ht12 => ?_)
    refine c_callV (x := x0) h hc (As := []) (fun o1 e1 => u_X3_space _ x0 o1 e1) [3] ht12 (by decide) q479 q481 (fun t ht => by cases List.mem_singleton.mp ht; exact qs5) q482 q138 (by omega) (by omega) zc_s0 (by omega) (fun z hz => by cases hz) ⟨by decide, by decide⟩ (n := 0) (by decide +kernel) rfl rfl dX3_rest_69 (fun r13 μ14 hr15 => r_k3 ?_)
    refine r_pop h dX3_rest_72 (iv_cat _) ?_
    refine c_aload_n (x := x0) h 0 dX3_rest_73 rfl rfl ?_
    refine c_aload_n (x := x1) h 1 dX3_rest_74 rfl rfl ?_
    refine r_iload_n h 2 dX3_rest_75 rfl rfl ?_
    refine r_ck (fun ht16 => ?_)
    refine c_callV (x := x0) h hc (As := [zc_rv G x1, iv x2]) (fun o1 e1 => u_X3_part (FRv := F + 10) (LOv := L + 206) (by omega) (by omega) (by omega) (by omega) rrest hrrest _ x0 x1 x2 hx2 o1 e1) [3] ht16 (by decide) q750 q752 (fun t ht => by cases List.mem_singleton.mp ht; exact qs13) q753 q138 (by omega) (by omega) zc_s0 (by omega) (fun z hz => by cases hz) ⟨by decide, by decide⟩ (n := 2) (by decide +kernel) rfl rfl dX3_rest_76 (fun r17 μ18 hr19 => r_k4 ?_)
    refine c_astore (lv' := [(5, zc_rv G r17), (0, zc_rv G x0), (1, zc_rv G x1), (2, iv x2), (3, zc_rv G x3), (4, iv x4)]) h dX3_rest_79 (hN _ (by decide)) rfl ?_
    refine r_iload h 5 dX3_rest_81 rfl ?_
    refine r_bipush h dX3_rest_83 (by decide) ?_
    refine r_icmp_ne (x := x4) (y := 124) h hx4 (by decide) 97 dX3_rest_85 rfl ?_ ?_
    · refine c_aload_n (x := x3) h 4 dX3_rest_88 rfl rfl ?_
      refine c_aload (x := r17) h 0 dX3_rest_89 rfl ?_
      refine c_callS h hc (As := [zc_rv G x3, zc_rv G r17]) (fun o1 e1 => u_X3_either _ x3 r17 o1 e1) q782 q783 q784 q138 (by omega) (by omega) zc_s0 (by omega) (fun z hz => by cases hz) ⟨by decide, by decide⟩ (n := 2) (by decide +kernel) rfl rfl dX3_rest_91 (fun _ μ20 _ => r_k0 ?_)
      refine r_goto h 104 dX3_rest_94 rfl ?_
      refine c_aload_n (x := x0) h 1 dX3_rest_104 rfl rfl ?_
      refine r_ck (fun ht21 => ?_)
      refine c_callV (x := x0) h hc (As := []) (fun o1 e1 => u_X3_space _ x0 o1 e1) [3] ht21 (by decide) q479 q481 (fun t ht => by cases List.mem_singleton.mp ht; exact qs5) q482 q138 (by omega) (by omega) zc_s0 (by omega) (fun z hz => by cases hz) ⟨by decide, by decide⟩ (n := 0) (by decide +kernel) rfl rfl dX3_rest_105 (fun r22 μ23 hr24 => r_k3 ?_)
      refine r_pop h dX3_rest_108 (iv_cat _) ?_
      refine r_goto h 18 dX3_rest_109 rfl ?_
      exact r_lv [1, 2, 3, 4, 5] rfl (hlp18 _ x0 x1 x2 x3 x4 hx2 hx4)
    · refine c_aload_n (x := x1) h 2 dX3_rest_97 rfl rfl ?_
      refine c_aload_n (x := x3) h 4 dX3_rest_98 rfl rfl ?_
      refine c_aload (x := r17) h 0 dX3_rest_99 rfl ?_
      refine c_callS h hc (As := [zc_rv G x1, zc_rv G x3, zc_rv G r17]) (fun o1 e1 => u_X3_behind _ x1 x3 r17 o1 e1) q785 q786 q787 q138 (by omega) (by omega) zc_s0 (by omega) (fun z hz => by cases hz) ⟨by decide, by decide⟩ (n := 3) (by decide +kernel) rfl rfl dX3_rest_101 (fun _ μ25 _ => r_k0 ?_)
      refine c_aload_n (x := x0) h 1 dX3_rest_104 rfl rfl ?_
      refine r_ck (fun ht26 => ?_)
      refine c_callV (x := x0) h hc (As := []) (fun o1 e1 => u_X3_space _ x0 o1 e1) [3] ht26 (by decide) q479 q481 (fun t ht => by cases List.mem_singleton.mp ht; exact qs5) q482 q138 (by omega) (by omega) zc_s0 (by omega) (fun z hz => by cases hz) ⟨by decide, by decide⟩ (n := 0) (by decide +kernel) rfl rfl dX3_rest_105 (fun r27 μ28 hr29 => r_k3 ?_)
      refine r_pop h dX3_rest_108 (iv_cat _) ?_
      refine r_goto h 18 dX3_rest_109 rfl ?_
      exact r_lv [1, 2, 3, 4, 5] rfl (hlp18 _ x0 x1 x2 x3 x4 hx2 hx4)
  · refine c_newF h hc q650 q577 q153 dX3_rest_45 (fun _ μ30 he31 => ?_)
    refine r_dup h dX3_rest_48 (zc_rv_cat G _) ?_
    refine r_iconst h dX3_rest_49 ?_
    refine c_aload_n (x := x0) h 0 dX3_rest_50 rfl rfl ?_
    refine r_ck (fun ht32 => ?_)
    refine c_callU (x := x0) (xm := ⟨"TreePress$Parser", "place", "()I"⟩) (owner := "TreePress$Reader") h hc (As := []) (fun o1 e1 => u_X2_place _ x0 o1 e1) [3] ht32 (by decide) q483 q484 (va_Decl.of (h.2.2.2.2 _ q487) (h.2.2.2.2 _ q488)) ⟨by decide, by decide⟩ q487 (fun t ht => by cases List.mem_singleton.mp ht; exact q486) q488 q137 (by omega) (by omega) (zc_sc (iv_cat _) (zc_sc (zc_rv_cat G _) (zc_sc (zc_rv_cat G _) zc_s0))) (by omega) (fun z hz => by cases hz) (n := 0) (by decide +kernel) rfl rfl dX3_rest_51 (fun r33 μ34 hr35 => r_k1 ?_)
    refine r_ck (fun ht36 => ?_)
    refine c_callI (x := (μ3 0 0)) h hc (As := [iv (-1), iv r33]) (fun o1 e1 => w_finit _ (μ3 0 0) (-1) r33 (by decide) hr35 o1 e1) [22] ht36 (by decide) q651 q616 rfl q617 q153 (by omega) (by omega) (zc_sc (zc_rv_cat G _) zc_s0) (by omega) (fun z hz => by cases hz) ⟨by decide, by decide⟩ (n := 2) (by decide +kernel) rfl rfl dX3_rest_54 (fun _ μ37 _ => r_k0 ?_)
    exact c_athrow h hc (fun z hz => by cases hz) dX3_rest_57
def c_X3_rest_18 (rrest : MEM → Int → Int → Int → Option zc_O) : Nat → MEM → Int → Int → Int → Int → Int → Option zc_O
  | 0, _, _, _, _, _, _ => none
  | n + 1, μ, x0, x1, x2, x3, x4 => ck (zt [3] (μ x0 (-1)) = true) (bc (c_X2_here μ x0) (fun r2 μ3 => if r2 = 124 then (c_X3_rest_36 rrest (c_X3_rest_18 rrest n) μ3 x0 x1 x2 x3 x4) else (ck (zt [3] (μ3 x0 (-1)) = true) (bc (c_X2_here μ3 x0) (fun r6 μ7 => if r6 = 44 then (c_X3_rest_36 rrest (c_X3_rest_18 rrest n) μ7 x0 x1 x2 x3 x4) else (ck (zt [3] (μ7 x0 (-1)) = true) (bc (c_X2_must μ7 x0 (-12)) (fun _ μ10 => some (0, x3, μ10)))))))))
theorem u_X3_rest_18 {C : zv_Cx zc_O} {G : zc_G} {μ0 : MEM} {F L FRv LOv : Nat} (hfr1 : F + 11 ≤ FRv) (hfr2 : 8 ≤ FRv) (hlo1 : L + 230 ≤ LOv) (hlo2 : 163 ≤ LOv) (h : zv_Ok C cX3_rest "TreePress$Parser") (hc : zc_C C G μ0 6 (Option.some (FieldType.object "TreePress$Part")) 4 FRv LOv "rest" []) (rrest : MEM → Int → Int → Int → Option zc_O) (hrrest : ∀ (μ : MEM) (a0 a1 a2 : Int), inR a2 → ∀ o, rrest μ a0 a1 a2 = some o → zc_Met G yX3_rest cX3_rest 6 (Option.some (FieldType.object "TreePress$Part")) 4 F L μ [zc_rv G a0, zc_rv G a1, iv a2] o) : ∀ (n : Nat) (μ : MEM) (x0 x1 x2 x3 x4 : Int), inR x2 → inR x4 → VV C (c_X3_rest_18 rrest n μ x0 x1 x2 x3 x4) μ [(0, zc_rv G x0), (1, zc_rv G x1), (2, iv x2), (3, zc_rv G x3), (4, iv x4)] [] 18 := by
  have hN : ∀ i, i < 6 → i < zv_n C := fun i q => by rw [hc.2.1]; exact q
  intro n
  induction n with
  | zero => intros; exact r_none
  | succ n ih =>
    intro μ x0 x1 x2 x3 x4 hx2 hx4
    rw [c_X3_rest_18]
    refine c_aload_n (x := x0) h 0 dX3_rest_18 rfl rfl ?_
    refine r_ck (fun ht1 => ?_)
    refine c_callU (x := x0) (xm := ⟨"TreePress$Parser", "here", "()I"⟩) (owner := "TreePress$Reader") h hc (As := []) (fun o1 e1 => u_X2_here _ x0 o1 e1) [3] ht1 (by decide) q489 q490 (va_Decl.of (h.2.2.2.2 _ q493) (h.2.2.2.2 _ q494)) ⟨by decide, by decide⟩ q493 (fun t ht => by cases List.mem_singleton.mp ht; exact q492) q494 q137 (by omega) (by omega) zc_s0 (by omega) (fun z hz => by cases hz) (n := 0) (by decide +kernel) rfl rfl dX3_rest_19 (fun r2 μ3 hr4 => r_k1 ?_)
    refine r_bipush h dX3_rest_22 (by decide) ?_
    refine r_icmp_eq (x := r2) (y := 124) h hr4 (by decide) 36 dX3_rest_24 rfl ?_ ?_
    · exact r_lv [0, 1, 2, 3, 4] rfl (u_X3_rest_36 hfr1 hfr2 hlo1 hlo2 h hc rrest hrrest (c_X3_rest_18 rrest n) ih _ x0 x1 x2 x3 x4 hx2 hx4)
    · refine c_aload_n (x := x0) h 0 dX3_rest_27 rfl rfl ?_
      refine r_ck (fun ht5 => ?_)
      refine c_callU (x := x0) (xm := ⟨"TreePress$Parser", "here", "()I"⟩) (owner := "TreePress$Reader") h hc (As := []) (fun o1 e1 => u_X2_here _ x0 o1 e1) [3] ht5 (by decide) q489 q490 (va_Decl.of (h.2.2.2.2 _ q493) (h.2.2.2.2 _ q494)) ⟨by decide, by decide⟩ q493 (fun t ht => by cases List.mem_singleton.mp ht; exact q492) q494 q137 (by omega) (by omega) zc_s0 (by omega) (fun z hz => by cases hz) (n := 0) (by decide +kernel) rfl rfl dX3_rest_28 (fun r6 μ7 hr8 => r_k1 ?_)
      refine r_bipush h dX3_rest_31 (by decide) ?_
      refine r_icmp_ne (x := r6) (y := 44) h hr8 (by decide) 112 dX3_rest_33 rfl ?_ ?_
      · exact r_lv [0, 1, 2, 3, 4] rfl (u_X3_rest_36 hfr1 hfr2 hlo1 hlo2 h hc rrest hrrest (c_X3_rest_18 rrest n) ih _ x0 x1 x2 x3 x4 hx2 hx4)
      · refine c_aload_n (x := x0) h 0 dX3_rest_112 rfl rfl ?_
        refine c_ldcs (tx := ")") h hc 12 (by decide) (-12) rfl (by decide) dX3_rest_113 ?_
        refine r_ck (fun ht9 => ?_)
        refine c_callU (x := x0) (xm := ⟨"TreePress$Parser", "must", "(Ljava/lang/String;)V"⟩) (owner := "TreePress$Reader") h hc (As := [zc_rv G (-12)]) (fun o1 e1 => u_X2_must _ x0 (-12) o1 e1) [3] ht9 (by decide) q563 q564 (va_Decl.of (h.2.2.2.2 _ q567) (h.2.2.2.2 _ q568)) ⟨by decide, by decide⟩ q567 (fun t ht => by cases List.mem_singleton.mp ht; exact q566) q568 q137 (by omega) (by omega) zc_s0 (by omega) (fun z hz => by cases hz) (n := 1) (by decide +kernel) rfl rfl dX3_rest_115 (fun _ μ10 _ => r_k0 ?_)
        refine c_aload_n (x := x3) h 3 dX3_rest_118 rfl rfl ?_
        exact c_aret h hc rfl (Or.inl ⟨_, rfl⟩) dX3_rest_119
def c_X3_rest (rrest : MEM → Int → Int → Int → Option zc_O) (μ : MEM) (a0 a1 a2 : Int) : Option zc_O := ck (zt [3] (μ a0 (-1)) = true) (bc (c_X3_part rrest μ a0 a1 a2) (fun r2 μ3 => ck (zt [3] (μ3 a0 (-1)) = true) (bc (c_X3_space μ3 a0) (fun r6 μ7 => ck (zt [3] (μ7 a0 (-1)) = true) (bc (c_X2_here μ7 a0) (fun r10 μ11 => c_X3_rest_18 rrest zF μ11 a0 a1 a2 r2 r10))))))
theorem u_X3_rest {G : zc_G} {F L FRv LOv : Nat} (hfr1 : F + 11 ≤ FRv) (hfr2 : 8 ≤ FRv) (hlo1 : L + 230 ≤ LOv) (hlo2 : 163 ≤ LOv) (rrest : MEM → Int → Int → Int → Option zc_O) (hrrest : ∀ (μ : MEM) (a0 a1 a2 : Int), inR a2 → ∀ o, rrest μ a0 a1 a2 = some o → zc_Met G yX3_rest cX3_rest 6 (Option.some (FieldType.object "TreePress$Part")) 4 F L μ [zc_rv G a0, zc_rv G a1, iv a2] o) (μ : MEM) (a0 a1 a2 : Int) (ha2 : inR a2) (o : zc_O) (hd : c_X3_rest rrest μ a0 a1 a2 = some o) : zc_Met G yX3_rest cX3_rest 6 (Option.some (FieldType.object "TreePress$Part")) 4 FRv LOv μ [zc_rv G a0, zc_rv G a1, iv a2] o := by
  refine zc_intro hd (by decide) (by simp [lg_sl, zc_rv_cat, iv_cat, jv_cat]) (lv := [(0, zc_rv G a0), (1, zc_rv G a1), (2, iv a2)]) (by simp [lv_args, zc_rv_cat, iv_cat, jv_cat]) (fun C h hc => ?_)
  have h : zv_Ok C cX3_rest "TreePress$Parser" := h
  have hc : zc_C C G μ 6 (Option.some (FieldType.object "TreePress$Part")) 4 FRv LOv "rest" [] := hc
  have hN : ∀ i, i < 6 → i < zv_n C := fun i q => by rw [hc.2.1]; exact q
  unfold c_X3_rest
  refine c_aload_n (x := a0) h 0 dX3_rest_0 rfl rfl ?_
  refine c_aload_n (x := a1) h 1 dX3_rest_1 rfl rfl ?_
  refine r_iload_n h 2 dX3_rest_2 rfl rfl ?_
  refine r_ck (fun ht1 => ?_)
  refine c_callV (x := a0) h hc (As := [zc_rv G a1, iv a2]) (fun o1 e1 => u_X3_part (FRv := F + 10) (LOv := L + 206) (by omega) (by omega) (by omega) (by omega) rrest hrrest _ a0 a1 a2 ha2 o1 e1) [3] ht1 (by decide) q750 q752 (fun t ht => by cases List.mem_singleton.mp ht; exact qs13) q753 q138 (by omega) (by omega) zc_s0 (by omega) (fun z hz => by cases hz) ⟨by decide, by decide⟩ (n := 2) (by decide +kernel) rfl rfl dX3_rest_3 (fun r2 μ3 hr4 => r_k4 ?_)
  refine c_astore_n (i := 3) (lv' := [(3, zc_rv G r2), (0, zc_rv G a0), (1, zc_rv G a1), (2, iv a2)]) h dX3_rest_6 rfl (hN _ (by decide)) rfl ?_
  refine c_aload_n (x := a0) h 1 dX3_rest_7 rfl rfl ?_
  refine r_ck (fun ht5 => ?_)
  refine c_callV (x := a0) h hc (As := []) (fun o1 e1 => u_X3_space _ a0 o1 e1) [3] ht5 (by decide) q479 q481 (fun t ht => by cases List.mem_singleton.mp ht; exact qs5) q482 q138 (by omega) (by omega) zc_s0 (by omega) (fun z hz => by cases hz) ⟨by decide, by decide⟩ (n := 0) (by decide +kernel) rfl rfl dX3_rest_8 (fun r6 μ7 hr8 => r_k3 ?_)
  refine r_pop h dX3_rest_11 (iv_cat _) ?_
  refine c_aload_n (x := a0) h 1 dX3_rest_12 rfl rfl ?_
  refine r_ck (fun ht9 => ?_)
  refine c_callU (x := a0) (xm := ⟨"TreePress$Parser", "here", "()I"⟩) (owner := "TreePress$Reader") h hc (As := []) (fun o1 e1 => u_X2_here _ a0 o1 e1) [3] ht9 (by decide) q489 q490 (va_Decl.of (h.2.2.2.2 _ q493) (h.2.2.2.2 _ q494)) ⟨by decide, by decide⟩ q493 (fun t ht => by cases List.mem_singleton.mp ht; exact q492) q494 q137 (by omega) (by omega) zc_s0 (by omega) (fun z hz => by cases hz) (n := 0) (by decide +kernel) rfl rfl dX3_rest_13 (fun r10 μ11 hr12 => r_k1 ?_)
  refine r_istore (lv' := [(4, iv r10), (3, zc_rv G r2), (0, zc_rv G a0), (1, zc_rv G a1), (2, iv a2)]) h dX3_rest_16 (hN _ (by decide)) (by simp [zc_rv_cat]) ?_
  exact r_lv [2, 3, 4, 1, 0] rfl (u_X3_rest_18 hfr1 hfr2 hlo1 hlo2 h hc rrest hrrest zF _ a0 a1 a2 r2 r10 ha2 hr12)
def fz_rest : Nat → MEM → Int → Int → Int → Option zc_O
  | 0 => fun _ _ _ _ => none
  | n + 1 => c_X3_rest (fz_rest n)
theorem fm_rest {G : zc_G} : ∀ (n : Nat) (μ : MEM) (a0 a1 a2 : Int), inR a2 → ∀ o, fz_rest n μ a0 a1 a2 = some o → zc_Met G yX3_rest cX3_rest 6 (Option.some (FieldType.object "TreePress$Part")) 4 (11 * n + 8) (230 * n + 163) μ [zc_rv G a0, zc_rv G a1, iv a2] o := by
  intro n
  induction n with
  | zero => intro μ a0 a1 a2 ha2 o ho; cases ho
  | succ n ih =>
    intro μ a0 a1 a2 ha2 o ho
    exact u_X3_rest (FRv := 11 * (n + 1) + 8) (LOv := 230 * (n + 1) + 163) (by omega) (by omega) (by omega) (by omega) (fz_rest n) ih _ _ _ _ ha2 _ ho
theorem dX5_init_0 : decode cX5_init 0 = .ok (.aload_n 0, 1) := by decide +kernel
theorem dX5_init_1 : decode cX5_init 1 = .ok (.invokespecial 1, 3) := by decide +kernel
theorem dX5_init_4 : decode cX5_init 4 = .ok (.return_, 1) := by decide +kernel
def c_X5_init (μ : MEM) (a0 : Int) : Option zc_O := ck (zt [6, 11, 13, 14] (μ a0 (-1)) = true) (some (0, 0, μ))
theorem u_X5_init {G : zc_G} (μ : MEM) (a0 : Int) (o : zc_O) (hd : c_X5_init μ a0 = some o) : zc_Met G yX5_init cX5_init 1 (Option.none : Option FieldType) 0 1 20 μ [zc_rv G a0] o := by
  refine zc_intro hd (by decide) (by simp [lg_sl, zc_rv_cat, iv_cat, jv_cat]) (lv := [(0, zc_rv G a0)]) (by simp [lv_args, zc_rv_cat, iv_cat, jv_cat]) (fun C h hc => ?_)
  have h : zv_Ok C cX5_init "TreePress$Node" := h
  have hc : zc_C C G μ 1 (Option.none : Option FieldType) 0 1 20 "<init>" [] := hc
  have hN : ∀ i, i < 1 → i < zv_n C := fun i q => by rw [hc.2.1]; exact q
  unfold c_X5_init
  refine c_aload_n (x := a0) h 0 dX5_init_0 rfl rfl ?_
  refine r_ck (fun ht1 => ?_)
  refine c_oinit h hc [6, 11, 13, 14] ht1 (by decide) q299 q173 q174 (by omega) zc_s0 (by omega) dX5_init_1 ?_
  exact c_vret h hc rfl dX5_init_4
theorem dX6_init_0 : decode cX6_init 0 = .ok (.aload_n 0, 1) := by decide +kernel
theorem dX6_init_1 : decode cX6_init 1 = .ok (.invokespecial 1, 3) := by decide +kernel
theorem dX6_init_4 : decode cX6_init 4 = .ok (.aload_n 0, 1) := by decide +kernel
theorem dX6_init_5 : decode cX6_init 5 = .ok (.new 7, 3) := by decide +kernel
theorem dX6_init_8 : decode cX6_init 8 = .ok (.dup, 1) := by decide +kernel
theorem dX6_init_9 : decode cX6_init 9 = .ok (.iconst 2, 1) := by decide +kernel
theorem dX6_init_10 : decode cX6_init 10 = .ok (.invokespecial 9, 3) := by decide +kernel
theorem dX6_init_13 : decode cX6_init 13 = .ok (.putfield 12, 3) := by decide +kernel
theorem dX6_init_16 : decode cX6_init 16 = .ok (.return_, 1) := by decide +kernel
def c_X6_init (μ : MEM) (a0 : Int) : Option zc_O := ck (zt [6, 11] (μ a0 (-1)) = true) (bc (c_X5_init μ a0) (fun _ μ2 => ck (1 ≤ μ2 0 1 ∧ (3 : Int) ≤ μ2 0 2) (nu (mnew μ2 21 0 3) (fun μ3 => bc (b_linitN μ3 (μ2 0 0) 2) (fun _ μ5 => ck (zt [6, 11] (μ5 a0 (-1)) = true) (nu (mup μ5 a0 2 (μ2 0 0)) (fun μ7 => some (0, 0, μ7))))))))
theorem u_X6_init {G : zc_G} (μ : MEM) (a0 : Int) (o : zc_O) (hd : c_X6_init μ a0 = some o) : zc_Met G yX6_init cX6_init 1 (Option.none : Option FieldType) 0 4 81 μ [zc_rv G a0] o := by
  refine zc_intro hd (by decide) (by simp [lg_sl, zc_rv_cat, iv_cat, jv_cat]) (lv := [(0, zc_rv G a0)]) (by simp [lv_args, zc_rv_cat, iv_cat, jv_cat]) (fun C h hc => ?_)
  have h : zv_Ok C cX6_init "TreePress$Parent" := h
  have hc : zc_C C G μ 1 (Option.none : Option FieldType) 0 4 81 "<init>" [] := hc
  have hN : ∀ i, i < 1 → i < zv_n C := fun i q => by rw [hc.2.1]; exact q
  unfold c_X6_init
  refine c_aload_n (x := a0) h 0 dX6_init_0 rfl rfl ?_
  refine r_ck (fun ht1 => ?_)
  refine c_callIN (x := a0) h hc (As := []) (fun o1 e1 => u_X5_init _ a0 o1 e1) [6, 11] ht1 (by decide) (host := "TreePress") (by decide) q297 rfl q298 q141 (by omega) (by omega) zc_s0 (by omega) (fun z hz => by cases hz) ⟨by decide, by decide⟩ (n := 0) (by decide +kernel) rfl rfl dX6_init_1 (fun _ μ2 _ => r_k0 ?_)
  refine c_aload_n (x := a0) h 0 dX6_init_4 rfl rfl ?_
  refine c_new h hc 21 (N := 3) rfl (by decide) q300 q178 q135 dX6_init_5 (fun _ μ3 he4 => ?_)
  refine r_dup h dX6_init_8 (zc_rv_cat G _) ?_
  refine r_iconst h dX6_init_9 ?_
  refine c_callI (x := (μ2 0 0)) h hc (As := [iv 2]) (fun o1 e1 => w_linitN _ (μ2 0 0) 2 (by decide) o1 e1) [21] (zt_nw he4) (by decide) q301 q302 rfl q303 q135 (by omega) (by omega) (zc_sc (zc_rv_cat G _) (zc_sc (zc_rv_cat G _) zc_s0)) (by omega) (fun z hz => by cases hz) ⟨by decide, by decide⟩ (n := 1) (by decide +kernel) rfl rfl dX6_init_10 (fun _ μ5 _ => r_k0 ?_)
  refine r_ck (fun ht6 => ?_)
  refine c_putR (x := a0) (y := (μ2 0 0)) h hc [6, 11] 2 true (zc_lk1 h q308) ht6 (by decide) (Or.inr ⟨rfl, rfl, rfl⟩) (ty := (.object "java/util/ArrayList")) (by decide +kernel) (Or.inl ⟨_, rfl⟩) dX6_init_13 (fun μ7 he8 => ?_)
  exact c_vret h hc rfl dX6_init_16
theorem dX11_init_0 : decode cX11_init 0 = .ok (.aload_n 0, 1) := by decide +kernel
theorem dX11_init_1 : decode cX11_init 1 = .ok (.invokespecial 1, 3) := by decide +kernel
theorem dX11_init_4 : decode cX11_init 4 = .ok (.aload_n 0, 1) := by decide +kernel
theorem dX11_init_5 : decode cX11_init 5 = .ok (.new 7, 3) := by decide +kernel
theorem dX11_init_8 : decode cX11_init 8 = .ok (.dup, 1) := by decide +kernel
theorem dX11_init_9 : decode cX11_init 9 = .ok (.iconst 1, 1) := by decide +kernel
theorem dX11_init_10 : decode cX11_init 10 = .ok (.invokespecial 9, 3) := by decide +kernel
theorem dX11_init_13 : decode cX11_init 13 = .ok (.putfield 12, 3) := by decide +kernel
theorem dX11_init_16 : decode cX11_init 16 = .ok (.aload_n 0, 1) := by decide +kernel
theorem dX11_init_17 : decode cX11_init 17 = .ok (.aload_n 1, 1) := by decide +kernel
theorem dX11_init_18 : decode cX11_init 18 = .ok (.putfield 18, 3) := by decide +kernel
theorem dX11_init_21 : decode cX11_init 21 = .ok (.return_, 1) := by decide +kernel
def c_X11_init (μ : MEM) (a0 a1 : Int) : Option zc_O := ck (zt [11] (μ a0 (-1)) = true) (bc (c_X6_init μ a0) (fun _ μ2 => ck (1 ≤ μ2 0 1 ∧ (3 : Int) ≤ μ2 0 2) (nu (mnew μ2 21 0 3) (fun μ3 => bc (b_linitN μ3 (μ2 0 0) 1) (fun _ μ5 => ck (zt [11] (μ5 a0 (-1)) = true) (nu (mup μ5 a0 5 (μ2 0 0)) (fun μ7 => nu (mup μ7 a0 4 a1) (fun μ9 => some (0, 0, μ9)))))))))
theorem u_X11_init {G : zc_G} (μ : MEM) (a0 a1 : Int) (o : zc_O) (hd : c_X11_init μ a0 a1 = some o) : zc_Met G yX11_init cX11_init 2 (Option.none : Option FieldType) 0 5 101 μ [zc_rv G a0, zc_rv G a1] o := by
  refine zc_intro hd (by decide) (by simp [lg_sl, zc_rv_cat, iv_cat, jv_cat]) (lv := [(0, zc_rv G a0), (1, zc_rv G a1)]) (by simp [lv_args, zc_rv_cat, iv_cat, jv_cat]) (fun C h hc => ?_)
  have h : zv_Ok C cX11_init "TreePress$Element" := h
  have hc : zc_C C G μ 2 (Option.none : Option FieldType) 0 5 101 "<init>" [] := hc
  have hN : ∀ i, i < 2 → i < zv_n C := fun i q => by rw [hc.2.1]; exact q
  unfold c_X11_init
  refine c_aload_n (x := a0) h 0 dX11_init_0 rfl rfl ?_
  refine r_ck (fun ht1 => ?_)
  refine c_callIN (x := a0) h hc (As := []) (fun o1 e1 => u_X6_init _ a0 o1 e1) [11] ht1 (by decide) (host := "TreePress") (by decide) q294 rfl q295 q142 (by omega) (by omega) zc_s0 (by omega) (fun z hz => by cases hz) ⟨by decide, by decide⟩ (n := 0) (by decide +kernel) rfl rfl dX11_init_1 (fun _ μ2 _ => r_k0 ?_)
  refine c_aload_n (x := a0) h 0 dX11_init_4 rfl rfl ?_
  refine c_new h hc 21 (N := 3) rfl (by decide) q921 q178 q135 dX11_init_5 (fun _ μ3 he4 => ?_)
  refine r_dup h dX11_init_8 (zc_rv_cat G _) ?_
  refine r_iconst h dX11_init_9 ?_
  refine c_callI (x := (μ2 0 0)) h hc (As := [iv 1]) (fun o1 e1 => w_linitN _ (μ2 0 0) 1 (by decide) o1 e1) [21] (zt_nw he4) (by decide) q922 q302 rfl q303 q135 (by omega) (by omega) (zc_sc (zc_rv_cat G _) (zc_sc (zc_rv_cat G _) zc_s0)) (by omega) (fun z hz => by cases hz) ⟨by decide, by decide⟩ (n := 1) (by decide +kernel) rfl rfl dX11_init_10 (fun _ μ5 _ => r_k0 ?_)
  refine r_ck (fun ht6 => ?_)
  refine c_putR (x := a0) (y := (μ2 0 0)) h hc [11] 5 true (zc_lk1 h q926) ht6 (by decide) (Or.inr ⟨rfl, rfl, rfl⟩) (ty := (.object "java/util/ArrayList")) (by decide +kernel) (Or.inl ⟨_, rfl⟩) dX11_init_13 (fun μ7 he8 => ?_)
  refine c_aload_n (x := a0) h 0 dX11_init_16 rfl rfl ?_
  refine c_aload_n (x := a1) h 1 dX11_init_17 rfl rfl ?_
  refine c_putR (x := a0) (y := a1) h hc [11] 4 true (zc_lk1 h q923) (zt_mup he8 (by decide) ht6) (by decide) (Or.inr ⟨rfl, rfl, rfl⟩) (ty := (.array .byte)) (by decide +kernel) (Or.inr ⟨_, rfl⟩) dX11_init_18 (fun μ9 he10 => ?_)
  exact c_vret h hc rfl dX11_init_21
theorem dX4_add_0 : decode cX4_add 0 = .ok (.aload_n 1, 1) := by decide +kernel
theorem dX4_add_1 : decode cX4_add 1 = .ok (.aload_n 0, 1) := by decide +kernel
theorem dX4_add_2 : decode cX4_add 2 = .ok (.getfield 21, 3) := by decide +kernel
theorem dX4_add_5 : decode cX4_add 5 = .ok (.invokevirtual 41, 3) := by decide +kernel
theorem dX4_add_8 : decode cX4_add 8 = .ok (.putfield 45, 3) := by decide +kernel
theorem dX4_add_11 : decode cX4_add 11 = .ok (.aload_n 1, 1) := by decide +kernel
theorem dX4_add_12 : decode cX4_add 12 = .ok (.aload_n 2, 1) := by decide +kernel
theorem dX4_add_13 : decode cX4_add 13 = .ok (.putfield 51, 3) := by decide +kernel
theorem dX4_add_16 : decode cX4_add 16 = .ok (.aload_n 0, 1) := by decide +kernel
theorem dX4_add_17 : decode cX4_add 17 = .ok (.getfield 21, 3) := by decide +kernel
theorem dX4_add_20 : decode cX4_add 20 = .ok (.aload_n 1, 1) := by decide +kernel
theorem dX4_add_21 : decode cX4_add 21 = .ok (.invokevirtual 54, 3) := by decide +kernel
theorem dX4_add_24 : decode cX4_add 24 = .ok (.pop, 1) := by decide +kernel
theorem dX4_add_25 : decode cX4_add 25 = .ok (.return_, 1) := by decide +kernel
def c_X4_add (μ : MEM) (a0 a1 a2 : Int) : Option zc_O := ck (zt [4] (μ a0 (-1)) = true) (ck (zt [40] (μ (μ a0 1) (-1)) = true) (bc (b_lsize μ (μ a0 1)) (fun r3 μ4 => ck (zt [6, 11, 13, 14] (μ4 a1 (-1)) = true) (nu (mup μ4 a1 0 r3) (fun μ7 => nu (mup μ7 a1 1 a2) (fun μ9 => ck (zt [4] (μ9 a0 (-1)) = true) (ck (zt [40] (μ9 (μ9 a0 1) (-1)) = true) (bc (b_ladd μ9 (μ9 a0 1) a1) (fun r13 μ14 => some (0, 0, μ14))))))))))
theorem u_X4_add {G : zc_G} (μ : MEM) (a0 a1 a2 : Int) (o : zc_O) (hd : c_X4_add μ a0 a1 a2 = some o) : zc_Met G yX4_add cX4_add 3 (Option.none : Option FieldType) 0 7 152 μ [zc_rv G a0, zc_rv G a1, zc_rv G a2] o := by
  refine zc_intro hd (by decide) (by simp [lg_sl, zc_rv_cat, iv_cat, jv_cat]) (lv := [(0, zc_rv G a0), (1, zc_rv G a1), (2, zc_rv G a2)]) (by simp [lv_args, zc_rv_cat, iv_cat, jv_cat]) (fun C h hc => ?_)
  have h : zv_Ok C cX4_add "TreePress$Document" := h
  have hc : zc_C C G μ 3 (Option.none : Option FieldType) 0 7 152 "add" [] := hc
  have hN : ∀ i, i < 3 → i < zv_n C := fun i q => by rw [hc.2.1]; exact q
  unfold c_X4_add
  refine c_aload_n (x := a1) h 1 dX4_add_0 rfl rfl ?_
  refine c_aload_n (x := a0) h 0 dX4_add_1 rfl rfl ?_
  refine r_ck (fun ht1 => ?_)
  refine c_getR (fin := true) h hc [4] 1 (zc_lk1 h q410) ht1 (by decide) dX4_add_2 ?_
  refine r_ck (fun ht2 => ?_)
  refine c_callV (x := (μ a0 1)) h hc (As := []) (fun o1 e1 => w_lsize _ (μ a0 1) o1 e1) [40] ht2 (by decide) q342 q343 (fun t ht => by cases List.mem_singleton.mp ht; exact q344) q345 q135 (by omega) (by omega) (zc_sc (zc_rv_cat G _) zc_s0) (by omega) (fun z hz => by cases hz) ⟨by decide, by decide⟩ (n := 0) (by decide +kernel) rfl rfl dX4_add_5 (fun r3 μ4 hr5 => r_k1 ?_)
  refine r_ck (fun ht6 => ?_)
  refine c_putI (x := a1) (y := r3) h hc [6, 11, 13, 14] 0 false (zc_lk1 h q319) ht6 (by decide) (Or.inl rfl) hr5 dX4_add_8 (fun μ7 he8 => ?_)
  refine c_aload_n (x := a1) h 1 dX4_add_11 rfl rfl ?_
  refine c_aload_n (x := a2) h 2 dX4_add_12 rfl rfl ?_
  refine c_putR (x := a1) (y := a2) h hc [6, 11, 13, 14] 1 false (zc_lk1 h q325) (zt_mup he8 (by decide) ht6) (by decide) (Or.inl rfl) (ty := (.object "TreePress$Parent")) (by decide +kernel) (Or.inl ⟨_, rfl⟩) dX4_add_13 (fun μ9 he10 => ?_)
  refine c_aload_n (x := a0) h 0 dX4_add_16 rfl rfl ?_
  refine r_ck (fun ht11 => ?_)
  refine c_getR (fin := true) h hc [4] 1 (zc_lk1 h q410) ht11 (by decide) dX4_add_17 ?_
  refine c_aload_n (x := a1) h 1 dX4_add_20 rfl rfl ?_
  refine r_ck (fun ht12 => ?_)
  refine c_callV (x := (μ9 a0 1)) h hc (As := [zc_rv G a1]) (fun o1 e1 => w_ladd _ (μ9 a0 1) a1 o1 e1) [40] ht12 (by decide) q346 q347 (fun t ht => by cases List.mem_singleton.mp ht; exact q348) q349 q135 (by omega) (by omega) zc_s0 (by omega) (fun z hz => by cases hz) ⟨by decide, by decide⟩ (n := 1) (by decide +kernel) rfl rfl dX4_add_21 (fun r13 μ14 hr15 => r_k3 ?_)
  refine r_pop h dX4_add_24 (iv_cat _) ?_
  exact c_vret h hc rfl dX4_add_25
theorem dX3_add_0 : decode cX3_add 0 = .ok (.aload_n 0, 1) := by decide +kernel
theorem dX3_add_1 : decode cX3_add 1 = .ok (.getfield 14, 3) := by decide +kernel
theorem dX3_add_4 : decode cX3_add 4 = .ok (.getfield 91, 3) := by decide +kernel
theorem dX3_add_7 : decode cX3_add 7 = .ok (.invokevirtual 94, 3) := by decide +kernel
theorem dX3_add_10 : decode cX3_add 10 = .ok (.sipush 600, 3) := by decide +kernel
theorem dX3_add_13 : decode cX3_add 13 = .ok (.if_icmp .ne 14, 3) := by decide +kernel
theorem dX3_add_16 : decode cX3_add 16 = .ok (.new 50, 3) := by decide +kernel
theorem dX3_add_19 : decode cX3_add 19 = .ok (.dup, 1) := by decide +kernel
theorem dX3_add_20 : decode cX3_add 20 = .ok (.bipush (-3), 2) := by decide +kernel
theorem dX3_add_22 : decode cX3_add 22 = .ok (.iload_n 3, 1) := by decide +kernel
theorem dX3_add_23 : decode cX3_add 23 = .ok (.invokespecial 52, 3) := by decide +kernel
theorem dX3_add_26 : decode cX3_add 26 = .ok (.athrow, 1) := by decide +kernel
theorem dX3_add_27 : decode cX3_add 27 = .ok (.aload_n 0, 1) := by decide +kernel
theorem dX3_add_28 : decode cX3_add 28 = .ok (.getfield 14, 3) := by decide +kernel
theorem dX3_add_31 : decode cX3_add 31 = .ok (.aload_n 1, 1) := by decide +kernel
theorem dX3_add_32 : decode cX3_add 32 = .ok (.aload_n 2, 1) := by decide +kernel
theorem dX3_add_33 : decode cX3_add 33 = .ok (.invokevirtual 319, 3) := by decide +kernel
theorem dX3_add_36 : decode cX3_add 36 = .ok (.return_, 1) := by decide +kernel
def c_X3_add (μ : MEM) (a0 a1 a2 a3 : Int) : Option zc_O := ck (zt [3] (μ a0 (-1)) = true) (ck (zt [4] (μ (μ a0 3) (-1)) = true) (ck (zt [40] (μ (μ (μ a0 3) 1) (-1)) = true) (bc (b_lsize μ (μ (μ a0 3) 1)) (fun r4 μ5 => if r4 = 600 then (ck (1 ≤ μ5 0 1 ∧ (8 : Int) ≤ μ5 0 2) (nu (mnew μ5 22 0 8) (fun μ7 => bc (b_finit μ7 (μ5 0 0) (-3) a3) (fun _ μ9 => ck (0 < (μ5 0 0)) (some (1, (μ5 0 0), μ9)))))) else (ck (zt [3] (μ5 a0 (-1)) = true) (ck (zt [4] (μ5 (μ5 a0 3) (-1)) = true) (bc (c_X4_add μ5 (μ5 a0 3) a1 a2) (fun _ μ12 => some (0, 0, μ12)))))))))
theorem u_X3_add {G : zc_G} (μ : MEM) (a0 a1 a2 a3 : Int) (ha3 : inR a3) (o : zc_O) (hd : c_X3_add μ a0 a1 a2 a3 = some o) : zc_Met G yX3_add cX3_add 4 (Option.none : Option FieldType) 0 8 174 μ [zc_rv G a0, zc_rv G a1, zc_rv G a2, iv a3] o := by
  refine zc_intro hd (by decide) (by simp [lg_sl, zc_rv_cat, iv_cat, jv_cat]) (lv := [(0, zc_rv G a0), (1, zc_rv G a1), (2, zc_rv G a2), (3, iv a3)]) (by simp [lv_args, zc_rv_cat, iv_cat, jv_cat]) (fun C h hc => ?_)
  have h : zv_Ok C cX3_add "TreePress$Parser" := h
  have hc : zc_C C G μ 4 (Option.none : Option FieldType) 0 8 174 "add" [] := hc
  have hN : ∀ i, i < 4 → i < zv_n C := fun i q => by rw [hc.2.1]; exact q
  unfold c_X3_add
  refine c_aload_n (x := a0) h 0 dX3_add_0 rfl rfl ?_
  refine r_ck (fun ht1 => ?_)
  refine c_getR (fin := true) h hc [3] 3 (zc_lk1 h q446) ht1 (by decide) dX3_add_1 ?_
  refine r_ck (fun ht2 => ?_)
  refine c_getR (fin := true) h hc [4] 1 (zc_lk3 hc (O := "TreePress$Document") (n := "nodes") (ds := "Ljava/util/ArrayList;") (host := "TreePress") (by decide)) ht2 (by decide) dX3_add_4 ?_
  refine r_ck (fun ht3 => ?_)
  refine c_callV (x := (μ (μ a0 3) 1)) h hc (As := []) (fun o1 e1 => w_lsize _ (μ (μ a0 3) 1) o1 e1) [40] ht3 (by decide) q695 q343 (fun t ht => by cases List.mem_singleton.mp ht; exact q344) q345 q135 (by omega) (by omega) zc_s0 (by omega) (fun z hz => by cases hz) ⟨by decide, by decide⟩ (n := 0) (by decide +kernel) rfl rfl dX3_add_7 (fun r4 μ5 hr6 => r_k1 ?_)
  refine r_sipush h dX3_add_10 (by decide) ?_
  refine r_icmp_ne (x := r4) (y := 600) h hr6 (by decide) 27 dX3_add_13 rfl ?_ ?_
  · refine c_newF h hc q650 q577 q153 dX3_add_16 (fun _ μ7 he8 => ?_)
    refine r_dup h dX3_add_19 (zc_rv_cat G _) ?_
    refine r_bipush h dX3_add_20 (by decide) ?_
    refine r_iload_n h 3 dX3_add_22 rfl rfl ?_
    refine c_callI (x := (μ5 0 0)) h hc (As := [iv (-3), iv a3]) (fun o1 e1 => w_finit _ (μ5 0 0) (-3) a3 (by decide) ha3 o1 e1) [22] (zt_nw he8) (by decide) q651 q616 rfl q617 q153 (by omega) (by omega) (zc_sc (zc_rv_cat G _) zc_s0) (by omega) (fun z hz => by cases hz) ⟨by decide, by decide⟩ (n := 2) (by decide +kernel) rfl rfl dX3_add_23 (fun _ μ9 _ => r_k0 ?_)
    exact c_athrow h hc (fun z hz => by cases hz) dX3_add_26
  · refine c_aload_n (x := a0) h 0 dX3_add_27 rfl rfl ?_
    refine r_ck (fun ht10 => ?_)
    refine c_getR (fin := true) h hc [3] 3 (zc_lk1 h q446) ht10 (by decide) dX3_add_28 ?_
    refine c_aload_n (x := a1) h 1 dX3_add_31 rfl rfl ?_
    refine c_aload_n (x := a2) h 2 dX3_add_32 rfl rfl ?_
    refine r_ck (fun ht11 => ?_)
    refine c_callV (x := (μ5 a0 3)) h hc (As := [zc_rv G a1, zc_rv G a2]) (fun o1 e1 => u_X4_add _ (μ5 a0 3) a1 a2 o1 e1) [4] ht11 (by decide) q943 q339 (fun t ht => by cases List.mem_singleton.mp ht; exact q340) q341 q140 (by omega) (by omega) zc_s0 (by omega) (fun z hz => by cases hz) ⟨by decide, by decide⟩ (n := 2) (by decide +kernel) rfl rfl dX3_add_33 (fun _ μ12 _ => r_k0 ?_)
    exact c_vret h hc rfl dX3_add_36
theorem dX3_isNameBehind_0 : decode cX3_isNameBehind 0 = .ok (.aload_n 0, 1) := by decide +kernel
theorem dX3_isNameBehind_1 : decode cX3_isNameBehind 1 = .ok (.invokevirtual 31, 3) := by decide +kernel
theorem dX3_isNameBehind_4 : decode cX3_isNameBehind 4 = .ok (.istore_n 1, 1) := by decide +kernel
theorem dX3_isNameBehind_5 : decode cX3_isNameBehind 5 = .ok (.aload_n 0, 1) := by decide +kernel
theorem dX3_isNameBehind_6 : decode cX3_isNameBehind 6 = .ok (.invokevirtual 46, 3) := by decide +kernel
theorem dX3_isNameBehind_9 : decode cX3_isNameBehind 9 = .ok (.ifCond .eq 15, 3) := by decide +kernel
theorem dX3_isNameBehind_12 : decode cX3_isNameBehind 12 = .ok (.aload_n 0, 1) := by decide +kernel
theorem dX3_isNameBehind_13 : decode cX3_isNameBehind 13 = .ok (.invokevirtual 35, 3) := by decide +kernel
theorem dX3_isNameBehind_16 : decode cX3_isNameBehind 16 = .ok (.invokestatic 216, 3) := by decide +kernel
theorem dX3_isNameBehind_19 : decode cX3_isNameBehind 19 = .ok (.ifCond .eq 5, 3) := by decide +kernel
theorem dX3_isNameBehind_22 : decode cX3_isNameBehind 22 = .ok (.iconst 1, 1) := by decide +kernel
theorem dX3_isNameBehind_23 : decode cX3_isNameBehind 23 = .ok (.ireturn, 1) := by decide +kernel
theorem dX3_isNameBehind_24 : decode cX3_isNameBehind 24 = .ok (.aload_n 0, 1) := by decide +kernel
theorem dX3_isNameBehind_25 : decode cX3_isNameBehind 25 = .ok (.iload_n 1, 1) := by decide +kernel
theorem dX3_isNameBehind_26 : decode cX3_isNameBehind 26 = .ok (.invokevirtual 42, 3) := by decide +kernel
theorem dX3_isNameBehind_29 : decode cX3_isNameBehind 29 = .ok (.iconst 0, 1) := by decide +kernel
theorem dX3_isNameBehind_30 : decode cX3_isNameBehind 30 = .ok (.ireturn, 1) := by decide +kernel
def c_X3_isNameBehind (μ : MEM) (a0 : Int) : Option zc_O := ck (zt [3] (μ a0 (-1)) = true) (bc (c_X2_place μ a0) (fun r2 μ3 => ck (zt [3] (μ3 a0 (-1)) = true) (bc (c_X3_space μ3 a0) (fun r6 μ7 => if r6 = 0 then (ck (zt [3] (μ7 a0 (-1)) = true) (bc (c_X2_goTo μ7 a0 r2) (fun _ μ10 => some (0, 0, μ10)))) else (ck (zt [3] (μ7 a0 (-1)) = true) (bc (c_X2_here μ7 a0) (fun r12 μ13 => bc (c_X0_isFirst μ13 r12) (fun r15 μ16 => if r15 = 0 then (ck (zt [3] (μ16 a0 (-1)) = true) (bc (c_X2_goTo μ16 a0 r2) (fun _ μ19 => some (0, 0, μ19)))) else (some (0, 1, μ16))))))))))
theorem u_X3_isNameBehind {G : zc_G} (μ : MEM) (a0 : Int) (o : zc_O) (hd : c_X3_isNameBehind μ a0 = some o) : zc_Met G yX3_isNameBehind cX3_isNameBehind 2 (Option.some FieldType.boolean) 3 2 42 μ [zc_rv G a0] o := by
  refine zc_intro hd (by decide) (by simp [lg_sl, zc_rv_cat, iv_cat, jv_cat]) (lv := [(0, zc_rv G a0)]) (by simp [lv_args, zc_rv_cat, iv_cat, jv_cat]) (fun C h hc => ?_)
  have h : zv_Ok C cX3_isNameBehind "TreePress$Parser" := h
  have hc : zc_C C G μ 2 (Option.some FieldType.boolean) 3 2 42 "isNameBehind" [] := hc
  have hN : ∀ i, i < 2 → i < zv_n C := fun i q => by rw [hc.2.1]; exact q
  unfold c_X3_isNameBehind
  refine c_aload_n (x := a0) h 0 dX3_isNameBehind_0 rfl rfl ?_
  refine r_ck (fun ht1 => ?_)
  refine c_callU (x := a0) (xm := ⟨"TreePress$Parser", "place", "()I"⟩) (owner := "TreePress$Reader") h hc (As := []) (fun o1 e1 => u_X2_place _ a0 o1 e1) [3] ht1 (by decide) q483 q484 (va_Decl.of (h.2.2.2.2 _ q487) (h.2.2.2.2 _ q488)) ⟨by decide, by decide⟩ q487 (fun t ht => by cases List.mem_singleton.mp ht; exact q486) q488 q137 (by omega) (by omega) zc_s0 (by omega) (fun z hz => by cases hz) (n := 0) (by decide +kernel) rfl rfl dX3_isNameBehind_1 (fun r2 μ3 hr4 => r_k1 ?_)
  refine r_istore_n (i := 1) (lv' := [(1, iv r2), (0, zc_rv G a0)]) h dX3_isNameBehind_4 rfl (hN _ (by decide)) (by simp [zc_rv_cat]) ?_
  refine c_aload_n (x := a0) h 1 dX3_isNameBehind_5 rfl rfl ?_
  refine r_ck (fun ht5 => ?_)
  refine c_callV (x := a0) h hc (As := []) (fun o1 e1 => u_X3_space _ a0 o1 e1) [3] ht5 (by decide) q479 q481 (fun t ht => by cases List.mem_singleton.mp ht; exact qs5) q482 q138 (by omega) (by omega) zc_s0 (by omega) (fun z hz => by cases hz) ⟨by decide, by decide⟩ (n := 0) (by decide +kernel) rfl rfl dX3_isNameBehind_6 (fun r6 μ7 hr8 => r_k3 ?_)
  refine r_if_eq (x := r6) h hr8.r 24 dX3_isNameBehind_9 rfl ?_ ?_
  · refine c_aload_n (x := a0) h 1 dX3_isNameBehind_24 rfl rfl ?_
    refine r_iload_n h 0 dX3_isNameBehind_25 rfl rfl ?_
    refine r_ck (fun ht9 => ?_)
    refine c_callU (x := a0) (xm := ⟨"TreePress$Parser", "goTo", "(I)V"⟩) (owner := "TreePress$Reader") h hc (As := [iv r2]) (fun o1 e1 => u_X2_goTo _ a0 r2 hr4 o1 e1) [3] ht9 (by decide) q498 q499 (va_Decl.of (h.2.2.2.2 _ q502) (h.2.2.2.2 _ q503)) ⟨by decide, by decide⟩ q502 (fun t ht => by cases List.mem_singleton.mp ht; exact q501) q503 q137 (by omega) (by omega) zc_s0 (by omega) (fun z hz => by cases hz) (n := 1) (by decide +kernel) rfl rfl dX3_isNameBehind_26 (fun _ μ10 _ => r_k0 ?_)
    refine r_iconst h dX3_isNameBehind_29 ?_
    exact c_zret h hc rfl (by decide) dX3_isNameBehind_30
  · refine c_aload_n (x := a0) h 1 dX3_isNameBehind_12 rfl rfl ?_
    refine r_ck (fun ht11 => ?_)
    refine c_callU (x := a0) (xm := ⟨"TreePress$Parser", "here", "()I"⟩) (owner := "TreePress$Reader") h hc (As := []) (fun o1 e1 => u_X2_here _ a0 o1 e1) [3] ht11 (by decide) q489 q490 (va_Decl.of (h.2.2.2.2 _ q493) (h.2.2.2.2 _ q494)) ⟨by decide, by decide⟩ q493 (fun t ht => by cases List.mem_singleton.mp ht; exact q492) q494 q137 (by omega) (by omega) zc_s0 (by omega) (fun z hz => by cases hz) (n := 0) (by decide +kernel) rfl rfl dX3_isNameBehind_13 (fun r12 μ13 hr14 => r_k1 ?_)
    refine c_callSN h hc (As := [iv r12]) (fun o1 e1 => u_X0_isFirst _ r12 hr14 o1 e1) (host := "TreePress") (by decide) q670 q671 q132 (by omega) (by omega) zc_s0 (by omega) (fun z hz => by cases hz) ⟨by decide, by decide⟩ (n := 1) (by decide +kernel) rfl rfl dX3_isNameBehind_16 (fun r15 μ16 hr17 => r_k3 ?_)
    refine r_if_eq (x := r15) h hr17.r 24 dX3_isNameBehind_19 rfl ?_ ?_
    · refine c_aload_n (x := a0) h 1 dX3_isNameBehind_24 rfl rfl ?_
      refine r_iload_n h 0 dX3_isNameBehind_25 rfl rfl ?_
      refine r_ck (fun ht18 => ?_)
      refine c_callU (x := a0) (xm := ⟨"TreePress$Parser", "goTo", "(I)V"⟩) (owner := "TreePress$Reader") h hc (As := [iv r2]) (fun o1 e1 => u_X2_goTo _ a0 r2 hr4 o1 e1) [3] ht18 (by decide) q498 q499 (va_Decl.of (h.2.2.2.2 _ q502) (h.2.2.2.2 _ q503)) ⟨by decide, by decide⟩ q502 (fun t ht => by cases List.mem_singleton.mp ht; exact q501) q503 q137 (by omega) (by omega) zc_s0 (by omega) (fun z hz => by cases hz) (n := 1) (by decide +kernel) rfl rfl dX3_isNameBehind_26 (fun _ μ19 _ => r_k0 ?_)
      refine r_iconst h dX3_isNameBehind_29 ?_
      exact c_zret h hc rfl (by decide) dX3_isNameBehind_30
    · refine r_iconst h dX3_isNameBehind_22 ?_
      exact c_zret h hc rfl (by decide) dX3_isNameBehind_23
theorem dX0_isSame_0 : decode cX0_isSame 0 = .ok (.aload_n 0, 1) := by decide +kernel
theorem dX0_isSame_1 : decode cX0_isSame 1 = .ok (.arraylength, 1) := by decide +kernel
theorem dX0_isSame_2 : decode cX0_isSame 2 = .ok (.aload_n 1, 1) := by decide +kernel
theorem dX0_isSame_3 : decode cX0_isSame 3 = .ok (.arraylength, 1) := by decide +kernel
theorem dX0_isSame_4 : decode cX0_isSame 4 = .ok (.if_icmp .ne 7, 3) := by decide +kernel
theorem dX0_isSame_7 : decode cX0_isSame 7 = .ok (.iconst 1, 1) := by decide +kernel
theorem dX0_isSame_8 : decode cX0_isSame 8 = .ok (.goto 4, 3) := by decide +kernel
theorem dX0_isSame_11 : decode cX0_isSame 11 = .ok (.iconst 0, 1) := by decide +kernel
theorem dX0_isSame_12 : decode cX0_isSame 12 = .ok (.istore_n 2, 1) := by decide +kernel
theorem dX0_isSame_13 : decode cX0_isSame 13 = .ok (.iconst 0, 1) := by decide +kernel
theorem dX0_isSame_14 : decode cX0_isSame 14 = .ok (.istore_n 3, 1) := by decide +kernel
theorem dX0_isSame_15 : decode cX0_isSame 15 = .ok (.iload_n 3, 1) := by decide +kernel
theorem dX0_isSame_16 : decode cX0_isSame 16 = .ok (.aload_n 0, 1) := by decide +kernel
theorem dX0_isSame_17 : decode cX0_isSame 17 = .ok (.arraylength, 1) := by decide +kernel
theorem dX0_isSame_18 : decode cX0_isSame 18 = .ok (.if_icmp .ge 28, 3) := by decide +kernel
theorem dX0_isSame_21 : decode cX0_isSame 21 = .ok (.iload_n 2, 1) := by decide +kernel
theorem dX0_isSame_22 : decode cX0_isSame 22 = .ok (.ifCond .eq 24, 3) := by decide +kernel
theorem dX0_isSame_25 : decode cX0_isSame 25 = .ok (.aload_n 0, 1) := by decide +kernel
theorem dX0_isSame_26 : decode cX0_isSame 26 = .ok (.iload_n 3, 1) := by decide +kernel
theorem dX0_isSame_27 : decode cX0_isSame 27 = .ok (.baload, 1) := by decide +kernel
theorem dX0_isSame_28 : decode cX0_isSame 28 = .ok (.aload_n 1, 1) := by decide +kernel
theorem dX0_isSame_29 : decode cX0_isSame 29 = .ok (.iload_n 3, 1) := by decide +kernel
theorem dX0_isSame_30 : decode cX0_isSame 30 = .ok (.baload, 1) := by decide +kernel
theorem dX0_isSame_31 : decode cX0_isSame 31 = .ok (.if_icmp .ne 7, 3) := by decide +kernel
theorem dX0_isSame_34 : decode cX0_isSame 34 = .ok (.iconst 1, 1) := by decide +kernel
theorem dX0_isSame_35 : decode cX0_isSame 35 = .ok (.goto 4, 3) := by decide +kernel
theorem dX0_isSame_38 : decode cX0_isSame 38 = .ok (.iconst 0, 1) := by decide +kernel
theorem dX0_isSame_39 : decode cX0_isSame 39 = .ok (.istore_n 2, 1) := by decide +kernel
theorem dX0_isSame_40 : decode cX0_isSame 40 = .ok (.iinc 3 1, 3) := by decide +kernel
theorem dX0_isSame_43 : decode cX0_isSame 43 = .ok (.goto (-28), 3) := by decide +kernel
theorem dX0_isSame_46 : decode cX0_isSame 46 = .ok (.iload_n 2, 1) := by decide +kernel
theorem dX0_isSame_47 : decode cX0_isSame 47 = .ok (.ireturn, 1) := by decide +kernel
def c_X0_isSame_15 : Nat → MEM → Int → Int → Int → Int → Option zc_O
  | 0, _, _, _, _, _ => none
  | n + 1, μ, x0, x1, x2, x3 => ck (zt [30, 31] (μ x0 (-1)) = true) (if (μ x0 (-2)) ≤ x3 then (some (0, x2, μ)) else (if x2 = 0 then (some (0, x2, μ)) else (ck ((0 : Int) ≤ x3 ∧ x3 < μ x0 (-2)) (ck (zt [30, 31] (μ x1 (-1)) = true) (ck ((0 : Int) ≤ x3 ∧ x3 < μ x1 (-2)) (if (μ x0 x3) = (μ x1 x3) then (ck (inR (x3 + 1)) (c_X0_isSame_15 n μ x0 x1 1 (x3 + 1))) else (ck (inR (x3 + 1)) (c_X0_isSame_15 n μ x0 x1 0 (x3 + 1)))))))))
theorem u_X0_isSame_15 {C : zv_Cx zc_O} {G : zc_G} {μ0 : MEM} (h : zv_Ok C cX0_isSame "TreePress") (hc : zc_C C G μ0 4 (Option.some FieldType.boolean) 3 0 0 "isSame" []) : ∀ (n : Nat) (μ : MEM) (x0 x1 x2 x3 : Int), isB x2 → inR x3 → VV C (c_X0_isSame_15 n μ x0 x1 x2 x3) μ [(0, zc_rv G x0), (1, zc_rv G x1), (2, iv x2), (3, iv x3)] [] 15 := by
  have hN : ∀ i, i < 4 → i < zv_n C := fun i q => by rw [hc.2.1]; exact q
  intro n
  induction n with
  | zero => intros; exact r_none
  | succ n ih =>
    intro μ x0 x1 x2 x3 hx2 hx3
    rw [c_X0_isSame_15]
    refine r_iload_n h 3 dX0_isSame_15 rfl rfl ?_
    refine c_aload_n (x := x0) h 0 dX0_isSame_16 rfl rfl ?_
    refine r_ck (fun ht1 => ?_)
    refine c_alen h hc [30, 31] ht1 (by decide) dX0_isSame_17 (fun hr2 => ?_)
    refine r_icmp_ge (x := x3) (y := (μ x0 (-2))) h hx3 hr2 46 dX0_isSame_18 rfl ?_ ?_
    · refine r_iload_n h 2 dX0_isSame_46 rfl rfl ?_
      exact c_zret h hc rfl hx2 dX0_isSame_47
    · refine r_iload_n h 2 dX0_isSame_21 rfl rfl ?_
      refine r_if_eq (x := x2) h hx2.r 46 dX0_isSame_22 rfl ?_ ?_
      · refine r_iload_n h 2 dX0_isSame_46 rfl rfl ?_
        exact c_zret h hc rfl hx2 dX0_isSame_47
      · refine c_aload_n (x := x0) h 0 dX0_isSame_25 rfl rfl ?_
        refine r_iload_n h 3 dX0_isSame_26 rfl rfl ?_
        refine c_ldB h hc ht1 dX0_isSame_27 (fun _ hr3 => ?_)
        refine c_aload_n (x := x1) h 1 dX0_isSame_28 rfl rfl ?_
        refine r_iload_n h 3 dX0_isSame_29 rfl rfl ?_
        refine r_ck (fun ht4 => ?_)
        refine c_ldB h hc ht4 dX0_isSame_30 (fun _ hr5 => ?_)
        refine r_icmp_ne (x := (μ x0 x3)) (y := (μ x1 x3)) h hr3.r hr5.r 38 dX0_isSame_31 rfl ?_ ?_
        · refine r_iconst h dX0_isSame_34 ?_
          refine r_goto h 39 dX0_isSame_35 rfl ?_
          refine r_istore_n (i := 2) (lv' := [(2, iv 1), (0, zc_rv G x0), (1, zc_rv G x1), (3, iv x3)]) h dX0_isSame_39 rfl (hN _ (by decide)) (by simp [zc_rv_cat]) ?_
          refine r_iinc (lv' := [(3, iv (x3 + 1)), (2, iv 1), (0, zc_rv G x0), (1, zc_rv G x1)]) h 3 dX0_isSame_40 rfl (hN _ (by decide)) rfl ?_
          refine r_goto h 15 dX0_isSame_43 rfl ?_
          refine r_ck (fun hk6 => ?_)
          exact r_lv [2, 3, 1, 0] rfl (ih _ x0 x1 1 (x3 + 1) (by decide) hk6)
        · refine r_iconst h dX0_isSame_38 ?_
          refine r_istore_n (i := 2) (lv' := [(2, iv 0), (0, zc_rv G x0), (1, zc_rv G x1), (3, iv x3)]) h dX0_isSame_39 rfl (hN _ (by decide)) (by simp [zc_rv_cat]) ?_
          refine r_iinc (lv' := [(3, iv (x3 + 1)), (2, iv 0), (0, zc_rv G x0), (1, zc_rv G x1)]) h 3 dX0_isSame_40 rfl (hN _ (by decide)) rfl ?_
          refine r_goto h 15 dX0_isSame_43 rfl ?_
          refine r_ck (fun hk7 => ?_)
          exact r_lv [2, 3, 1, 0] rfl (ih _ x0 x1 0 (x3 + 1) (by decide) hk7)
def c_X0_isSame (μ : MEM) (a0 a1 : Int) : Option zc_O := ck (zt [30, 31] (μ a0 (-1)) = true) (ck (zt [30, 31] (μ a1 (-1)) = true) (if (μ a0 (-2)) = (μ a1 (-2)) then (c_X0_isSame_15 zF μ a0 a1 1 0) else (c_X0_isSame_15 zF μ a0 a1 0 0)))
theorem u_X0_isSame {G : zc_G} (μ : MEM) (a0 a1 : Int) (o : zc_O) (hd : c_X0_isSame μ a0 a1 = some o) : zc_Met G yX0_isSame cX0_isSame 4 (Option.some FieldType.boolean) 3 0 0 μ [zc_rv G a0, zc_rv G a1] o := by
  refine zc_intro hd (by decide) (by simp [lg_sl, zc_rv_cat, iv_cat, jv_cat]) (lv := [(0, zc_rv G a0), (1, zc_rv G a1)]) (by simp [lv_args, zc_rv_cat, iv_cat, jv_cat]) (fun C h hc => ?_)
  have h : zv_Ok C cX0_isSame "TreePress" := h
  have hc : zc_C C G μ 4 (Option.some FieldType.boolean) 3 0 0 "isSame" [] := hc
  have hN : ∀ i, i < 4 → i < zv_n C := fun i q => by rw [hc.2.1]; exact q
  unfold c_X0_isSame
  refine c_aload_n (x := a0) h 0 dX0_isSame_0 rfl rfl ?_
  refine r_ck (fun ht1 => ?_)
  refine c_alen h hc [30, 31] ht1 (by decide) dX0_isSame_1 (fun hr2 => ?_)
  refine c_aload_n (x := a1) h 1 dX0_isSame_2 rfl rfl ?_
  refine r_ck (fun ht3 => ?_)
  refine c_alen h hc [30, 31] ht3 (by decide) dX0_isSame_3 (fun hr4 => ?_)
  refine r_icmp_ne (x := (μ a0 (-2))) (y := (μ a1 (-2))) h hr2 hr4 11 dX0_isSame_4 rfl ?_ ?_
  · refine r_iconst h dX0_isSame_7 ?_
    refine r_goto h 12 dX0_isSame_8 rfl ?_
    refine r_istore_n (i := 2) (lv' := [(2, iv 1), (0, zc_rv G a0), (1, zc_rv G a1)]) h dX0_isSame_12 rfl (hN _ (by decide)) (by simp [zc_rv_cat]) ?_
    refine r_iconst h dX0_isSame_13 ?_
    refine r_istore_n (i := 3) (lv' := [(3, iv 0), (2, iv 1), (0, zc_rv G a0), (1, zc_rv G a1)]) h dX0_isSame_14 rfl (hN _ (by decide)) rfl ?_
    exact r_lv [2, 3, 1, 0] rfl (u_X0_isSame_15 h hc zF _ a0 a1 1 0 (by decide) (by decide))
  · refine r_iconst h dX0_isSame_11 ?_
    refine r_istore_n (i := 2) (lv' := [(2, iv 0), (0, zc_rv G a0), (1, zc_rv G a1)]) h dX0_isSame_12 rfl (hN _ (by decide)) (by simp [zc_rv_cat]) ?_
    refine r_iconst h dX0_isSame_13 ?_
    refine r_istore_n (i := 3) (lv' := [(3, iv 0), (2, iv 0), (0, zc_rv G a0), (1, zc_rv G a1)]) h dX0_isSame_14 rfl (hN _ (by decide)) rfl ?_
    exact r_lv [2, 3, 1, 0] rfl (u_X0_isSame_15 h hc zF _ a0 a1 0 0 (by decide) (by decide))
theorem dX11_attribute_0 : decode cX11_attribute 0 = .ok (.iconst 0, 1) := by decide +kernel
theorem dX11_attribute_1 : decode cX11_attribute 1 = .ok (.istore_n 2, 1) := by decide +kernel
theorem dX11_attribute_2 : decode cX11_attribute 2 = .ok (.iload_n 2, 1) := by decide +kernel
theorem dX11_attribute_3 : decode cX11_attribute 3 = .ok (.aload_n 0, 1) := by decide +kernel
theorem dX11_attribute_4 : decode cX11_attribute 4 = .ok (.getfield 12, 3) := by decide +kernel
theorem dX11_attribute_7 : decode cX11_attribute 7 = .ok (.invokevirtual 26, 3) := by decide +kernel
theorem dX11_attribute_10 : decode cX11_attribute 10 = .ok (.if_icmp .ge 42, 3) := by decide +kernel
theorem dX11_attribute_13 : decode cX11_attribute 13 = .ok (.aload_n 0, 1) := by decide +kernel
theorem dX11_attribute_14 : decode cX11_attribute 14 = .ok (.getfield 12, 3) := by decide +kernel
theorem dX11_attribute_17 : decode cX11_attribute 17 = .ok (.iload_n 2, 1) := by decide +kernel
theorem dX11_attribute_18 : decode cX11_attribute 18 = .ok (.invokevirtual 29, 3) := by decide +kernel
theorem dX11_attribute_21 : decode cX11_attribute 21 = .ok (.checkcast 33, 3) := by decide +kernel
theorem dX11_attribute_24 : decode cX11_attribute 24 = .ok (.getfield 35, 3) := by decide +kernel
theorem dX11_attribute_27 : decode cX11_attribute 27 = .ok (.aload_n 1, 1) := by decide +kernel
theorem dX11_attribute_28 : decode cX11_attribute 28 = .ok (.invokestatic 36, 3) := by decide +kernel
theorem dX11_attribute_31 : decode cX11_attribute 31 = .ok (.ifCond .eq 15, 3) := by decide +kernel
theorem dX11_attribute_34 : decode cX11_attribute 34 = .ok (.aload_n 0, 1) := by decide +kernel
theorem dX11_attribute_35 : decode cX11_attribute 35 = .ok (.getfield 12, 3) := by decide +kernel
theorem dX11_attribute_38 : decode cX11_attribute 38 = .ok (.iload_n 2, 1) := by decide +kernel
theorem dX11_attribute_39 : decode cX11_attribute 39 = .ok (.invokevirtual 29, 3) := by decide +kernel
theorem dX11_attribute_42 : decode cX11_attribute 42 = .ok (.checkcast 33, 3) := by decide +kernel
theorem dX11_attribute_45 : decode cX11_attribute 45 = .ok (.areturn, 1) := by decide +kernel
theorem dX11_attribute_46 : decode cX11_attribute 46 = .ok (.iinc 2 1, 3) := by decide +kernel
theorem dX11_attribute_49 : decode cX11_attribute 49 = .ok (.goto (-47), 3) := by decide +kernel
theorem dX11_attribute_52 : decode cX11_attribute 52 = .ok (.aconst_null, 1) := by decide +kernel
theorem dX11_attribute_53 : decode cX11_attribute 53 = .ok (.areturn, 1) := by decide +kernel
def c_X11_attribute_2 : Nat → MEM → Int → Int → Int → Option zc_O
  | 0, _, _, _, _ => none
  | n + 1, μ, x0, x1, x2 => ck (zt [11] (μ x0 (-1)) = true) (ck (zt [40] (μ (μ x0 5) (-1)) = true) (bc (b_lsize μ (μ x0 5)) (fun r3 μ4 => if r3 ≤ x2 then (some (0, 0, μ4)) else (ck (zt [11] (μ4 x0 (-1)) = true) (ck (zt [40] (μ4 (μ4 x0 5) (-1)) = true) (bc (b_lget μ4 (μ4 x0 5) x2) (fun r8 μ9 => ck (zt [13] (μ9 r8 (-1)) = true) (bc (c_X0_isSame μ9 (μ9 r8 7) x1) (fun r12 μ13 => if r12 = 0 then (ck (inR (x2 + 1)) (c_X11_attribute_2 n μ13 x0 x1 (x2 + 1))) else (ck (zt [11] (μ13 x0 (-1)) = true) (ck (zt [40] (μ13 (μ13 x0 5) (-1)) = true) (bc (b_lget μ13 (μ13 x0 5) x2) (fun r18 μ19 => ck (zt [13] (μ19 r18 (-1)) = true) (some (0, r18, μ19)))))))))))))))
theorem u_X11_attribute_2 {C : zv_Cx zc_O} {G : zc_G} {μ0 : MEM} (h : zv_Ok C cX11_attribute "TreePress$Element") (hc : zc_C C G μ0 3 (Option.some (FieldType.object "TreePress$Attribute")) 4 3 64 "attribute" []) : ∀ (n : Nat) (μ : MEM) (x0 x1 x2 : Int), inR x2 → VV C (c_X11_attribute_2 n μ x0 x1 x2) μ [(0, zc_rv G x0), (1, zc_rv G x1), (2, iv x2)] [] 2 := by
  have hN : ∀ i, i < 3 → i < zv_n C := fun i q => by rw [hc.2.1]; exact q
  intro n
  induction n with
  | zero => intros; exact r_none
  | succ n ih =>
    intro μ x0 x1 x2 hx2
    rw [c_X11_attribute_2]
    refine r_iload_n h 2 dX11_attribute_2 rfl rfl ?_
    refine c_aload_n (x := x0) h 0 dX11_attribute_3 rfl rfl ?_
    refine r_ck (fun ht1 => ?_)
    refine c_getR (fin := true) h hc [11] 5 (zc_lk1 h q926) ht1 (by decide) dX11_attribute_4 ?_
    refine r_ck (fun ht2 => ?_)
    refine c_callV (x := (μ x0 5)) h hc (As := []) (fun o1 e1 => w_lsize _ (μ x0 5) o1 e1) [40] ht2 (by decide) q953 q343 (fun t ht => by cases List.mem_singleton.mp ht; exact q344) q345 q135 (by omega) (by omega) (zc_sc (iv_cat _) zc_s0) (by omega) (fun z hz => by cases hz) ⟨by decide, by decide⟩ (n := 0) (by decide +kernel) rfl rfl dX11_attribute_7 (fun r3 μ4 hr5 => r_k1 ?_)
    refine r_icmp_ge (x := x2) (y := r3) h hx2 hr5 52 dX11_attribute_10 rfl ?_ ?_
    · refine c_null G h dX11_attribute_52 ?_
      exact c_aret h hc rfl (Or.inl ⟨_, rfl⟩) dX11_attribute_53
    · refine c_aload_n (x := x0) h 0 dX11_attribute_13 rfl rfl ?_
      refine r_ck (fun ht6 => ?_)
      refine c_getR (fin := true) h hc [11] 5 (zc_lk1 h q926) ht6 (by decide) dX11_attribute_14 ?_
      refine r_iload_n h 2 dX11_attribute_17 rfl rfl ?_
      refine r_ck (fun ht7 => ?_)
      refine c_callV (x := (μ4 x0 5)) h hc (As := [iv x2]) (fun o1 e1 => w_lget _ (μ4 x0 5) x2 hx2 o1 e1) [40] ht7 (by decide) q954 q844 (fun t ht => by cases List.mem_singleton.mp ht; exact q845) q846 q135 (by omega) (by omega) zc_s0 (by omega) (fun z hz => by cases hz) ⟨by decide, by decide⟩ (n := 1) (by decide +kernel) rfl rfl dX11_attribute_18 (fun r8 μ9 hr10 => r_k4 ?_)
      refine r_ck (fun ht11 => ?_)
      refine c_cast h hc [13] q955 ht11 (by decide) dX11_attribute_21 ?_
      refine c_getR (fin := true) h hc [13] 7 (zc_lk3 hc (O := "TreePress$Attribute") (n := "name") (ds := "[B") (host := "TreePress") (by decide)) ht11 (by decide) dX11_attribute_24 ?_
      refine c_aload_n (x := x1) h 1 dX11_attribute_27 rfl rfl ?_
      refine c_callSN h hc (As := [zc_rv G (μ9 r8 7), zc_rv G x1]) (fun o1 e1 => u_X0_isSame _ (μ9 r8 7) x1 o1 e1) (host := "TreePress") (by decide) q856 q857 q132 (by omega) (by omega) zc_s0 (by omega) (fun z hz => by cases hz) ⟨by decide, by decide⟩ (n := 2) (by decide +kernel) rfl rfl dX11_attribute_28 (fun r12 μ13 hr14 => r_k3 ?_)
      refine r_if_eq (x := r12) h hr14.r 46 dX11_attribute_31 rfl ?_ ?_
      · refine r_iinc (lv' := [(2, iv (x2 + 1)), (0, zc_rv G x0), (1, zc_rv G x1)]) h 2 dX11_attribute_46 rfl (hN _ (by decide)) (by simp [zc_rv_cat]) ?_
        refine r_goto h 2 dX11_attribute_49 rfl ?_
        refine r_ck (fun hk15 => ?_)
        exact r_lv [1, 2, 0] rfl (ih _ x0 x1 (x2 + 1) hk15)
      · refine c_aload_n (x := x0) h 0 dX11_attribute_34 rfl rfl ?_
        refine r_ck (fun ht16 => ?_)
        refine c_getR (fin := true) h hc [11] 5 (zc_lk1 h q926) ht16 (by decide) dX11_attribute_35 ?_
        refine r_iload_n h 2 dX11_attribute_38 rfl rfl ?_
        refine r_ck (fun ht17 => ?_)
        refine c_callV (x := (μ13 x0 5)) h hc (As := [iv x2]) (fun o1 e1 => w_lget _ (μ13 x0 5) x2 hx2 o1 e1) [40] ht17 (by decide) q954 q844 (fun t ht => by cases List.mem_singleton.mp ht; exact q845) q846 q135 (by omega) (by omega) zc_s0 (by omega) (fun z hz => by cases hz) ⟨by decide, by decide⟩ (n := 1) (by decide +kernel) rfl rfl dX11_attribute_39 (fun r18 μ19 hr20 => r_k4 ?_)
        refine r_ck (fun ht21 => ?_)
        refine c_cast h hc [13] q955 ht21 (by decide) dX11_attribute_42 ?_
        exact c_aret h hc rfl (Or.inl ⟨_, rfl⟩) dX11_attribute_45
def c_X11_attribute (μ : MEM) (a0 a1 : Int) : Option zc_O := c_X11_attribute_2 zF μ a0 a1 0
theorem u_X11_attribute {G : zc_G} (μ : MEM) (a0 a1 : Int) (o : zc_O) (hd : c_X11_attribute μ a0 a1 = some o) : zc_Met G yX11_attribute cX11_attribute 3 (Option.some (FieldType.object "TreePress$Attribute")) 4 3 64 μ [zc_rv G a0, zc_rv G a1] o := by
  refine zc_intro hd (by decide) (by simp [lg_sl, zc_rv_cat, iv_cat, jv_cat]) (lv := [(0, zc_rv G a0), (1, zc_rv G a1)]) (by simp [lv_args, zc_rv_cat, iv_cat, jv_cat]) (fun C h hc => ?_)
  have h : zv_Ok C cX11_attribute "TreePress$Element" := h
  have hc : zc_C C G μ 3 (Option.some (FieldType.object "TreePress$Attribute")) 4 3 64 "attribute" [] := hc
  have hN : ∀ i, i < 3 → i < zv_n C := fun i q => by rw [hc.2.1]; exact q
  unfold c_X11_attribute
  refine r_iconst h dX11_attribute_0 ?_
  refine r_istore_n (i := 2) (lv' := [(2, iv 0), (0, zc_rv G a0), (1, zc_rv G a1)]) h dX11_attribute_1 rfl (hN _ (by decide)) (by simp [zc_rv_cat]) ?_
  exact r_lv [1, 2, 0] rfl (u_X11_attribute_2 h hc zF _ a0 a1 0 (by decide))
theorem dX0_isChar_0 : decode cX0_isChar 0 = .ok (.iload_n 0, 1) := by decide +kernel
theorem dX0_isChar_1 : decode cX0_isChar 1 = .ok (.invokestatic 1, 3) := by decide +kernel
theorem dX0_isChar_4 : decode cX0_isChar 4 = .ok (.ifCond .ne 15, 3) := by decide +kernel
theorem dX0_isChar_7 : decode cX0_isChar 7 = .ok (.iload_n 0, 1) := by decide +kernel
theorem dX0_isChar_8 : decode cX0_isChar 8 = .ok (.bipush 32, 2) := by decide +kernel
theorem dX0_isChar_10 : decode cX0_isChar 10 = .ok (.if_icmp .le 13, 3) := by decide +kernel
theorem dX0_isChar_13 : decode cX0_isChar 13 = .ok (.iload_n 0, 1) := by decide +kernel
theorem dX0_isChar_14 : decode cX0_isChar 14 = .ok (.bipush 127, 2) := by decide +kernel
theorem dX0_isChar_16 : decode cX0_isChar 16 = .ok (.if_icmp .ge 7, 3) := by decide +kernel
theorem dX0_isChar_19 : decode cX0_isChar 19 = .ok (.iconst 1, 1) := by decide +kernel
theorem dX0_isChar_20 : decode cX0_isChar 20 = .ok (.goto 4, 3) := by decide +kernel
theorem dX0_isChar_23 : decode cX0_isChar 23 = .ok (.iconst 0, 1) := by decide +kernel
theorem dX0_isChar_24 : decode cX0_isChar 24 = .ok (.ireturn, 1) := by decide +kernel
def c_X0_isChar (μ : MEM) (a0 : Int) : Option zc_O := bc (c_X0_isSpace μ a0) (fun r1 μ2 => if r1 = 0 then (if a0 ≤ 32 then (some (0, 0, μ2)) else (if 127 ≤ a0 then (some (0, 0, μ2)) else (some (0, 1, μ2)))) else (some (0, 1, μ2)))
theorem u_X0_isChar {G : zc_G} (μ : MEM) (a0 : Int) (ha0 : inR a0) (o : zc_O) (hd : c_X0_isChar μ a0 = some o) : zc_Met G yX0_isChar cX0_isChar 1 (Option.some FieldType.boolean) 3 1 20 μ [iv a0] o := by
  refine zc_intro hd (by decide) (Nat.le_of_ble_eq_true rfl) rfl (fun C h hc => ?_)
  have h : zv_Ok C cX0_isChar "TreePress" := h
  have hc : zc_C C G μ 1 (Option.some FieldType.boolean) 3 1 20 "isChar" [] := hc
  have hN : ∀ i, i < 1 → i < zv_n C := fun i q => by rw [hc.2.1]; exact q
  unfold c_X0_isChar
  refine r_iload_n h 0 dX0_isChar_0 rfl rfl ?_
  refine c_callS h hc (As := [iv a0]) (fun o1 e1 => u_X0_isSpace _ a0 ha0 o1 e1) q649 q496 q497 q132 (by omega) (by omega) zc_s0 (by omega) (fun z hz => by cases hz) ⟨by decide, by decide⟩ (n := 1) (by decide +kernel) rfl rfl dX0_isChar_1 (fun r1 μ2 hr3 => r_k3 ?_)
  refine r_if_ne (x := r1) h hr3.r 19 dX0_isChar_4 rfl ?_ ?_
  · refine r_iload_n h 0 dX0_isChar_7 rfl rfl ?_
    refine r_bipush h dX0_isChar_8 (by decide) ?_
    refine r_icmp_le (x := a0) (y := 32) h ha0 (by decide) 23 dX0_isChar_10 rfl ?_ ?_
    · refine r_iconst h dX0_isChar_23 ?_
      exact c_zret h hc rfl (by decide) dX0_isChar_24
    · refine r_iload_n h 0 dX0_isChar_13 rfl rfl ?_
      refine r_bipush h dX0_isChar_14 (by decide) ?_
      refine r_icmp_ge (x := a0) (y := 127) h ha0 (by decide) 23 dX0_isChar_16 rfl ?_ ?_
      · refine r_iconst h dX0_isChar_23 ?_
        exact c_zret h hc rfl (by decide) dX0_isChar_24
      · refine r_iconst h dX0_isChar_19 ?_
        refine r_goto h 24 dX0_isChar_20 rfl ?_
        exact c_zret h hc rfl (by decide) dX0_isChar_24
  · refine r_iconst h dX0_isChar_19 ?_
    refine r_goto h 24 dX0_isChar_20 rfl ?_
    exact c_zret h hc rfl (by decide) dX0_isChar_24
theorem dX3_ref_0 : decode cX3_ref 0 = .ok (.aload_n 0, 1) := by decide +kernel
theorem dX3_ref_1 : decode cX3_ref 1 = .ok (.ldc_w 286, 3) := by decide +kernel
theorem dX3_ref_4 : decode cX3_ref 4 = .ok (.invokevirtual 140, 3) := by decide +kernel
theorem dX3_ref_7 : decode cX3_ref 7 = .ok (.ifCond .eq 6, 3) := by decide +kernel
theorem dX3_ref_10 : decode cX3_ref 10 = .ok (.bipush 60, 2) := by decide +kernel
theorem dX3_ref_12 : decode cX3_ref 12 = .ok (.ireturn, 1) := by decide +kernel
theorem dX3_ref_13 : decode cX3_ref 13 = .ok (.aload_n 0, 1) := by decide +kernel
theorem dX3_ref_14 : decode cX3_ref 14 = .ok (.ldc_w 288, 3) := by decide +kernel
theorem dX3_ref_17 : decode cX3_ref 17 = .ok (.invokevirtual 140, 3) := by decide +kernel
theorem dX3_ref_20 : decode cX3_ref 20 = .ok (.ifCond .eq 6, 3) := by decide +kernel
theorem dX3_ref_23 : decode cX3_ref 23 = .ok (.bipush 62, 2) := by decide +kernel
theorem dX3_ref_25 : decode cX3_ref 25 = .ok (.ireturn, 1) := by decide +kernel
theorem dX3_ref_26 : decode cX3_ref 26 = .ok (.aload_n 0, 1) := by decide +kernel
theorem dX3_ref_27 : decode cX3_ref 27 = .ok (.ldc_w 290, 3) := by decide +kernel
theorem dX3_ref_30 : decode cX3_ref 30 = .ok (.invokevirtual 140, 3) := by decide +kernel
theorem dX3_ref_33 : decode cX3_ref 33 = .ok (.ifCond .eq 6, 3) := by decide +kernel
theorem dX3_ref_36 : decode cX3_ref 36 = .ok (.bipush 38, 2) := by decide +kernel
theorem dX3_ref_38 : decode cX3_ref 38 = .ok (.ireturn, 1) := by decide +kernel
theorem dX3_ref_39 : decode cX3_ref 39 = .ok (.aload_n 0, 1) := by decide +kernel
theorem dX3_ref_40 : decode cX3_ref 40 = .ok (.ldc_w 292, 3) := by decide +kernel
theorem dX3_ref_43 : decode cX3_ref 43 = .ok (.invokevirtual 140, 3) := by decide +kernel
theorem dX3_ref_46 : decode cX3_ref 46 = .ok (.ifCond .eq 6, 3) := by decide +kernel
theorem dX3_ref_49 : decode cX3_ref 49 = .ok (.bipush 34, 2) := by decide +kernel
theorem dX3_ref_51 : decode cX3_ref 51 = .ok (.ireturn, 1) := by decide +kernel
theorem dX3_ref_52 : decode cX3_ref 52 = .ok (.aload_n 0, 1) := by decide +kernel
theorem dX3_ref_53 : decode cX3_ref 53 = .ok (.ldc_w 294, 3) := by decide +kernel
theorem dX3_ref_56 : decode cX3_ref 56 = .ok (.invokevirtual 140, 3) := by decide +kernel
theorem dX3_ref_59 : decode cX3_ref 59 = .ok (.ifCond .eq 6, 3) := by decide +kernel
theorem dX3_ref_62 : decode cX3_ref 62 = .ok (.bipush 39, 2) := by decide +kernel
theorem dX3_ref_64 : decode cX3_ref 64 = .ok (.ireturn, 1) := by decide +kernel
theorem dX3_ref_65 : decode cX3_ref 65 = .ok (.aload_n 0, 1) := by decide +kernel
theorem dX3_ref_66 : decode cX3_ref 66 = .ok (.invokevirtual 31, 3) := by decide +kernel
theorem dX3_ref_69 : decode cX3_ref 69 = .ok (.istore_n 1, 1) := by decide +kernel
theorem dX3_ref_70 : decode cX3_ref 70 = .ok (.iconst 0, 1) := by decide +kernel
theorem dX3_ref_71 : decode cX3_ref 71 = .ok (.istore_n 2, 1) := by decide +kernel
theorem dX3_ref_72 : decode cX3_ref 72 = .ok (.iconst 0, 1) := by decide +kernel
theorem dX3_ref_73 : decode cX3_ref 73 = .ok (.istore_n 3, 1) := by decide +kernel
theorem dX3_ref_74 : decode cX3_ref 74 = .ok (.aload_n 0, 1) := by decide +kernel
theorem dX3_ref_75 : decode cX3_ref 75 = .ok (.ldc_w 296, 3) := by decide +kernel
theorem dX3_ref_78 : decode cX3_ref 78 = .ok (.invokevirtual 140, 3) := by decide +kernel
theorem dX3_ref_81 : decode cX3_ref 81 = .ok (.ifCond .eq 56, 3) := by decide +kernel
theorem dX3_ref_84 : decode cX3_ref 84 = .ok (.iload_n 3, 1) := by decide +kernel
theorem dX3_ref_85 : decode cX3_ref 85 = .ok (.bipush 6, 2) := by decide +kernel
theorem dX3_ref_87 : decode cX3_ref 87 = .ok (.if_icmp .ge 50, 3) := by decide +kernel
theorem dX3_ref_90 : decode cX3_ref 90 = .ok (.aload_n 0, 1) := by decide +kernel
theorem dX3_ref_91 : decode cX3_ref 91 = .ok (.invokevirtual 35, 3) := by decide +kernel
theorem dX3_ref_94 : decode cX3_ref 94 = .ok (.bipush 48, 2) := by decide +kernel
theorem dX3_ref_96 : decode cX3_ref 96 = .ok (.if_icmp .lt 41, 3) := by decide +kernel
theorem dX3_ref_99 : decode cX3_ref 99 = .ok (.aload_n 0, 1) := by decide +kernel
theorem dX3_ref_100 : decode cX3_ref 100 = .ok (.invokevirtual 35, 3) := by decide +kernel
theorem dX3_ref_103 : decode cX3_ref 103 = .ok (.bipush 57, 2) := by decide +kernel
theorem dX3_ref_105 : decode cX3_ref 105 = .ok (.if_icmp .gt 32, 3) := by decide +kernel
theorem dX3_ref_108 : decode cX3_ref 108 = .ok (.bipush 10, 2) := by decide +kernel
theorem dX3_ref_110 : decode cX3_ref 110 = .ok (.iload_n 2, 1) := by decide +kernel
theorem dX3_ref_111 : decode cX3_ref 111 = .ok (.imul, 1) := by decide +kernel
theorem dX3_ref_112 : decode cX3_ref 112 = .ok (.aload_n 0, 1) := by decide +kernel
theorem dX3_ref_113 : decode cX3_ref 113 = .ok (.invokevirtual 35, 3) := by decide +kernel
theorem dX3_ref_116 : decode cX3_ref 116 = .ok (.iadd, 1) := by decide +kernel
theorem dX3_ref_117 : decode cX3_ref 117 = .ok (.bipush 48, 2) := by decide +kernel
theorem dX3_ref_119 : decode cX3_ref 119 = .ok (.isub, 1) := by decide +kernel
theorem dX3_ref_120 : decode cX3_ref 120 = .ok (.istore_n 2, 1) := by decide +kernel
theorem dX3_ref_121 : decode cX3_ref 121 = .ok (.iinc 3 1, 3) := by decide +kernel
theorem dX3_ref_124 : decode cX3_ref 124 = .ok (.aload_n 0, 1) := by decide +kernel
theorem dX3_ref_125 : decode cX3_ref 125 = .ok (.aload_n 0, 1) := by decide +kernel
theorem dX3_ref_126 : decode cX3_ref 126 = .ok (.invokevirtual 31, 3) := by decide +kernel
theorem dX3_ref_129 : decode cX3_ref 129 = .ok (.iconst 1, 1) := by decide +kernel
theorem dX3_ref_130 : decode cX3_ref 130 = .ok (.iadd, 1) := by decide +kernel
theorem dX3_ref_131 : decode cX3_ref 131 = .ok (.invokevirtual 42, 3) := by decide +kernel
theorem dX3_ref_134 : decode cX3_ref 134 = .ok (.goto (-50), 3) := by decide +kernel
theorem dX3_ref_137 : decode cX3_ref 137 = .ok (.iload_n 3, 1) := by decide +kernel
theorem dX3_ref_138 : decode cX3_ref 138 = .ok (.ifCond .eq 20, 3) := by decide +kernel
theorem dX3_ref_141 : decode cX3_ref 141 = .ok (.aload_n 0, 1) := by decide +kernel
theorem dX3_ref_142 : decode cX3_ref 142 = .ok (.ldc_w 298, 3) := by decide +kernel
theorem dX3_ref_145 : decode cX3_ref 145 = .ok (.invokevirtual 140, 3) := by decide +kernel
theorem dX3_ref_148 : decode cX3_ref 148 = .ok (.ifCond .eq 10, 3) := by decide +kernel
theorem dX3_ref_151 : decode cX3_ref 151 = .ok (.iload_n 2, 1) := by decide +kernel
theorem dX3_ref_152 : decode cX3_ref 152 = .ok (.invokestatic 67, 3) := by decide +kernel
theorem dX3_ref_155 : decode cX3_ref 155 = .ok (.ifCond .ne 13, 3) := by decide +kernel
theorem dX3_ref_158 : decode cX3_ref 158 = .ok (.new 50, 3) := by decide +kernel
theorem dX3_ref_161 : decode cX3_ref 161 = .ok (.dup, 1) := by decide +kernel
theorem dX3_ref_162 : decode cX3_ref 162 = .ok (.iconst (-1), 1) := by decide +kernel
theorem dX3_ref_163 : decode cX3_ref 163 = .ok (.iload_n 1, 1) := by decide +kernel
theorem dX3_ref_164 : decode cX3_ref 164 = .ok (.invokespecial 52, 3) := by decide +kernel
theorem dX3_ref_167 : decode cX3_ref 167 = .ok (.athrow, 1) := by decide +kernel
theorem dX3_ref_168 : decode cX3_ref 168 = .ok (.iload_n 2, 1) := by decide +kernel
theorem dX3_ref_169 : decode cX3_ref 169 = .ok (.ireturn, 1) := by decide +kernel
def c_X3_ref_137 (μ : MEM) (x0 x1 x2 x3 : Int) : Option zc_O := if x3 = 0 then (ck (1 ≤ μ 0 1 ∧ (8 : Int) ≤ μ 0 2) (nu (mnew μ 22 0 8) (fun μ1 => bc (b_finit μ1 (μ 0 0) (-1) x1) (fun _ μ3 => ck (0 < (μ 0 0)) (some (1, (μ 0 0), μ3)))))) else (ck (zt [3] (μ x0 (-1)) = true) (bc (c_X2_takes μ x0 (-27)) (fun r5 μ6 => if r5 = 0 then (ck (1 ≤ μ6 0 1 ∧ (8 : Int) ≤ μ6 0 2) (nu (mnew μ6 22 0 8) (fun μ8 => bc (b_finit μ8 (μ6 0 0) (-1) x1) (fun _ μ10 => ck (0 < (μ6 0 0)) (some (1, (μ6 0 0), μ10)))))) else (bc (c_X0_isChar μ6 x2) (fun r11 μ12 => if r11 = 0 then (ck (1 ≤ μ12 0 1 ∧ (8 : Int) ≤ μ12 0 2) (nu (mnew μ12 22 0 8) (fun μ14 => bc (b_finit μ14 (μ12 0 0) (-1) x1) (fun _ μ16 => ck (0 < (μ12 0 0)) (some (1, (μ12 0 0), μ16)))))) else (some (0, x2, μ12)))))))
theorem u_X3_ref_137 {C : zv_Cx zc_O} {G : zc_G} {μ0 : MEM} (h : zv_Ok C cX3_ref "TreePress$Parser") (hc : zc_C C G μ0 4 (Option.some FieldType.int) 1 7 142 "ref" []) (μ : MEM) (x0 x1 x2 x3 : Int) (hx1 : inR x1) (hx2 : inR x2) (hx3 : inR x3) : VV C (c_X3_ref_137 μ x0 x1 x2 x3) μ [(0, zc_rv G x0), (1, iv x1), (2, iv x2), (3, iv x3)] [] 137 := by
  have hN : ∀ i, i < 4 → i < zv_n C := fun i q => by rw [hc.2.1]; exact q
  unfold c_X3_ref_137
  refine r_iload_n h 3 dX3_ref_137 rfl rfl ?_
  refine r_if_eq (x := x3) h hx3 158 dX3_ref_138 rfl ?_ ?_
  · refine c_newF h hc q650 q577 q153 dX3_ref_158 (fun _ μ1 he2 => ?_)
    refine r_dup h dX3_ref_161 (zc_rv_cat G _) ?_
    refine r_iconst h dX3_ref_162 ?_
    refine r_iload_n h 1 dX3_ref_163 rfl rfl ?_
    refine c_callI (x := (μ 0 0)) h hc (As := [iv (-1), iv x1]) (fun o1 e1 => w_finit _ (μ 0 0) (-1) x1 (by decide) hx1 o1 e1) [22] (zt_nw he2) (by decide) q651 q616 rfl q617 q153 (by omega) (by omega) (zc_sc (zc_rv_cat G _) zc_s0) (by omega) (fun z hz => by cases hz) ⟨by decide, by decide⟩ (n := 2) (by decide +kernel) rfl rfl dX3_ref_164 (fun _ μ3 _ => r_k0 ?_)
    exact c_athrow h hc (fun z hz => by cases hz) dX3_ref_167
  · refine c_aload_n (x := x0) h 0 dX3_ref_141 rfl rfl ?_
    refine c_ldcws (tx := ";") h hc 27 (by decide) (-27) rfl (by decide) dX3_ref_142 ?_
    refine r_ck (fun ht4 => ?_)
    refine c_callU (x := x0) (xm := ⟨"TreePress$Parser", "takes", "(Ljava/lang/String;)Z"⟩) (owner := "TreePress$Reader") h hc (As := [zc_rv G (-27)]) (fun o1 e1 => u_X2_takes _ x0 (-27) o1 e1) [3] ht4 (by decide) q735 q736 (va_Decl.of (h.2.2.2.2 _ q570) (h.2.2.2.2 _ q574)) ⟨by decide, by decide⟩ q570 (fun t ht => by cases List.mem_singleton.mp ht; exact q738) q574 q137 (by omega) (by omega) zc_s0 (by omega) (fun z hz => by cases hz) (n := 1) (by decide +kernel) rfl rfl dX3_ref_145 (fun r5 μ6 hr7 => r_k3 ?_)
    refine r_if_eq (x := r5) h hr7.r 158 dX3_ref_148 rfl ?_ ?_
    · refine c_newF h hc q650 q577 q153 dX3_ref_158 (fun _ μ8 he9 => ?_)
      refine r_dup h dX3_ref_161 (zc_rv_cat G _) ?_
      refine r_iconst h dX3_ref_162 ?_
      refine r_iload_n h 1 dX3_ref_163 rfl rfl ?_
      refine c_callI (x := (μ6 0 0)) h hc (As := [iv (-1), iv x1]) (fun o1 e1 => w_finit _ (μ6 0 0) (-1) x1 (by decide) hx1 o1 e1) [22] (zt_nw he9) (by decide) q651 q616 rfl q617 q153 (by omega) (by omega) (zc_sc (zc_rv_cat G _) zc_s0) (by omega) (fun z hz => by cases hz) ⟨by decide, by decide⟩ (n := 2) (by decide +kernel) rfl rfl dX3_ref_164 (fun _ μ10 _ => r_k0 ?_)
      exact c_athrow h hc (fun z hz => by cases hz) dX3_ref_167
    · refine r_iload_n h 2 dX3_ref_151 rfl rfl ?_
      refine c_callSN h hc (As := [iv x2]) (fun o1 e1 => u_X0_isChar _ x2 hx2 o1 e1) (host := "TreePress") (by decide) q647 q648 q132 (by omega) (by omega) zc_s0 (by omega) (fun z hz => by cases hz) ⟨by decide, by decide⟩ (n := 1) (by decide +kernel) rfl rfl dX3_ref_152 (fun r11 μ12 hr13 => r_k3 ?_)
      refine r_if_ne (x := r11) h hr13.r 168 dX3_ref_155 rfl ?_ ?_
      · refine c_newF h hc q650 q577 q153 dX3_ref_158 (fun _ μ14 he15 => ?_)
        refine r_dup h dX3_ref_161 (zc_rv_cat G _) ?_
        refine r_iconst h dX3_ref_162 ?_
        refine r_iload_n h 1 dX3_ref_163 rfl rfl ?_
        refine c_callI (x := (μ12 0 0)) h hc (As := [iv (-1), iv x1]) (fun o1 e1 => w_finit _ (μ12 0 0) (-1) x1 (by decide) hx1 o1 e1) [22] (zt_nw he15) (by decide) q651 q616 rfl q617 q153 (by omega) (by omega) (zc_sc (zc_rv_cat G _) zc_s0) (by omega) (fun z hz => by cases hz) ⟨by decide, by decide⟩ (n := 2) (by decide +kernel) rfl rfl dX3_ref_164 (fun _ μ16 _ => r_k0 ?_)
        exact c_athrow h hc (fun z hz => by cases hz) dX3_ref_167
      · refine r_iload_n h 2 dX3_ref_168 rfl rfl ?_
        exact c_iret h hc rfl hx2 dX3_ref_169
def c_X3_ref_84 : Nat → MEM → Int → Int → Int → Int → Option zc_O
  | 0, _, _, _, _, _ => none
  | n + 1, μ, x0, x1, x2, x3 => if 6 ≤ x3 then (c_X3_ref_137 μ x0 x1 x2 x3) else (ck (zt [3] (μ x0 (-1)) = true) (bc (c_X2_here μ x0) (fun r2 μ3 => if r2 < 48 then (c_X3_ref_137 μ3 x0 x1 x2 x3) else (ck (zt [3] (μ3 x0 (-1)) = true) (bc (c_X2_here μ3 x0) (fun r6 μ7 => if 57 < r6 then (c_X3_ref_137 μ7 x0 x1 x2 x3) else (ck (zt [3] (μ7 x0 (-1)) = true) (bc (c_X2_here μ7 x0) (fun r10 μ11 => ck (zt [3] (μ11 x0 (-1)) = true) (bc (c_X2_place μ11 x0) (fun r14 μ15 => ck (inR (r14 + 1)) (ck (zt [3] (μ15 x0 (-1)) = true) (bc (c_X2_goTo μ15 x0 (r14 + 1)) (fun _ μ19 => ck (inR (((10 * x2) + r10) - 48)) (ck (inR (x3 + 1)) (c_X3_ref_84 n μ19 x0 x1 (((10 * x2) + r10) - 48) (x3 + 1)))))))))))))))))
theorem u_X3_ref_84 {C : zv_Cx zc_O} {G : zc_G} {μ0 : MEM} (h : zv_Ok C cX3_ref "TreePress$Parser") (hc : zc_C C G μ0 4 (Option.some FieldType.int) 1 7 142 "ref" []) : ∀ (n : Nat) (μ : MEM) (x0 x1 x2 x3 : Int), inR x1 → inR x2 → inR x3 → VV C (c_X3_ref_84 n μ x0 x1 x2 x3) μ [(0, zc_rv G x0), (1, iv x1), (2, iv x2), (3, iv x3)] [] 84 := by
  have hN : ∀ i, i < 4 → i < zv_n C := fun i q => by rw [hc.2.1]; exact q
  intro n
  induction n with
  | zero => intros; exact r_none
  | succ n ih =>
    intro μ x0 x1 x2 x3 hx1 hx2 hx3
    rw [c_X3_ref_84]
    refine r_iload_n h 3 dX3_ref_84 rfl rfl ?_
    refine r_bipush h dX3_ref_85 (by decide) ?_
    refine r_icmp_ge (x := x3) (y := 6) h hx3 (by decide) 137 dX3_ref_87 rfl ?_ ?_
    · exact r_lv [0, 1, 2, 3] rfl (u_X3_ref_137 h hc _ x0 x1 x2 x3 hx1 hx2 hx3)
    · refine c_aload_n (x := x0) h 0 dX3_ref_90 rfl rfl ?_
      refine r_ck (fun ht1 => ?_)
      refine c_callU (x := x0) (xm := ⟨"TreePress$Parser", "here", "()I"⟩) (owner := "TreePress$Reader") h hc (As := []) (fun o1 e1 => u_X2_here _ x0 o1 e1) [3] ht1 (by decide) q489 q490 (va_Decl.of (h.2.2.2.2 _ q493) (h.2.2.2.2 _ q494)) ⟨by decide, by decide⟩ q493 (fun t ht => by cases List.mem_singleton.mp ht; exact q492) q494 q137 (by omega) (by omega) zc_s0 (by omega) (fun z hz => by cases hz) (n := 0) (by decide +kernel) rfl rfl dX3_ref_91 (fun r2 μ3 hr4 => r_k1 ?_)
      refine r_bipush h dX3_ref_94 (by decide) ?_
      refine r_icmp_lt (x := r2) (y := 48) h hr4 (by decide) 137 dX3_ref_96 rfl ?_ ?_
      · exact r_lv [0, 1, 2, 3] rfl (u_X3_ref_137 h hc _ x0 x1 x2 x3 hx1 hx2 hx3)
      · refine c_aload_n (x := x0) h 0 dX3_ref_99 rfl rfl ?_
        refine r_ck (fun ht5 => ?_)
        refine c_callU (x := x0) (xm := ⟨"TreePress$Parser", "here", "()I"⟩) (owner := "TreePress$Reader") h hc (As := []) (fun o1 e1 => u_X2_here _ x0 o1 e1) [3] ht5 (by decide) q489 q490 (va_Decl.of (h.2.2.2.2 _ q493) (h.2.2.2.2 _ q494)) ⟨by decide, by decide⟩ q493 (fun t ht => by cases List.mem_singleton.mp ht; exact q492) q494 q137 (by omega) (by omega) zc_s0 (by omega) (fun z hz => by cases hz) (n := 0) (by decide +kernel) rfl rfl dX3_ref_100 (fun r6 μ7 hr8 => r_k1 ?_)
        refine r_bipush h dX3_ref_103 (by decide) ?_
        refine r_icmp_gt (x := r6) (y := 57) h hr8 (by decide) 137 dX3_ref_105 rfl ?_ ?_
        · exact r_lv [0, 1, 2, 3] rfl (u_X3_ref_137 h hc _ x0 x1 x2 x3 hx1 hx2 hx3)
        · refine r_bipush h dX3_ref_108 (by decide) ?_
          refine r_iload_n h 2 dX3_ref_110 rfl rfl ?_
          refine r_imul h dX3_ref_111 ?_
          refine c_aload_n (x := x0) h 0 dX3_ref_112 rfl rfl ?_
          refine r_ck (fun ht9 => ?_)
          refine c_callU (x := x0) (xm := ⟨"TreePress$Parser", "here", "()I"⟩) (owner := "TreePress$Reader") h hc (As := []) (fun o1 e1 => u_X2_here _ x0 o1 e1) [3] ht9 (by decide) q489 q490 (va_Decl.of (h.2.2.2.2 _ q493) (h.2.2.2.2 _ q494)) ⟨by decide, by decide⟩ q493 (fun t ht => by cases List.mem_singleton.mp ht; exact q492) q494 q137 (by omega) (by omega) (zc_sc (iv_cat _) zc_s0) (by omega) (fun z hz => by cases hz) (n := 0) (by decide +kernel) rfl rfl dX3_ref_113 (fun r10 μ11 hr12 => r_k1 ?_)
          refine r_iadd h dX3_ref_116 ?_
          refine r_bipush h dX3_ref_117 (by decide) ?_
          refine r_isub h dX3_ref_119 ?_
          refine r_istore_n (i := 2) (lv' := [(2, iv (((10 * x2) + r10) - 48)), (0, zc_rv G x0), (1, iv x1), (3, iv x3)]) h dX3_ref_120 rfl (hN _ (by decide)) rfl ?_
          refine r_iinc (lv' := [(3, iv (x3 + 1)), (2, iv (((10 * x2) + r10) - 48)), (0, zc_rv G x0), (1, iv x1)]) h 3 dX3_ref_121 rfl (hN _ (by decide)) rfl ?_
          refine c_aload_n (x := x0) h 2 dX3_ref_124 rfl rfl ?_
          refine c_aload_n (x := x0) h 2 dX3_ref_125 rfl rfl ?_
          refine r_ck (fun ht13 => ?_)
          refine c_callU (x := x0) (xm := ⟨"TreePress$Parser", "place", "()I"⟩) (owner := "TreePress$Reader") h hc (As := []) (fun o1 e1 => u_X2_place _ x0 o1 e1) [3] ht13 (by decide) q483 q484 (va_Decl.of (h.2.2.2.2 _ q487) (h.2.2.2.2 _ q488)) ⟨by decide, by decide⟩ q487 (fun t ht => by cases List.mem_singleton.mp ht; exact q486) q488 q137 (by omega) (by omega) (zc_sc (zc_rv_cat G _) zc_s0) (by omega) (fun z hz => by cases hz) (n := 0) (by decide +kernel) rfl rfl dX3_ref_126 (fun r14 μ15 hr16 => r_k1 ?_)
          refine r_iconst h dX3_ref_129 ?_
          refine r_iadd h dX3_ref_130 ?_
          refine r_ck (fun hk17 => ?_)
          refine r_ck (fun ht18 => ?_)
          refine c_callU (x := x0) (xm := ⟨"TreePress$Parser", "goTo", "(I)V"⟩) (owner := "TreePress$Reader") h hc (As := [iv (r14 + 1)]) (fun o1 e1 => u_X2_goTo _ x0 (r14 + 1) hk17 o1 e1) [3] ht18 (by decide) q498 q499 (va_Decl.of (h.2.2.2.2 _ q502) (h.2.2.2.2 _ q503)) ⟨by decide, by decide⟩ q502 (fun t ht => by cases List.mem_singleton.mp ht; exact q501) q503 q137 (by omega) (by omega) zc_s0 (by omega) (fun z hz => by cases hz) (n := 1) (by decide +kernel) rfl rfl dX3_ref_131 (fun _ μ19 _ => r_k0 ?_)
          refine r_goto h 84 dX3_ref_134 rfl ?_
          refine r_ck (fun hk20 => ?_)
          refine r_ck (fun hk21 => ?_)
          exact r_lv [2, 3, 1, 0] rfl (ih _ x0 x1 (((10 * x2) + r10) - 48) (x3 + 1) hx1 hk20 hk21)
def c_X3_ref (μ : MEM) (a0 : Int) : Option zc_O := ck (zt [3] (μ a0 (-1)) = true) (bc (c_X2_takes μ a0 (-21)) (fun r2 μ3 => if r2 = 0 then (ck (zt [3] (μ3 a0 (-1)) = true) (bc (c_X2_takes μ3 a0 (-22)) (fun r6 μ7 => if r6 = 0 then (ck (zt [3] (μ7 a0 (-1)) = true) (bc (c_X2_takes μ7 a0 (-23)) (fun r10 μ11 => if r10 = 0 then (ck (zt [3] (μ11 a0 (-1)) = true) (bc (c_X2_takes μ11 a0 (-24)) (fun r14 μ15 => if r14 = 0 then (ck (zt [3] (μ15 a0 (-1)) = true) (bc (c_X2_takes μ15 a0 (-25)) (fun r18 μ19 => if r18 = 0 then (ck (zt [3] (μ19 a0 (-1)) = true) (bc (c_X2_place μ19 a0) (fun r22 μ23 => ck (zt [3] (μ23 a0 (-1)) = true) (bc (c_X2_takes μ23 a0 (-26)) (fun r26 μ27 => if r26 = 0 then (c_X3_ref_137 μ27 a0 r22 0 0) else (c_X3_ref_84 zF μ27 a0 r22 0 0)))))) else (some (0, 39, μ19))))) else (some (0, 34, μ15))))) else (some (0, 38, μ11))))) else (some (0, 62, μ7))))) else (some (0, 60, μ3))))
theorem u_X3_ref {G : zc_G} (μ : MEM) (a0 : Int) (o : zc_O) (hd : c_X3_ref μ a0 = some o) : zc_Met G yX3_ref cX3_ref 4 (Option.some FieldType.int) 1 7 142 μ [zc_rv G a0] o := by
  refine zc_intro hd (by decide) (by simp [lg_sl, zc_rv_cat, iv_cat, jv_cat]) (lv := [(0, zc_rv G a0)]) (by simp [lv_args, zc_rv_cat, iv_cat, jv_cat]) (fun C h hc => ?_)
  have h : zv_Ok C cX3_ref "TreePress$Parser" := h
  have hc : zc_C C G μ 4 (Option.some FieldType.int) 1 7 142 "ref" [] := hc
  have hN : ∀ i, i < 4 → i < zv_n C := fun i q => by rw [hc.2.1]; exact q
  unfold c_X3_ref
  refine c_aload_n (x := a0) h 0 dX3_ref_0 rfl rfl ?_
  refine c_ldcws (tx := "&lt;") h hc 21 (by decide) (-21) rfl (by decide) dX3_ref_1 ?_
  refine r_ck (fun ht1 => ?_)
  refine c_callU (x := a0) (xm := ⟨"TreePress$Parser", "takes", "(Ljava/lang/String;)Z"⟩) (owner := "TreePress$Reader") h hc (As := [zc_rv G (-21)]) (fun o1 e1 => u_X2_takes _ a0 (-21) o1 e1) [3] ht1 (by decide) q735 q736 (va_Decl.of (h.2.2.2.2 _ q570) (h.2.2.2.2 _ q574)) ⟨by decide, by decide⟩ q570 (fun t ht => by cases List.mem_singleton.mp ht; exact q738) q574 q137 (by omega) (by omega) zc_s0 (by omega) (fun z hz => by cases hz) (n := 1) (by decide +kernel) rfl rfl dX3_ref_4 (fun r2 μ3 hr4 => r_k3 ?_)
  refine r_if_eq (x := r2) h hr4.r 13 dX3_ref_7 rfl ?_ ?_
  · refine c_aload_n (x := a0) h 0 dX3_ref_13 rfl rfl ?_
    refine c_ldcws (tx := "&gt;") h hc 22 (by decide) (-22) rfl (by decide) dX3_ref_14 ?_
    refine r_ck (fun ht5 => ?_)
    refine c_callU (x := a0) (xm := ⟨"TreePress$Parser", "takes", "(Ljava/lang/String;)Z"⟩) (owner := "TreePress$Reader") h hc (As := [zc_rv G (-22)]) (fun o1 e1 => u_X2_takes _ a0 (-22) o1 e1) [3] ht5 (by decide) q735 q736 (va_Decl.of (h.2.2.2.2 _ q570) (h.2.2.2.2 _ q574)) ⟨by decide, by decide⟩ q570 (fun t ht => by cases List.mem_singleton.mp ht; exact q738) q574 q137 (by omega) (by omega) zc_s0 (by omega) (fun z hz => by cases hz) (n := 1) (by decide +kernel) rfl rfl dX3_ref_17 (fun r6 μ7 hr8 => r_k3 ?_)
    refine r_if_eq (x := r6) h hr8.r 26 dX3_ref_20 rfl ?_ ?_
    · refine c_aload_n (x := a0) h 0 dX3_ref_26 rfl rfl ?_
      refine c_ldcws (tx := "&amp;") h hc 23 (by decide) (-23) rfl (by decide) dX3_ref_27 ?_
      refine r_ck (fun ht9 => ?_)
      refine c_callU (x := a0) (xm := ⟨"TreePress$Parser", "takes", "(Ljava/lang/String;)Z"⟩) (owner := "TreePress$Reader") h hc (As := [zc_rv G (-23)]) (fun o1 e1 => u_X2_takes _ a0 (-23) o1 e1) [3] ht9 (by decide) q735 q736 (va_Decl.of (h.2.2.2.2 _ q570) (h.2.2.2.2 _ q574)) ⟨by decide, by decide⟩ q570 (fun t ht => by cases List.mem_singleton.mp ht; exact q738) q574 q137 (by omega) (by omega) zc_s0 (by omega) (fun z hz => by cases hz) (n := 1) (by decide +kernel) rfl rfl dX3_ref_30 (fun r10 μ11 hr12 => r_k3 ?_)
      refine r_if_eq (x := r10) h hr12.r 39 dX3_ref_33 rfl ?_ ?_
      · refine c_aload_n (x := a0) h 0 dX3_ref_39 rfl rfl ?_
        refine c_ldcws (tx := "&quot;") h hc 24 (by decide) (-24) rfl (by decide) dX3_ref_40 ?_
        refine r_ck (fun ht13 => ?_)
        refine c_callU (x := a0) (xm := ⟨"TreePress$Parser", "takes", "(Ljava/lang/String;)Z"⟩) (owner := "TreePress$Reader") h hc (As := [zc_rv G (-24)]) (fun o1 e1 => u_X2_takes _ a0 (-24) o1 e1) [3] ht13 (by decide) q735 q736 (va_Decl.of (h.2.2.2.2 _ q570) (h.2.2.2.2 _ q574)) ⟨by decide, by decide⟩ q570 (fun t ht => by cases List.mem_singleton.mp ht; exact q738) q574 q137 (by omega) (by omega) zc_s0 (by omega) (fun z hz => by cases hz) (n := 1) (by decide +kernel) rfl rfl dX3_ref_43 (fun r14 μ15 hr16 => r_k3 ?_)
        refine r_if_eq (x := r14) h hr16.r 52 dX3_ref_46 rfl ?_ ?_
        · refine c_aload_n (x := a0) h 0 dX3_ref_52 rfl rfl ?_
          refine c_ldcws (tx := "&apos;") h hc 25 (by decide) (-25) rfl (by decide) dX3_ref_53 ?_
          refine r_ck (fun ht17 => ?_)
          refine c_callU (x := a0) (xm := ⟨"TreePress$Parser", "takes", "(Ljava/lang/String;)Z"⟩) (owner := "TreePress$Reader") h hc (As := [zc_rv G (-25)]) (fun o1 e1 => u_X2_takes _ a0 (-25) o1 e1) [3] ht17 (by decide) q735 q736 (va_Decl.of (h.2.2.2.2 _ q570) (h.2.2.2.2 _ q574)) ⟨by decide, by decide⟩ q570 (fun t ht => by cases List.mem_singleton.mp ht; exact q738) q574 q137 (by omega) (by omega) zc_s0 (by omega) (fun z hz => by cases hz) (n := 1) (by decide +kernel) rfl rfl dX3_ref_56 (fun r18 μ19 hr20 => r_k3 ?_)
          refine r_if_eq (x := r18) h hr20.r 65 dX3_ref_59 rfl ?_ ?_
          · refine c_aload_n (x := a0) h 0 dX3_ref_65 rfl rfl ?_
            refine r_ck (fun ht21 => ?_)
            refine c_callU (x := a0) (xm := ⟨"TreePress$Parser", "place", "()I"⟩) (owner := "TreePress$Reader") h hc (As := []) (fun o1 e1 => u_X2_place _ a0 o1 e1) [3] ht21 (by decide) q483 q484 (va_Decl.of (h.2.2.2.2 _ q487) (h.2.2.2.2 _ q488)) ⟨by decide, by decide⟩ q487 (fun t ht => by cases List.mem_singleton.mp ht; exact q486) q488 q137 (by omega) (by omega) zc_s0 (by omega) (fun z hz => by cases hz) (n := 0) (by decide +kernel) rfl rfl dX3_ref_66 (fun r22 μ23 hr24 => r_k1 ?_)
            refine r_istore_n (i := 1) (lv' := [(1, iv r22), (0, zc_rv G a0)]) h dX3_ref_69 rfl (hN _ (by decide)) (by simp [zc_rv_cat]) ?_
            refine r_iconst h dX3_ref_70 ?_
            refine r_istore_n (i := 2) (lv' := [(2, iv 0), (1, iv r22), (0, zc_rv G a0)]) h dX3_ref_71 rfl (hN _ (by decide)) rfl ?_
            refine r_iconst h dX3_ref_72 ?_
            refine r_istore_n (i := 3) (lv' := [(3, iv 0), (2, iv 0), (1, iv r22), (0, zc_rv G a0)]) h dX3_ref_73 rfl (hN _ (by decide)) rfl ?_
            refine c_aload_n (x := a0) h 3 dX3_ref_74 rfl rfl ?_
            refine c_ldcws (tx := "&#") h hc 26 (by decide) (-26) rfl (by decide) dX3_ref_75 ?_
            refine r_ck (fun ht25 => ?_)
            refine c_callU (x := a0) (xm := ⟨"TreePress$Parser", "takes", "(Ljava/lang/String;)Z"⟩) (owner := "TreePress$Reader") h hc (As := [zc_rv G (-26)]) (fun o1 e1 => u_X2_takes _ a0 (-26) o1 e1) [3] ht25 (by decide) q735 q736 (va_Decl.of (h.2.2.2.2 _ q570) (h.2.2.2.2 _ q574)) ⟨by decide, by decide⟩ q570 (fun t ht => by cases List.mem_singleton.mp ht; exact q738) q574 q137 (by omega) (by omega) zc_s0 (by omega) (fun z hz => by cases hz) (n := 1) (by decide +kernel) rfl rfl dX3_ref_78 (fun r26 μ27 hr28 => r_k3 ?_)
            refine r_if_eq (x := r26) h hr28.r 137 dX3_ref_81 rfl ?_ ?_
            · exact r_lv [3, 2, 1, 0] rfl (u_X3_ref_137 h hc _ a0 r22 0 0 hr24 (by decide) (by decide))
            · exact r_lv [3, 2, 1, 0] rfl (u_X3_ref_84 h hc zF _ a0 r22 0 0 hr24 (by decide) (by decide))
          · refine r_bipush h dX3_ref_62 (by decide) ?_
            exact c_iret h hc rfl (by decide) dX3_ref_64
        · refine r_bipush h dX3_ref_49 (by decide) ?_
          exact c_iret h hc rfl (by decide) dX3_ref_51
      · refine r_bipush h dX3_ref_36 (by decide) ?_
        exact c_iret h hc rfl (by decide) dX3_ref_38
    · refine r_bipush h dX3_ref_23 (by decide) ?_
      exact c_iret h hc rfl (by decide) dX3_ref_25
  · refine r_bipush h dX3_ref_10 (by decide) ?_
    exact c_iret h hc rfl (by decide) dX3_ref_12
theorem dX3_piece_0 : decode cX3_piece 0 = .ok (.aload_n 0, 1) := by decide +kernel
theorem dX3_piece_1 : decode cX3_piece 1 = .ok (.invokevirtual 35, 3) := by decide +kernel
theorem dX3_piece_4 : decode cX3_piece 4 = .ok (.istore_n 1, 1) := by decide +kernel
theorem dX3_piece_5 : decode cX3_piece 5 = .ok (.aload_n 0, 1) := by decide +kernel
theorem dX3_piece_6 : decode cX3_piece 6 = .ok (.iload_n 1, 1) := by decide +kernel
theorem dX3_piece_7 : decode cX3_piece 7 = .ok (.bipush 38, 2) := by decide +kernel
theorem dX3_piece_9 : decode cX3_piece 9 = .ok (.if_icmp .ne 7, 3) := by decide +kernel
theorem dX3_piece_12 : decode cX3_piece 12 = .ok (.iconst 1, 1) := by decide +kernel
theorem dX3_piece_13 : decode cX3_piece 13 = .ok (.goto 4, 3) := by decide +kernel
theorem dX3_piece_16 : decode cX3_piece 16 = .ok (.iconst 0, 1) := by decide +kernel
theorem dX3_piece_17 : decode cX3_piece 17 = .ok (.putfield 280, 3) := by decide +kernel
theorem dX3_piece_20 : decode cX3_piece 20 = .ok (.aload_n 0, 1) := by decide +kernel
theorem dX3_piece_21 : decode cX3_piece 21 = .ok (.getfield 280, 3) := by decide +kernel
theorem dX3_piece_24 : decode cX3_piece 24 = .ok (.ifCond .eq 8, 3) := by decide +kernel
theorem dX3_piece_27 : decode cX3_piece 27 = .ok (.aload_n 0, 1) := by decide +kernel
theorem dX3_piece_28 : decode cX3_piece 28 = .ok (.invokevirtual 283, 3) := by decide +kernel
theorem dX3_piece_31 : decode cX3_piece 31 = .ok (.ireturn, 1) := by decide +kernel
theorem dX3_piece_32 : decode cX3_piece 32 = .ok (.iload_n 1, 1) := by decide +kernel
theorem dX3_piece_33 : decode cX3_piece 33 = .ok (.invokestatic 67, 3) := by decide +kernel
theorem dX3_piece_36 : decode cX3_piece 36 = .ok (.ifCond .ne 16, 3) := by decide +kernel
theorem dX3_piece_39 : decode cX3_piece 39 = .ok (.new 50, 3) := by decide +kernel
theorem dX3_piece_42 : decode cX3_piece 42 = .ok (.dup, 1) := by decide +kernel
theorem dX3_piece_43 : decode cX3_piece 43 = .ok (.iconst (-1), 1) := by decide +kernel
theorem dX3_piece_44 : decode cX3_piece 44 = .ok (.aload_n 0, 1) := by decide +kernel
theorem dX3_piece_45 : decode cX3_piece 45 = .ok (.invokevirtual 31, 3) := by decide +kernel
theorem dX3_piece_48 : decode cX3_piece 48 = .ok (.invokespecial 52, 3) := by decide +kernel
theorem dX3_piece_51 : decode cX3_piece 51 = .ok (.athrow, 1) := by decide +kernel
theorem dX3_piece_52 : decode cX3_piece 52 = .ok (.aload_n 0, 1) := by decide +kernel
theorem dX3_piece_53 : decode cX3_piece 53 = .ok (.aload_n 0, 1) := by decide +kernel
theorem dX3_piece_54 : decode cX3_piece 54 = .ok (.invokevirtual 31, 3) := by decide +kernel
theorem dX3_piece_57 : decode cX3_piece 57 = .ok (.iconst 1, 1) := by decide +kernel
theorem dX3_piece_58 : decode cX3_piece 58 = .ok (.iadd, 1) := by decide +kernel
theorem dX3_piece_59 : decode cX3_piece 59 = .ok (.invokevirtual 42, 3) := by decide +kernel
theorem dX3_piece_62 : decode cX3_piece 62 = .ok (.iload_n 1, 1) := by decide +kernel
theorem dX3_piece_63 : decode cX3_piece 63 = .ok (.ireturn, 1) := by decide +kernel
def c_X3_piece_17 (μ : MEM) (x0 x1 s0 s1 : Int) : Option zc_O := ck (zt [3] (μ s0 (-1)) = true) (nu (mup μ s0 7 s1) (fun μ2 => ck (zt [3] (μ2 x0 (-1)) = true) (if (μ2 x0 7) = 0 then (bc (c_X0_isChar μ2 x1) (fun r6 μ7 => if r6 = 0 then (ck (1 ≤ μ7 0 1 ∧ (8 : Int) ≤ μ7 0 2) (nu (mnew μ7 22 0 8) (fun μ9 => ck (zt [3] (μ9 x0 (-1)) = true) (bc (c_X2_place μ9 x0) (fun r12 μ13 => ck (zt [22] (μ13 (μ7 0 0) (-1)) = true) (bc (b_finit μ13 (μ7 0 0) (-1) r12) (fun _ μ16 => ck (0 < (μ7 0 0)) (some (1, (μ7 0 0), μ16))))))))) else (ck (zt [3] (μ7 x0 (-1)) = true) (bc (c_X2_place μ7 x0) (fun r18 μ19 => ck (inR (r18 + 1)) (ck (zt [3] (μ19 x0 (-1)) = true) (bc (c_X2_goTo μ19 x0 (r18 + 1)) (fun _ μ23 => some (0, x1, μ23))))))))) else (bc (c_X3_ref μ2 x0) (fun r24 μ25 => some (0, r24, μ25))))))
theorem u_X3_piece_17 {C : zv_Cx zc_O} {G : zc_G} {μ0 : MEM} (h : zv_Ok C cX3_piece "TreePress$Parser") (hc : zc_C C G μ0 2 (Option.some FieldType.int) 1 8 165 "piece" []) (μ : MEM) (x0 x1 s0 s1 : Int) (hx1 : inR x1) (hs1 : isB s1) : VV C (c_X3_piece_17 μ x0 x1 s0 s1) μ [(0, zc_rv G x0), (1, iv x1)] [iv s1, zc_rv G s0] 17 := by
  have hN : ∀ i, i < 2 → i < zv_n C := fun i q => by rw [hc.2.1]; exact q
  unfold c_X3_piece_17
  refine r_ck (fun ht1 => ?_)
  refine c_putZ (x := s0) (y := s1) h hc [3] 7 false (zc_lk1 h q450) ht1 (by decide) (Or.inl rfl) hs1 dX3_piece_17 (fun μ2 he3 => ?_)
  refine c_aload_n (x := x0) h 0 dX3_piece_20 rfl rfl ?_
  refine r_ck (fun ht4 => ?_)
  refine c_getZ (fin := false) h hc [3] 7 (zc_lk1 h q450) ht4 (by decide) dX3_piece_21 (fun hr5 => ?_)
  refine r_if_eq (x := (μ2 x0 7)) h hr5.r 32 dX3_piece_24 rfl ?_ ?_
  · refine r_iload_n h 1 dX3_piece_32 rfl rfl ?_
    refine c_callSN h hc (As := [iv x1]) (fun o1 e1 => u_X0_isChar _ x1 hx1 o1 e1) (host := "TreePress") (by decide) q647 q648 q132 (by omega) (by omega) zc_s0 (by omega) (fun z hz => by cases hz) ⟨by decide, by decide⟩ (n := 1) (by decide +kernel) rfl rfl dX3_piece_33 (fun r6 μ7 hr8 => r_k3 ?_)
    refine r_if_ne (x := r6) h hr8.r 52 dX3_piece_36 rfl ?_ ?_
    · refine c_newF h hc q650 q577 q153 dX3_piece_39 (fun _ μ9 he10 => ?_)
      refine r_dup h dX3_piece_42 (zc_rv_cat G _) ?_
      refine r_iconst h dX3_piece_43 ?_
      refine c_aload_n (x := x0) h 0 dX3_piece_44 rfl rfl ?_
      refine r_ck (fun ht11 => ?_)
      refine c_callU (x := x0) (xm := ⟨"TreePress$Parser", "place", "()I"⟩) (owner := "TreePress$Reader") h hc (As := []) (fun o1 e1 => u_X2_place _ x0 o1 e1) [3] ht11 (by decide) q483 q484 (va_Decl.of (h.2.2.2.2 _ q487) (h.2.2.2.2 _ q488)) ⟨by decide, by decide⟩ q487 (fun t ht => by cases List.mem_singleton.mp ht; exact q486) q488 q137 (by omega) (by omega) (zc_sc (iv_cat _) (zc_sc (zc_rv_cat G _) (zc_sc (zc_rv_cat G _) zc_s0))) (by omega) (fun z hz => by cases hz) (n := 0) (by decide +kernel) rfl rfl dX3_piece_45 (fun r12 μ13 hr14 => r_k1 ?_)
      refine r_ck (fun ht15 => ?_)
      refine c_callI (x := (μ7 0 0)) h hc (As := [iv (-1), iv r12]) (fun o1 e1 => w_finit _ (μ7 0 0) (-1) r12 (by decide) hr14 o1 e1) [22] ht15 (by decide) q651 q616 rfl q617 q153 (by omega) (by omega) (zc_sc (zc_rv_cat G _) zc_s0) (by omega) (fun z hz => by cases hz) ⟨by decide, by decide⟩ (n := 2) (by decide +kernel) rfl rfl dX3_piece_48 (fun _ μ16 _ => r_k0 ?_)
      exact c_athrow h hc (fun z hz => by cases hz) dX3_piece_51
    · refine c_aload_n (x := x0) h 0 dX3_piece_52 rfl rfl ?_
      refine c_aload_n (x := x0) h 0 dX3_piece_53 rfl rfl ?_
      refine r_ck (fun ht17 => ?_)
      refine c_callU (x := x0) (xm := ⟨"TreePress$Parser", "place", "()I"⟩) (owner := "TreePress$Reader") h hc (As := []) (fun o1 e1 => u_X2_place _ x0 o1 e1) [3] ht17 (by decide) q483 q484 (va_Decl.of (h.2.2.2.2 _ q487) (h.2.2.2.2 _ q488)) ⟨by decide, by decide⟩ q487 (fun t ht => by cases List.mem_singleton.mp ht; exact q486) q488 q137 (by omega) (by omega) (zc_sc (zc_rv_cat G _) zc_s0) (by omega) (fun z hz => by cases hz) (n := 0) (by decide +kernel) rfl rfl dX3_piece_54 (fun r18 μ19 hr20 => r_k1 ?_)
      refine r_iconst h dX3_piece_57 ?_
      refine r_iadd h dX3_piece_58 ?_
      refine r_ck (fun hk21 => ?_)
      refine r_ck (fun ht22 => ?_)
      refine c_callU (x := x0) (xm := ⟨"TreePress$Parser", "goTo", "(I)V"⟩) (owner := "TreePress$Reader") h hc (As := [iv (r18 + 1)]) (fun o1 e1 => u_X2_goTo _ x0 (r18 + 1) hk21 o1 e1) [3] ht22 (by decide) q498 q499 (va_Decl.of (h.2.2.2.2 _ q502) (h.2.2.2.2 _ q503)) ⟨by decide, by decide⟩ q502 (fun t ht => by cases List.mem_singleton.mp ht; exact q501) q503 q137 (by omega) (by omega) zc_s0 (by omega) (fun z hz => by cases hz) (n := 1) (by decide +kernel) rfl rfl dX3_piece_59 (fun _ μ23 _ => r_k0 ?_)
      refine r_iload_n h 1 dX3_piece_62 rfl rfl ?_
      exact c_iret h hc rfl hx1 dX3_piece_63
  · refine c_aload_n (x := x0) h 0 dX3_piece_27 rfl rfl ?_
    refine c_callV (x := x0) h hc (As := []) (fun o1 e1 => u_X3_ref _ x0 o1 e1) [3] ht4 (by decide) q890 q892 (fun t ht => by cases List.mem_singleton.mp ht; exact qs22) q893 q138 (by omega) (by omega) zc_s0 (by omega) (fun z hz => by cases hz) ⟨by decide, by decide⟩ (n := 0) (by decide +kernel) rfl rfl dX3_piece_28 (fun r24 μ25 hr26 => r_k1 ?_)
    exact c_iret h hc rfl hr26 dX3_piece_31
def c_X3_piece (μ : MEM) (a0 : Int) : Option zc_O := ck (zt [3] (μ a0 (-1)) = true) (bc (c_X2_here μ a0) (fun r2 μ3 => if r2 = 38 then (c_X3_piece_17 μ3 a0 r2 a0 1) else (c_X3_piece_17 μ3 a0 r2 a0 0)))
theorem u_X3_piece {G : zc_G} (μ : MEM) (a0 : Int) (o : zc_O) (hd : c_X3_piece μ a0 = some o) : zc_Met G yX3_piece cX3_piece 2 (Option.some FieldType.int) 1 8 165 μ [zc_rv G a0] o := by
  refine zc_intro hd (by decide) (by simp [lg_sl, zc_rv_cat, iv_cat, jv_cat]) (lv := [(0, zc_rv G a0)]) (by simp [lv_args, zc_rv_cat, iv_cat, jv_cat]) (fun C h hc => ?_)
  have h : zv_Ok C cX3_piece "TreePress$Parser" := h
  have hc : zc_C C G μ 2 (Option.some FieldType.int) 1 8 165 "piece" [] := hc
  have hN : ∀ i, i < 2 → i < zv_n C := fun i q => by rw [hc.2.1]; exact q
  unfold c_X3_piece
  refine c_aload_n (x := a0) h 0 dX3_piece_0 rfl rfl ?_
  refine r_ck (fun ht1 => ?_)
  refine c_callU (x := a0) (xm := ⟨"TreePress$Parser", "here", "()I"⟩) (owner := "TreePress$Reader") h hc (As := []) (fun o1 e1 => u_X2_here _ a0 o1 e1) [3] ht1 (by decide) q489 q490 (va_Decl.of (h.2.2.2.2 _ q493) (h.2.2.2.2 _ q494)) ⟨by decide, by decide⟩ q493 (fun t ht => by cases List.mem_singleton.mp ht; exact q492) q494 q137 (by omega) (by omega) zc_s0 (by omega) (fun z hz => by cases hz) (n := 0) (by decide +kernel) rfl rfl dX3_piece_1 (fun r2 μ3 hr4 => r_k1 ?_)
  refine r_istore_n (i := 1) (lv' := [(1, iv r2), (0, zc_rv G a0)]) h dX3_piece_4 rfl (hN _ (by decide)) (by simp [zc_rv_cat]) ?_
  refine c_aload_n (x := a0) h 1 dX3_piece_5 rfl rfl ?_
  refine r_iload_n h 0 dX3_piece_6 rfl rfl ?_
  refine r_bipush h dX3_piece_7 (by decide) ?_
  refine r_icmp_ne (x := r2) (y := 38) h hr4 (by decide) 16 dX3_piece_9 rfl ?_ ?_
  · refine r_iconst h dX3_piece_12 ?_
    refine r_goto h 17 dX3_piece_13 rfl ?_
    exact r_lv [1, 0] rfl (u_X3_piece_17 h hc _ a0 r2 a0 1 hr4 (by decide))
  · refine r_iconst h dX3_piece_16 ?_
    exact r_lv [1, 0] rfl (u_X3_piece_17 h hc _ a0 r2 a0 0 hr4 (by decide))
