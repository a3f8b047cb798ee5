set_option maxRecDepth 100000
set_option maxHeartbeats 1000000
/-! methods of the class side: decode rows, denotations c_.., walks u_.. (written by wip/gen/cmain.py) -/
theorem dX3_keep_0 : decode cX3_keep 0 = .ok (.aload_n 0, 1) := by decide +kernel
theorem dX3_keep_1 : decode cX3_keep 1 = .ok (.getfield 300, 3) := by decide +kernel
theorem dX3_keep_4 : decode cX3_keep 4 = .ok (.sipush 2000, 3) := by decide +kernel
theorem dX3_keep_7 : decode cX3_keep 7 = .ok (.if_icmp .ne 14, 3) := by decide +kernel
theorem dX3_keep_10 : decode cX3_keep 10 = .ok (.new 50, 3) := by decide +kernel
theorem dX3_keep_13 : decode cX3_keep 13 = .ok (.dup, 1) := by decide +kernel
theorem dX3_keep_14 : decode cX3_keep 14 = .ok (.bipush (-3), 2) := by decide +kernel
theorem dX3_keep_16 : decode cX3_keep 16 = .ok (.iload_n 2, 1) := by decide +kernel
theorem dX3_keep_17 : decode cX3_keep 17 = .ok (.invokespecial 52, 3) := by decide +kernel
theorem dX3_keep_20 : decode cX3_keep 20 = .ok (.athrow, 1) := by decide +kernel
theorem dX3_keep_21 : decode cX3_keep 21 = .ok (.aload_n 0, 1) := by decide +kernel
theorem dX3_keep_22 : decode cX3_keep 22 = .ok (.getfield 27, 3) := by decide +kernel
theorem dX3_keep_25 : decode cX3_keep 25 = .ok (.aload_n 0, 1) := by decide +kernel
theorem dX3_keep_26 : decode cX3_keep 26 = .ok (.getfield 300, 3) := by decide +kernel
theorem dX3_keep_29 : decode cX3_keep 29 = .ok (.iload_n 1, 1) := by decide +kernel
theorem dX3_keep_30 : decode cX3_keep 30 = .ok (.i2b, 1) := by decide +kernel
theorem dX3_keep_31 : decode cX3_keep 31 = .ok (.bastore, 1) := by decide +kernel
theorem dX3_keep_32 : decode cX3_keep 32 = .ok (.aload_n 0, 1) := by decide +kernel
theorem dX3_keep_33 : decode cX3_keep 33 = .ok (.dup, 1) := by decide +kernel
theorem dX3_keep_34 : decode cX3_keep 34 = .ok (.getfield 300, 3) := by decide +kernel
theorem dX3_keep_37 : decode cX3_keep 37 = .ok (.iconst 1, 1) := by decide +kernel
theorem dX3_keep_38 : decode cX3_keep 38 = .ok (.iadd, 1) := by decide +kernel
theorem dX3_keep_39 : decode cX3_keep 39 = .ok (.putfield 300, 3) := by decide +kernel
theorem dX3_keep_42 : decode cX3_keep 42 = .ok (.return_, 1) := by decide +kernel
def c_X3_keep (μ : MEM) (a0 a1 a2 : Int) : Option zc_O := ck (zt [3] (μ a0 (-1)) = true) (if (μ a0 6) = 2000 then (ck (1 ≤ μ 0 1 ∧ (8 : Int) ≤ μ 0 2) (nu (mnew μ 22 0 8) (fun μ3 => bc (b_finit μ3 (μ 0 0) (-3) a2) (fun _ μ5 => ck (0 < (μ 0 0)) (some (1, (μ 0 0), μ5)))))) else (ck (zt [31] (μ (μ a0 5) (-1)) = true) (ck ((0 : Int) ≤ (μ a0 6) ∧ (μ a0 6) < μ (μ a0 5) (-2)) (nu (mup μ (μ a0 5) (μ a0 6) (i_b a1)) (fun μ8 => ck (inR ((μ8 a0 6) + 1)) (nu (mup μ8 a0 6 ((μ8 a0 6) + 1)) (fun μ13 => some (0, 0, μ13))))))))
theorem u_X3_keep {G : zc_G} (μ : MEM) (a0 a1 a2 : Int) (ha1 : inR a1) (ha2 : inR a2) (o : zc_O) (hd : c_X3_keep μ a0 a1 a2 = some o) : zc_Met G yX3_keep cX3_keep 3 (Option.none : Option FieldType) 0 7 142 μ [zc_rv G a0, iv a1, iv a2] o := by
  refine zc_intro hd (by decide) (by simp [lg_sl, zc_rv_cat, iv_cat, jv_cat]) (lv := [(0, zc_rv G a0), (1, iv a1), (2, iv a2)]) (by simp [lv_args, zc_rv_cat, iv_cat, jv_cat]) (fun C h hc => ?_)
  have h : zv_Ok C cX3_keep "TreePress$Parser" := h
  have hc : zc_C C G μ 3 (Option.none : Option FieldType) 0 7 142 "keep" [] := hc
  have hN : ∀ i, i < 3 → i < zv_n C := fun i q => by rw [hc.2.1]; exact q
  unfold c_X3_keep
  refine c_aload_n (x := a0) h 0 dX3_keep_0 rfl rfl ?_
  refine r_ck (fun ht1 => ?_)
  refine c_getI (fin := false) h hc [3] 6 (zc_lk1 h q449) ht1 (by decide) dX3_keep_1 (fun hr2 => ?_)
  refine r_sipush h dX3_keep_4 (by decide) ?_
  refine r_icmp_ne (x := (μ a0 6)) (y := 2000) h hr2 (by decide) 21 dX3_keep_7 rfl ?_ ?_
  · refine c_newF h hc q650 q577 q153 dX3_keep_10 (fun _ μ3 he4 => ?_)
    refine r_dup h dX3_keep_13 (zc_rv_cat G _) ?_
    refine r_bipush h dX3_keep_14 (by decide) ?_
    refine r_iload_n h 2 dX3_keep_16 rfl rfl ?_
    refine c_callI (x := (μ 0 0)) h hc (As := [iv (-3), iv a2]) (fun o1 e1 => w_finit _ (μ 0 0) (-3) a2 (by decide) ha2 o1 e1) [22] (zt_nw he4) (by decide) q651 q616 rfl q617 q153 (by omega) (by omega) (zc_sc (zc_rv_cat G _) zc_s0) (by omega) (fun z hz => by cases hz) ⟨by decide, by decide⟩ (n := 2) (by decide +kernel) rfl rfl dX3_keep_17 (fun _ μ5 _ => r_k0 ?_)
    exact c_athrow h hc (fun z hz => by cases hz) dX3_keep_20
  · refine c_aload_n (x := a0) h 0 dX3_keep_21 rfl rfl ?_
    refine c_getR (fin := true) h hc [3] 5 (zc_lk1 h q448) ht1 (by decide) dX3_keep_22 ?_
    refine c_aload_n (x := a0) h 0 dX3_keep_25 rfl rfl ?_
    refine c_getI (fin := false) h hc [3] 6 (zc_lk1 h q449) ht1 (by decide) dX3_keep_26 (fun hr6 => ?_)
    refine r_iload_n h 1 dX3_keep_29 rfl rfl ?_
    refine r_i2b h dX3_keep_30 ?_
    refine r_ck (fun ht7 => ?_)
    refine c_stB (x := (μ a0 5)) (y := (μ a0 6)) (z := (i_b a1)) h hc ht7 (i_b_y _) dX3_keep_31 (fun hb10 μ8 he9 => ?_)
    refine c_aload_n (x := a0) h 0 dX3_keep_32 rfl rfl ?_
    refine r_dup h dX3_keep_33 (zc_rv_cat G _) ?_
    refine c_getI (fin := false) h hc [3] 6 (zc_lk1 h q449) (zt_mup he9 hb10.1 ht1) (by decide) dX3_keep_34 (fun hr11 => ?_)
    refine r_iconst h dX3_keep_37 ?_
    refine r_iadd h dX3_keep_38 ?_
    refine r_ck (fun hk12 => ?_)
    refine c_putI (x := a0) (y := ((μ8 a0 6) + 1)) h hc [3] 6 false (zc_lk1 h q449) (zt_mup he9 hb10.1 ht1) (by decide) (Or.inl rfl) hk12 dX3_keep_39 (fun μ13 he14 => ?_)
    exact c_vret h hc rfl dX3_keep_42
theorem dX3_kept_0 : decode cX3_kept 0 = .ok (.aload_n 0, 1) := by decide +kernel
theorem dX3_kept_1 : decode cX3_kept 1 = .ok (.getfield 300, 3) := by decide +kernel
theorem dX3_kept_4 : decode cX3_kept 4 = .ok (.iload_n 1, 1) := by decide +kernel
theorem dX3_kept_5 : decode cX3_kept 5 = .ok (.isub, 1) := by decide +kernel
theorem dX3_kept_6 : decode cX3_kept 6 = .ok (.newarray .byte, 2) := by decide +kernel
theorem dX3_kept_8 : decode cX3_kept 8 = .ok (.astore_n 2, 1) := by decide +kernel
theorem dX3_kept_9 : decode cX3_kept 9 = .ok (.aload_n 0, 1) := by decide +kernel
theorem dX3_kept_10 : decode cX3_kept 10 = .ok (.getfield 27, 3) := by decide +kernel
theorem dX3_kept_13 : decode cX3_kept 13 = .ok (.iload_n 1, 1) := by decide +kernel
theorem dX3_kept_14 : decode cX3_kept 14 = .ok (.aload_n 2, 1) := by decide +kernel
theorem dX3_kept_15 : decode cX3_kept 15 = .ok (.iconst 0, 1) := by decide +kernel
theorem dX3_kept_16 : decode cX3_kept 16 = .ok (.aload_n 2, 1) := by decide +kernel
theorem dX3_kept_17 : decode cX3_kept 17 = .ok (.arraylength, 1) := by decide +kernel
theorem dX3_kept_18 : decode cX3_kept 18 = .ok (.invokestatic 303, 3) := by decide +kernel
theorem dX3_kept_21 : decode cX3_kept 21 = .ok (.aload_n 2, 1) := by decide +kernel
theorem dX3_kept_22 : decode cX3_kept 22 = .ok (.areturn, 1) := by decide +kernel
def c_X3_kept (μ : MEM) (a0 a1 : Int) : Option zc_O := ck (zt [3] (μ a0 (-1)) = true) (ck (inR ((μ a0 6) - a1)) (ck ((0 : Int) ≤ ((μ a0 6) - a1) ∧ ((μ a0 6) - a1) ≤ 1000000) (ck (1 ≤ μ 0 1 ∧ ((μ a0 6) - a1) ≤ μ 0 2) (nu (mnew μ 31 ((μ a0 6) - a1) ((μ a0 6) - a1)) (fun μ4 => ck (zt [3] (μ4 a0 (-1)) = true) (ck (zt [31] (μ4 (μ4 a0 5) (-1)) = true) (ck ((0 : Int) ≤ a1 ∧ (0 : Int) ≤ 0 ∧ (0 : Int) ≤ (μ4 (μ 0 0) (-2)) ∧ a1 + (μ4 (μ 0 0) (-2)) ≤ μ4 (μ4 a0 5) (-2) ∧ 0 + (μ4 (μ 0 0) (-2)) ≤ μ4 (μ 0 0) (-2)) (nu (mcpy μ4 (μ4 a0 5) a1 (μ 0 0) 0 (μ4 (μ 0 0) (-2))) (fun μ9 => some (0, (μ 0 0), μ9))))))))))
theorem u_X3_kept {G : zc_G} (μ : MEM) (a0 a1 : Int) (ha1 : inR a1) (o : zc_O) (hd : c_X3_kept μ a0 a1 = some o) : zc_Met G yX3_kept cX3_kept 3 (Option.some (FieldType.array FieldType.byte)) 4 1 18 μ [zc_rv G a0, iv a1] o := by
  refine zc_intro hd (by decide) (by simp [lg_sl, zc_rv_cat, iv_cat, jv_cat]) (lv := [(0, zc_rv G a0), (1, iv a1)]) (by simp [lv_args, zc_rv_cat, iv_cat, jv_cat]) (fun C h hc => ?_)
  have h : zv_Ok C cX3_kept "TreePress$Parser" := h
  have hc : zc_C C G μ 3 (Option.some (FieldType.array FieldType.byte)) 4 1 18 "kept" [] := hc
  have hN : ∀ i, i < 3 → i < zv_n C := fun i q => by rw [hc.2.1]; exact q
  unfold c_X3_kept
  refine c_aload_n (x := a0) h 0 dX3_kept_0 rfl rfl ?_
  refine r_ck (fun ht1 => ?_)
  refine c_getI (fin := false) h hc [3] 6 (zc_lk1 h q449) ht1 (by decide) dX3_kept_1 (fun hr2 => ?_)
  refine r_iload_n h 1 dX3_kept_4 rfl rfl ?_
  refine r_isub h dX3_kept_5 ?_
  refine r_ck (fun hk3 => ?_)
  refine c_naB (x := ((μ a0 6) - a1)) h hc rfl q203 hk3 dX3_kept_6 (fun _ _ μ4 he5 => ?_)
  refine c_astore_n (i := 2) (lv' := [(2, zc_rv G (μ 0 0)), (0, zc_rv G a0), (1, iv a1)]) h dX3_kept_8 rfl (hN _ (by decide)) rfl ?_
  refine c_aload_n (x := a0) h 1 dX3_kept_9 rfl rfl ?_
  refine r_ck (fun ht6 => ?_)
  refine c_getR (fin := true) h hc [3] 5 (zc_lk1 h q448) ht6 (by decide) dX3_kept_10 ?_
  refine r_iload_n h 2 dX3_kept_13 rfl rfl ?_
  refine c_aload_n (x := (μ 0 0)) h 0 dX3_kept_14 rfl rfl ?_
  refine r_iconst h dX3_kept_15 ?_
  refine c_aload_n (x := (μ 0 0)) h 0 dX3_kept_16 rfl rfl ?_
  refine c_alen h hc [30, 31] (zt_sub (ts := [31]) (by decide) (zt_nw he5)) (by decide) dX3_kept_17 (fun hr7 => ?_)
  refine r_ck (fun ht8 => ?_)
  refine c_cpB (x := (μ4 a0 5)) (y := (μ 0 0)) (sp := a1) (dp := 0) (n := (μ4 (μ 0 0) (-2))) h hc q909 ha1 (by decide) hr7 ht8 (zt_nw he5) (by omega) (by show 7 + 11 ≤ _; omega) dX3_kept_18 (fun μ9 _ => ?_)
  refine c_aload_n (x := (μ 0 0)) h 0 dX3_kept_21 rfl rfl ?_
  exact c_aret h hc rfl (Or.inr ⟨_, rfl⟩) dX3_kept_22
theorem dX3_value_0 : decode cX3_value 0 = .ok (.aload_n 0, 1) := by decide +kernel
theorem dX3_value_1 : decode cX3_value 1 = .ok (.invokevirtual 35, 3) := by decide +kernel
theorem dX3_value_4 : decode cX3_value 4 = .ok (.istore_n 1, 1) := by decide +kernel
theorem dX3_value_5 : decode cX3_value 5 = .ok (.iload_n 1, 1) := by decide +kernel
theorem dX3_value_6 : decode cX3_value 6 = .ok (.bipush 34, 2) := by decide +kernel
theorem dX3_value_8 : decode cX3_value 8 = .ok (.if_icmp .eq 22, 3) := by decide +kernel
theorem dX3_value_11 : decode cX3_value 11 = .ok (.iload_n 1, 1) := by decide +kernel
theorem dX3_value_12 : decode cX3_value 12 = .ok (.bipush 39, 2) := by decide +kernel
theorem dX3_value_14 : decode cX3_value 14 = .ok (.if_icmp .eq 16, 3) := by decide +kernel
theorem dX3_value_17 : decode cX3_value 17 = .ok (.new 50, 3) := by decide +kernel
theorem dX3_value_20 : decode cX3_value 20 = .ok (.dup, 1) := by decide +kernel
theorem dX3_value_21 : decode cX3_value 21 = .ok (.iconst (-1), 1) := by decide +kernel
theorem dX3_value_22 : decode cX3_value 22 = .ok (.aload_n 0, 1) := by decide +kernel
theorem dX3_value_23 : decode cX3_value 23 = .ok (.invokevirtual 31, 3) := by decide +kernel
theorem dX3_value_26 : decode cX3_value 26 = .ok (.invokespecial 52, 3) := by decide +kernel
theorem dX3_value_29 : decode cX3_value 29 = .ok (.athrow, 1) := by decide +kernel
theorem dX3_value_30 : decode cX3_value 30 = .ok (.aload_n 0, 1) := by decide +kernel
theorem dX3_value_31 : decode cX3_value 31 = .ok (.aload_n 0, 1) := by decide +kernel
theorem dX3_value_32 : decode cX3_value 32 = .ok (.invokevirtual 31, 3) := by decide +kernel
theorem dX3_value_35 : decode cX3_value 35 = .ok (.iconst 1, 1) := by decide +kernel
theorem dX3_value_36 : decode cX3_value 36 = .ok (.iadd, 1) := by decide +kernel
theorem dX3_value_37 : decode cX3_value 37 = .ok (.invokevirtual 42, 3) := by decide +kernel
theorem dX3_value_40 : decode cX3_value 40 = .ok (.aload_n 0, 1) := by decide +kernel
theorem dX3_value_41 : decode cX3_value 41 = .ok (.getfield 300, 3) := by decide +kernel
theorem dX3_value_44 : decode cX3_value 44 = .ok (.istore_n 2, 1) := by decide +kernel
theorem dX3_value_45 : decode cX3_value 45 = .ok (.aload_n 0, 1) := by decide +kernel
theorem dX3_value_46 : decode cX3_value 46 = .ok (.invokevirtual 35, 3) := by decide +kernel
theorem dX3_value_49 : decode cX3_value 49 = .ok (.iload_n 1, 1) := by decide +kernel
theorem dX3_value_50 : decode cX3_value 50 = .ok (.if_icmp .eq 66, 3) := by decide +kernel
theorem dX3_value_53 : decode cX3_value 53 = .ok (.aload_n 0, 1) := by decide +kernel
theorem dX3_value_54 : decode cX3_value 54 = .ok (.invokevirtual 35, 3) := by decide +kernel
theorem dX3_value_57 : decode cX3_value 57 = .ok (.bipush 60, 2) := by decide +kernel
theorem dX3_value_59 : decode cX3_value 59 = .ok (.if_icmp .ne 16, 3) := by decide +kernel
theorem dX3_value_62 : decode cX3_value 62 = .ok (.new 50, 3) := by decide +kernel
theorem dX3_value_65 : decode cX3_value 65 = .ok (.dup, 1) := by decide +kernel
theorem dX3_value_66 : decode cX3_value 66 = .ok (.iconst (-1), 1) := by decide +kernel
theorem dX3_value_67 : decode cX3_value 67 = .ok (.aload_n 0, 1) := by decide +kernel
theorem dX3_value_68 : decode cX3_value 68 = .ok (.invokevirtual 31, 3) := by decide +kernel
theorem dX3_value_71 : decode cX3_value 71 = .ok (.invokespecial 52, 3) := by decide +kernel
theorem dX3_value_74 : decode cX3_value 74 = .ok (.athrow, 1) := by decide +kernel
theorem dX3_value_75 : decode cX3_value 75 = .ok (.aload_n 0, 1) := by decide +kernel
theorem dX3_value_76 : decode cX3_value 76 = .ok (.invokevirtual 31, 3) := by decide +kernel
theorem dX3_value_79 : decode cX3_value 79 = .ok (.istore_n 3, 1) := by decide +kernel
theorem dX3_value_80 : decode cX3_value 80 = .ok (.aload_n 0, 1) := by decide +kernel
theorem dX3_value_81 : decode cX3_value 81 = .ok (.invokevirtual 309, 3) := by decide +kernel
theorem dX3_value_84 : decode cX3_value 84 = .ok (.istore 4, 2) := by decide +kernel
theorem dX3_value_86 : decode cX3_value 86 = .ok (.aload_n 0, 1) := by decide +kernel
theorem dX3_value_87 : decode cX3_value 87 = .ok (.aload_n 0, 1) := by decide +kernel
theorem dX3_value_88 : decode cX3_value 88 = .ok (.getfield 280, 3) := by decide +kernel
theorem dX3_value_91 : decode cX3_value 91 = .ok (.ifCond .ne 16, 3) := by decide +kernel
theorem dX3_value_94 : decode cX3_value 94 = .ok (.iload 4, 2) := by decide +kernel
theorem dX3_value_96 : decode cX3_value 96 = .ok (.invokestatic 38, 3) := by decide +kernel
theorem dX3_value_99 : decode cX3_value 99 = .ok (.ifCond .eq 8, 3) := by decide +kernel
theorem dX3_value_102 : decode cX3_value 102 = .ok (.bipush 32, 2) := by decide +kernel
theorem dX3_value_104 : decode cX3_value 104 = .ok (.goto 5, 3) := by decide +kernel
theorem dX3_value_107 : decode cX3_value 107 = .ok (.iload 4, 2) := by decide +kernel
theorem dX3_value_109 : decode cX3_value 109 = .ok (.iload_n 3, 1) := by decide +kernel
theorem dX3_value_110 : decode cX3_value 110 = .ok (.invokevirtual 312, 3) := by decide +kernel
theorem dX3_value_113 : decode cX3_value 113 = .ok (.goto (-68), 3) := by decide +kernel
theorem dX3_value_116 : decode cX3_value 116 = .ok (.aload_n 0, 1) := by decide +kernel
theorem dX3_value_117 : decode cX3_value 117 = .ok (.aload_n 0, 1) := by decide +kernel
theorem dX3_value_118 : decode cX3_value 118 = .ok (.invokevirtual 31, 3) := by decide +kernel
theorem dX3_value_121 : decode cX3_value 121 = .ok (.iconst 1, 1) := by decide +kernel
theorem dX3_value_122 : decode cX3_value 122 = .ok (.iadd, 1) := by decide +kernel
theorem dX3_value_123 : decode cX3_value 123 = .ok (.invokevirtual 42, 3) := by decide +kernel
theorem dX3_value_126 : decode cX3_value 126 = .ok (.aload_n 0, 1) := by decide +kernel
theorem dX3_value_127 : decode cX3_value 127 = .ok (.iload_n 2, 1) := by decide +kernel
theorem dX3_value_128 : decode cX3_value 128 = .ok (.invokevirtual 315, 3) := by decide +kernel
theorem dX3_value_131 : decode cX3_value 131 = .ok (.areturn, 1) := by decide +kernel
def c_X3_value_45 : Nat → MEM → Int → Int → Int → Option zc_O
  | 0, _, _, _, _ => none
  | n + 1, μ, x0, x1, x2 => ck (zt [3] (μ x0 (-1)) = true) (bc (c_X2_here μ x0) (fun r2 μ3 => if r2 = x1 then (ck (zt [3] (μ3 x0 (-1)) = true) (bc (c_X2_place μ3 x0) (fun r6 μ7 => ck (inR (r6 + 1)) (ck (zt [3] (μ7 x0 (-1)) = true) (bc (c_X2_goTo μ7 x0 (r6 + 1)) (fun _ μ11 => ck (zt [3] (μ11 x0 (-1)) = true) (bc (c_X3_kept μ11 x0 x2) (fun r13 μ14 => some (0, r13, μ14))))))))) else (ck (zt [3] (μ3 x0 (-1)) = true) (bc (c_X2_here μ3 x0) (fun r17 μ18 => if r17 = 60 then (ck (1 ≤ μ18 0 1 ∧ (8 : Int) ≤ μ18 0 2) (nu (mnew μ18 22 0 8) (fun μ20 => ck (zt [3] (μ20 x0 (-1)) = true) (bc (c_X2_place μ20 x0) (fun r23 μ24 => ck (zt [22] (μ24 (μ18 0 0) (-1)) = true) (bc (b_finit μ24 (μ18 0 0) (-1) r23) (fun _ μ27 => ck (0 < (μ18 0 0)) (some (1, (μ18 0 0), μ27))))))))) else (ck (zt [3] (μ18 x0 (-1)) = true) (bc (c_X2_place μ18 x0) (fun r29 μ30 => ck (zt [3] (μ30 x0 (-1)) = true) (bc (c_X3_piece μ30 x0) (fun r33 μ34 => ck (zt [3] (μ34 x0 (-1)) = true) (if (μ34 x0 7) = 0 then (bc (c_X0_isSpace μ34 r33) (fun r38 μ39 => if r38 = 0 then (ck (zt [3] (μ39 x0 (-1)) = true) (bc (c_X3_keep μ39 x0 r33 r29) (fun _ μ42 => c_X3_value_45 n μ42 x0 x1 x2))) else (ck (zt [3] (μ39 x0 (-1)) = true) (bc (c_X3_keep μ39 x0 32 r29) (fun _ μ44 => c_X3_value_45 n μ44 x0 x1 x2))))) else (bc (c_X3_keep μ34 x0 r33 r29) (fun _ μ45 => c_X3_value_45 n μ45 x0 x1 x2)))))))))))))
theorem u_X3_value_45 {C : zv_Cx zc_O} {G : zc_G} {μ0 : MEM} (h : zv_Ok C cX3_value "TreePress$Parser") (hc : zc_C C G μ0 5 (Option.some (FieldType.array FieldType.byte)) 4 9 186 "value" []) : ∀ (n : Nat) (μ : MEM) (x0 x1 x2 : Int), inR x1 → inR x2 → VV C (c_X3_value_45 n μ x0 x1 x2) μ [(0, zc_rv G x0), (1, iv x1), (2, iv x2)] [] 45 := by
  have hN : ∀ i, i < 5 → i < zv_n C := fun i q => by rw [hc.2.1]; exact q
  intro n
  induction n with
  | zero => intros; exact r_none
  | succ n ih =>
    intro μ x0 x1 x2 hx1 hx2
    rw [c_X3_value_45]
    refine c_aload_n (x := x0) h 0 dX3_value_45 rfl rfl ?_
    refine r_ck (fun ht1 => ?_)
    refine c_callU (x := x0) (xm := ⟨"TreePress$Parser", "here", "()I"⟩) (owner := "TreePress$Reader") h hc (As := []) (fun o1 e1 => u_X2_here _ x0 o1 e1) [3] ht1 (by decide) q489 q490 (va_Decl.of (h.2.2.2.2 _ q493) (h.2.2.2.2 _ q494)) ⟨by decide, by decide⟩ q493 (fun t ht => by cases List.mem_singleton.mp ht; exact q492) q494 q137 (by omega) (by omega) zc_s0 (by omega) (fun z hz => by cases hz) (n := 0) (by decide +kernel) rfl rfl dX3_value_46 (fun r2 μ3 hr4 => r_k1 ?_)
    refine r_iload_n h 1 dX3_value_49 rfl rfl ?_
    refine r_icmp_eq (x := r2) (y := x1) h hr4 hx1 116 dX3_value_50 rfl ?_ ?_
    · refine c_aload_n (x := x0) h 0 dX3_value_116 rfl rfl ?_
      refine c_aload_n (x := x0) h 0 dX3_value_117 rfl rfl ?_
      refine r_ck (fun ht5 => ?_)
      refine c_callU (x := x0) (xm := ⟨"TreePress$Parser", "place", "()I"⟩) (owner := "TreePress$Reader") h hc (As := []) (fun o1 e1 => u_X2_place _ x0 o1 e1) [3] ht5 (by decide) q483 q484 (va_Decl.of (h.2.2.2.2 _ q487) (h.2.2.2.2 _ q488)) ⟨by decide, by decide⟩ q487 (fun t ht => by cases List.mem_singleton.mp ht; exact q486) q488 q137 (by omega) (by omega) (zc_sc (zc_rv_cat G _) zc_s0) (by omega) (fun z hz => by cases hz) (n := 0) (by decide +kernel) rfl rfl dX3_value_118 (fun r6 μ7 hr8 => r_k1 ?_)
      refine r_iconst h dX3_value_121 ?_
      refine r_iadd h dX3_value_122 ?_
      refine r_ck (fun hk9 => ?_)
      refine r_ck (fun ht10 => ?_)
      refine c_callU (x := x0) (xm := ⟨"TreePress$Parser", "goTo", "(I)V"⟩) (owner := "TreePress$Reader") h hc (As := [iv (r6 + 1)]) (fun o1 e1 => u_X2_goTo _ x0 (r6 + 1) hk9 o1 e1) [3] ht10 (by decide) q498 q499 (va_Decl.of (h.2.2.2.2 _ q502) (h.2.2.2.2 _ q503)) ⟨by decide, by decide⟩ q502 (fun t ht => by cases List.mem_singleton.mp ht; exact q501) q503 q137 (by omega) (by omega) zc_s0 (by omega) (fun z hz => by cases hz) (n := 1) (by decide +kernel) rfl rfl dX3_value_123 (fun _ μ11 _ => r_k0 ?_)
      refine c_aload_n (x := x0) h 0 dX3_value_126 rfl rfl ?_
      refine r_iload_n h 2 dX3_value_127 rfl rfl ?_
      refine r_ck (fun ht12 => ?_)
      refine c_callV (x := x0) h hc (As := [iv x2]) (fun o1 e1 => u_X3_kept _ x0 x2 hx2 o1 e1) [3] ht12 (by decide) q905 q907 (fun t ht => by cases List.mem_singleton.mp ht; exact qs24) q908 q138 (by omega) (by omega) zc_s0 (by omega) (fun z hz => by cases hz) ⟨by decide, by decide⟩ (n := 1) (by decide +kernel) rfl rfl dX3_value_128 (fun r13 μ14 hr15 => r_k4 ?_)
      exact c_aret h hc rfl (Or.inr ⟨_, rfl⟩) dX3_value_131
    · refine c_aload_n (x := x0) h 0 dX3_value_53 rfl rfl ?_
      refine r_ck (fun ht16 => ?_)
      refine c_callU (x := x0) (xm := ⟨"TreePress$Parser", "here", "()I"⟩) (owner := "TreePress$Reader") h hc (As := []) (fun o1 e1 => u_X2_here _ x0 o1 e1) [3] ht16 (by decide) q489 q490 (va_Decl.of (h.2.2.2.2 _ q493) (h.2.2.2.2 _ q494)) ⟨by decide, by decide⟩ q493 (fun t ht => by cases List.mem_singleton.mp ht; exact q492) q494 q137 (by omega) (by omega) zc_s0 (by omega) (fun z hz => by cases hz) (n := 0) (by decide +kernel) rfl rfl dX3_value_54 (fun r17 μ18 hr19 => r_k1 ?_)
      refine r_bipush h dX3_value_57 (by decide) ?_
      refine r_icmp_ne (x := r17) (y := 60) h hr19 (by decide) 75 dX3_value_59 rfl ?_ ?_
      · refine c_newF h hc q650 q577 q153 dX3_value_62 (fun _ μ20 he21 => ?_)
        refine r_dup h dX3_value_65 (zc_rv_cat G _) ?_
        refine r_iconst h dX3_value_66 ?_
        refine c_aload_n (x := x0) h 0 dX3_value_67 rfl rfl ?_
        refine r_ck (fun ht22 => ?_)
        refine c_callU (x := x0) (xm := ⟨"TreePress$Parser", "place", "()I"⟩) (owner := "TreePress$Reader") h hc (As := []) (fun o1 e1 => u_X2_place _ x0 o1 e1) [3] ht22 (by decide) q483 q484 (va_Decl.of (h.2.2.2.2 _ q487) (h.2.2.2.2 _ q488)) ⟨by decide, by decide⟩ q487 (fun t ht => by cases List.mem_singleton.mp ht; exact q486) q488 q137 (by omega) (by omega) (zc_sc (iv_cat _) (zc_sc (zc_rv_cat G _) (zc_sc (zc_rv_cat G _) zc_s0))) (by omega) (fun z hz => by cases hz) (n := 0) (by decide +kernel) rfl rfl dX3_value_68 (fun r23 μ24 hr25 => r_k1 ?_)
        refine r_ck (fun ht26 => ?_)
        refine c_callI (x := (μ18 0 0)) h hc (As := [iv (-1), iv r23]) (fun o1 e1 => w_finit _ (μ18 0 0) (-1) r23 (by decide) hr25 o1 e1) [22] ht26 (by decide) q651 q616 rfl q617 q153 (by omega) (by omega) (zc_sc (zc_rv_cat G _) zc_s0) (by omega) (fun z hz => by cases hz) ⟨by decide, by decide⟩ (n := 2) (by decide +kernel) rfl rfl dX3_value_71 (fun _ μ27 _ => r_k0 ?_)
        exact c_athrow h hc (fun z hz => by cases hz) dX3_value_74
      · refine c_aload_n (x := x0) h 0 dX3_value_75 rfl rfl ?_
        refine r_ck (fun ht28 => ?_)
        refine c_callU (x := x0) (xm := ⟨"TreePress$Parser", "place", "()I"⟩) (owner := "TreePress$Reader") h hc (As := []) (fun o1 e1 => u_X2_place _ x0 o1 e1) [3] ht28 (by decide) q483 q484 (va_Decl.of (h.2.2.2.2 _ q487) (h.2.2.2.2 _ q488)) ⟨by decide, by decide⟩ q487 (fun t ht => by cases List.mem_singleton.mp ht; exact q486) q488 q137 (by omega) (by omega) zc_s0 (by omega) (fun z hz => by cases hz) (n := 0) (by decide +kernel) rfl rfl dX3_value_76 (fun r29 μ30 hr31 => r_k1 ?_)
        refine r_istore_n (i := 3) (lv' := [(3, iv r29), (0, zc_rv G x0), (1, iv x1), (2, iv x2)]) h dX3_value_79 rfl (hN _ (by decide)) rfl ?_
        refine c_aload_n (x := x0) h 1 dX3_value_80 rfl rfl ?_
        refine r_ck (fun ht32 => ?_)
        refine c_callV (x := x0) h hc (As := []) (fun o1 e1 => u_X3_piece _ x0 o1 e1) [3] ht32 (by decide) q886 q888 (fun t ht => by cases List.mem_singleton.mp ht; exact qs21) q889 q138 (by omega) (by omega) zc_s0 (by omega) (fun z hz => by cases hz) ⟨by decide, by decide⟩ (n := 0) (by decide +kernel) rfl rfl dX3_value_81 (fun r33 μ34 hr35 => r_k1 ?_)
        refine r_istore (lv' := [(4, iv r33), (3, iv r29), (0, zc_rv G x0), (1, iv x1), (2, iv x2)]) h dX3_value_84 (hN _ (by decide)) rfl ?_
        refine c_aload_n (x := x0) h 2 dX3_value_86 rfl rfl ?_
        refine c_aload_n (x := x0) h 2 dX3_value_87 rfl rfl ?_
        refine r_ck (fun ht36 => ?_)
        refine c_getZ (fin := false) h hc [3] 7 (zc_lk1 h q450) ht36 (by decide) dX3_value_88 (fun hr37 => ?_)
        refine r_if_ne (x := (μ34 x0 7)) h hr37.r 107 dX3_value_91 rfl ?_ ?_
        · refine r_iload h 0 dX3_value_94 rfl ?_
          refine c_callSN h hc (As := [iv r33]) (fun o1 e1 => u_X0_isSpace _ r33 hr35 o1 e1) (host := "TreePress") (by decide) q496 q497 q132 (by omega) (by omega) (zc_sc (zc_rv_cat G _) zc_s0) (by omega) (fun z hz => by cases hz) ⟨by decide, by decide⟩ (n := 1) (by decide +kernel) rfl rfl dX3_value_96 (fun r38 μ39 hr40 => r_k3 ?_)
          refine r_if_eq (x := r38) h hr40.r 107 dX3_value_99 rfl ?_ ?_
          · refine r_iload h 0 dX3_value_107 rfl ?_
            refine r_iload_n h 1 dX3_value_109 rfl rfl ?_
            refine r_ck (fun ht41 => ?_)
            refine c_callV (x := x0) h hc (As := [iv r33, iv r29]) (fun o1 e1 => u_X3_keep _ x0 r33 r29 hr35 hr31 o1 e1) [3] ht41 (by decide) q901 q903 (fun t ht => by cases List.mem_singleton.mp ht; exact qs23) q904 q138 (by omega) (by omega) zc_s0 (by omega) (fun z hz => by cases hz) ⟨by decide, by decide⟩ (n := 2) (by decide +kernel) rfl rfl dX3_value_110 (fun _ μ42 _ => r_k0 ?_)
            refine r_goto h 45 dX3_value_113 rfl ?_
            exact r_lv [2, 3, 4] rfl (ih _ x0 x1 x2 hx1 hx2)
          · refine r_bipush h dX3_value_102 (by decide) ?_
            refine r_goto h 109 dX3_value_104 rfl ?_
            refine r_iload_n h 1 dX3_value_109 rfl rfl ?_
            refine r_ck (fun ht43 => ?_)
            refine c_callV (x := x0) h hc (As := [iv 32, iv r29]) (fun o1 e1 => u_X3_keep _ x0 32 r29 (by decide) hr31 o1 e1) [3] ht43 (by decide) q901 q903 (fun t ht => by cases List.mem_singleton.mp ht; exact qs23) q904 q138 (by omega) (by omega) zc_s0 (by omega) (fun z hz => by cases hz) ⟨by decide, by decide⟩ (n := 2) (by decide +kernel) rfl rfl dX3_value_110 (fun _ μ44 _ => r_k0 ?_)
            refine r_goto h 45 dX3_value_113 rfl ?_
            exact r_lv [2, 3, 4] rfl (ih _ x0 x1 x2 hx1 hx2)
        · refine r_iload h 0 dX3_value_107 rfl ?_
          refine r_iload_n h 1 dX3_value_109 rfl rfl ?_
          refine c_callV (x := x0) h hc (As := [iv r33, iv r29]) (fun o1 e1 => u_X3_keep _ x0 r33 r29 hr35 hr31 o1 e1) [3] ht36 (by decide) q901 q903 (fun t ht => by cases List.mem_singleton.mp ht; exact qs23) q904 q138 (by omega) (by omega) zc_s0 (by omega) (fun z hz => by cases hz) ⟨by decide, by decide⟩ (n := 2) (by decide +kernel) rfl rfl dX3_value_110 (fun _ μ45 _ => r_k0 ?_)
          refine r_goto h 45 dX3_value_113 rfl ?_
          exact r_lv [2, 3, 4] rfl (ih _ x0 x1 x2 hx1 hx2)
def c_X3_value_30 (μ : MEM) (x0 x1 : Int) : Option zc_O := ck (zt [3] (μ x0 (-1)) = true) (bc (c_X2_place μ x0) (fun r2 μ3 => ck (inR (r2 + 1)) (ck (zt [3] (μ3 x0 (-1)) = true) (bc (c_X2_goTo μ3 x0 (r2 + 1)) (fun _ μ7 => ck (zt [3] (μ7 x0 (-1)) = true) (c_X3_value_45 zF μ7 x0 x1 (μ7 x0 6)))))))
theorem u_X3_value_30 {C : zv_Cx zc_O} {G : zc_G} {μ0 : MEM} (h : zv_Ok C cX3_value "TreePress$Parser") (hc : zc_C C G μ0 5 (Option.some (FieldType.array FieldType.byte)) 4 9 186 "value" []) (μ : MEM) (x0 x1 : Int) (hx1 : inR x1) : VV C (c_X3_value_30 μ x0 x1) μ [(0, zc_rv G x0), (1, iv x1)] [] 30 := by
  have hN : ∀ i, i < 5 → i < zv_n C := fun i q => by rw [hc.2.1]; exact q
  unfold c_X3_value_30
  refine c_aload_n (x := x0) h 0 dX3_value_30 rfl rfl ?_
  refine c_aload_n (x := x0) h 0 dX3_value_31 rfl rfl ?_
  refine r_ck (fun ht1 => ?_)
  refine c_callU (x := x0) (xm := ⟨"TreePress$Parser", "place", "()I"⟩) (owner := "TreePress$Reader") h hc (As := []) (fun o1 e1 => u_X2_place _ x0 o1 e1) [3] ht1 (by decide) q483 q484 (va_Decl.of (h.2.2.2.2 _ q487) (h.2.2.2.2 _ q488)) ⟨by decide, by decide⟩ q487 (fun t ht => by cases List.mem_singleton.mp ht; exact q486) q488 q137 (by omega) (by omega) (zc_sc (zc_rv_cat G _) zc_s0) (by omega) (fun z hz => by cases hz) (n := 0) (by decide +kernel) rfl rfl dX3_value_32 (fun r2 μ3 hr4 => r_k1 ?_)
  refine r_iconst h dX3_value_35 ?_
  refine r_iadd h dX3_value_36 ?_
  refine r_ck (fun hk5 => ?_)
  refine r_ck (fun ht6 => ?_)
  refine c_callU (x := x0) (xm := ⟨"TreePress$Parser", "goTo", "(I)V"⟩) (owner := "TreePress$Reader") h hc (As := [iv (r2 + 1)]) (fun o1 e1 => u_X2_goTo _ x0 (r2 + 1) hk5 o1 e1) [3] ht6 (by decide) q498 q499 (va_Decl.of (h.2.2.2.2 _ q502) (h.2.2.2.2 _ q503)) ⟨by decide, by decide⟩ q502 (fun t ht => by cases List.mem_singleton.mp ht; exact q501) q503 q137 (by omega) (by omega) zc_s0 (by omega) (fun z hz => by cases hz) (n := 1) (by decide +kernel) rfl rfl dX3_value_37 (fun _ μ7 _ => r_k0 ?_)
  refine c_aload_n (x := x0) h 0 dX3_value_40 rfl rfl ?_
  refine r_ck (fun ht8 => ?_)
  refine c_getI (fin := false) h hc [3] 6 (zc_lk1 h q449) ht8 (by decide) dX3_value_41 (fun hr9 => ?_)
  refine r_istore_n (i := 2) (lv' := [(2, iv (μ7 x0 6)), (0, zc_rv G x0), (1, iv x1)]) h dX3_value_44 rfl (hN _ (by decide)) rfl ?_
  exact r_lv [1, 2, 0] rfl (u_X3_value_45 h hc zF _ x0 x1 (μ7 x0 6) hx1 hr9)
def c_X3_value (μ : MEM) (a0 : Int) : Option zc_O := ck (zt [3] (μ a0 (-1)) = true) (bc (c_X2_here μ a0) (fun r2 μ3 => if r2 = 34 then (c_X3_value_30 μ3 a0 r2) else (if r2 = 39 then (c_X3_value_30 μ3 a0 r2) else (ck (1 ≤ μ3 0 1 ∧ (8 : Int) ≤ μ3 0 2) (nu (mnew μ3 22 0 8) (fun μ5 => ck (zt [3] (μ5 a0 (-1)) = true) (bc (c_X2_place μ5 a0) (fun r8 μ9 => ck (zt [22] (μ9 (μ3 0 0) (-1)) = true) (bc (b_finit μ9 (μ3 0 0) (-1) r8) (fun _ μ12 => ck (0 < (μ3 0 0)) (some (1, (μ3 0 0), μ12))))))))))))
theorem u_X3_value {G : zc_G} (μ : MEM) (a0 : Int) (o : zc_O) (hd : c_X3_value μ a0 = some o) : zc_Met G yX3_value cX3_value 5 (Option.some (FieldType.array FieldType.byte)) 4 9 186 μ [zc_rv G a0] o := by
  refine zc_intro hd (by decide) (by simp [lg_sl, zc_rv_cat, iv_cat, jv_cat]) (lv := [(0, zc_rv G a0)]) (by simp [lv_args, zc_rv_cat, iv_cat, jv_cat]) (fun C h hc => ?_)
  have h : zv_Ok C cX3_value "TreePress$Parser" := h
  have hc : zc_C C G μ 5 (Option.some (FieldType.array FieldType.byte)) 4 9 186 "value" [] := hc
  have hN : ∀ i, i < 5 → i < zv_n C := fun i q => by rw [hc.2.1]; exact q
  unfold c_X3_value
  refine c_aload_n (x := a0) h 0 dX3_value_0 rfl rfl ?_
  refine r_ck (fun ht1 => ?_)
  refine c_callU (x := a0) (xm := ⟨"TreePress$Parser", "here", "()I"⟩) (owner := "TreePress$Reader") h hc (As := []) (fun o1 e1 => u_X2_here _ a0 o1 e1) [3] ht1 (by decide) q489 q490 (va_Decl.of (h.2.2.2.2 _ q493) (h.2.2.2.2 _ q494)) ⟨by decide, by decide⟩ q493 (fun t ht => by cases List.mem_singleton.mp ht; exact q492) q494 q137 (by omega) (by omega) zc_s0 (by omega) (fun z hz => by cases hz) (n := 0) (by decide +kernel) rfl rfl dX3_value_1 (fun r2 μ3 hr4 => r_k1 ?_)
  refine r_istore_n (i := 1) (lv' := [(1, iv r2), (0, zc_rv G a0)]) h dX3_value_4 rfl (hN _ (by decide)) (by simp [zc_rv_cat]) ?_
  refine r_iload_n h 0 dX3_value_5 rfl rfl ?_
  refine r_bipush h dX3_value_6 (by decide) ?_
  refine r_icmp_eq (x := r2) (y := 34) h hr4 (by decide) 30 dX3_value_8 rfl ?_ ?_
  · exact r_lv [1, 0] rfl (u_X3_value_30 h hc _ a0 r2 hr4)
  · refine r_iload_n h 0 dX3_value_11 rfl rfl ?_
    refine r_bipush h dX3_value_12 (by decide) ?_
    refine r_icmp_eq (x := r2) (y := 39) h hr4 (by decide) 30 dX3_value_14 rfl ?_ ?_
    · exact r_lv [1, 0] rfl (u_X3_value_30 h hc _ a0 r2 hr4)
    · refine c_newF h hc q650 q577 q153 dX3_value_17 (fun _ μ5 he6 => ?_)
      refine r_dup h dX3_value_20 (zc_rv_cat G _) ?_
      refine r_iconst h dX3_value_21 ?_
      refine c_aload_n (x := a0) h 1 dX3_value_22 rfl rfl ?_
      refine r_ck (fun ht7 => ?_)
      refine c_callU (x := a0) (xm := ⟨"TreePress$Parser", "place", "()I"⟩) (owner := "TreePress$Reader") h hc (As := []) (fun o1 e1 => u_X2_place _ a0 o1 e1) [3] ht7 (by decide) q483 q484 (va_Decl.of (h.2.2.2.2 _ q487) (h.2.2.2.2 _ q488)) ⟨by decide, by decide⟩ q487 (fun t ht => by cases List.mem_singleton.mp ht; exact q486) q488 q137 (by omega) (by omega) (zc_sc (iv_cat _) (zc_sc (zc_rv_cat G _) (zc_sc (zc_rv_cat G _) zc_s0))) (by omega) (fun z hz => by cases hz) (n := 0) (by decide +kernel) rfl rfl dX3_value_23 (fun r8 μ9 hr10 => r_k1 ?_)
      refine r_ck (fun ht11 => ?_)
      refine c_callI (x := (μ3 0 0)) h hc (As := [iv (-1), iv r8]) (fun o1 e1 => w_finit _ (μ3 0 0) (-1) r8 (by decide) hr10 o1 e1) [22] ht11 (by decide) q651 q616 rfl q617 q153 (by omega) (by omega) (zc_sc (zc_rv_cat G _) zc_s0) (by omega) (fun z hz => by cases hz) ⟨by decide, by decide⟩ (n := 2) (by decide +kernel) rfl rfl dX3_value_26 (fun _ μ12 _ => r_k0 ?_)
      exact c_athrow h hc (fun z hz => by cases hz) dX3_value_29
theorem dX12_init_0 : decode cX12_init 0 = .ok (.aload_n 0, 1) := by decide +kernel
theorem dX12_init_1 : decode cX12_init 1 = .ok (.invokespecial 1, 3) := by decide +kernel
theorem dX12_init_4 : decode cX12_init 4 = .ok (.aload_n 0, 1) := by decide +kernel
theorem dX12_init_5 : decode cX12_init 5 = .ok (.aload_n 1, 1) := by decide +kernel
theorem dX12_init_6 : decode cX12_init 6 = .ok (.putfield 7, 3) := by decide +kernel
theorem dX12_init_9 : decode cX12_init 9 = .ok (.return_, 1) := by decide +kernel
def c_X12_init (μ : MEM) (a0 a1 : Int) : Option zc_O := ck (zt [13, 14] (μ a0 (-1)) = true) (bc (c_X5_init μ a0) (fun _ μ2 => ck (zt [13, 14] (μ2 a0 (-1)) = true) (nu (mup μ2 a0 6 a1) (fun μ4 => some (0, 0, μ4)))))
theorem u_X12_init {G : zc_G} (μ : MEM) (a0 a1 : Int) (o : zc_O) (hd : c_X12_init μ a0 a1 = some o) : zc_Met G yX12_init cX12_init 2 (Option.none : Option FieldType) 0 2 40 μ [zc_rv G a0, zc_rv G a1] o := by
  refine zc_intro hd (by decide) (by simp [lg_sl, zc_rv_cat, iv_cat, jv_cat]) (lv := [(0, zc_rv G a0), (1, zc_rv G a1)]) (by simp [lv_args, zc_rv_cat, iv_cat, jv_cat]) (fun C h hc => ?_)
  have h : zv_Ok C cX12_init "TreePress$Row" := h
  have hc : zc_C C G μ 2 (Option.none : Option FieldType) 0 2 40 "<init>" [] := hc
  have hN : ∀ i, i < 2 → i < zv_n C := fun i q => by rw [hc.2.1]; exact q
  unfold c_X12_init
  refine c_aload_n (x := a0) h 0 dX12_init_0 rfl rfl ?_
  refine r_ck (fun ht1 => ?_)
  refine c_callIN (x := a0) h hc (As := []) (fun o1 e1 => u_X5_init _ a0 o1 e1) [13, 14] ht1 (by decide) (host := "TreePress") (by decide) q297 rfl q298 q141 (by omega) (by omega) zc_s0 (by omega) (fun z hz => by cases hz) ⟨by decide, by decide⟩ (n := 0) (by decide +kernel) rfl rfl dX12_init_1 (fun _ μ2 _ => r_k0 ?_)
  refine c_aload_n (x := a0) h 0 dX12_init_4 rfl rfl ?_
  refine c_aload_n (x := a1) h 1 dX12_init_5 rfl rfl ?_
  refine r_ck (fun ht3 => ?_)
  refine c_putR (x := a0) (y := a1) h hc [13, 14] 6 true (zc_lk1 h q974) ht3 (by decide) (Or.inr ⟨rfl, rfl, rfl⟩) (ty := (.array .byte)) (by decide +kernel) (Or.inr ⟨_, rfl⟩) dX12_init_6 (fun μ4 he5 => ?_)
  exact c_vret h hc rfl dX12_init_9
theorem dX13_init_0 : decode cX13_init 0 = .ok (.aload_n 0, 1) := by decide +kernel
theorem dX13_init_1 : decode cX13_init 1 = .ok (.aload_n 2, 1) := by decide +kernel
theorem dX13_init_2 : decode cX13_init 2 = .ok (.invokespecial 1, 3) := by decide +kernel
theorem dX13_init_5 : decode cX13_init 5 = .ok (.aload_n 0, 1) := by decide +kernel
theorem dX13_init_6 : decode cX13_init 6 = .ok (.aload_n 1, 1) := by decide +kernel
theorem dX13_init_7 : decode cX13_init 7 = .ok (.putfield 7, 3) := by decide +kernel
theorem dX13_init_10 : decode cX13_init 10 = .ok (.aload_n 0, 1) := by decide +kernel
theorem dX13_init_11 : decode cX13_init 11 = .ok (.iload_n 3, 1) := by decide +kernel
theorem dX13_init_12 : decode cX13_init 12 = .ok (.putfield 13, 3) := by decide +kernel
theorem dX13_init_15 : decode cX13_init 15 = .ok (.return_, 1) := by decide +kernel
def c_X13_init (μ : MEM) (a0 a1 a2 a3 : Int) : Option zc_O := ck (zt [13] (μ a0 (-1)) = true) (bc (c_X12_init μ a0 a2) (fun _ μ2 => ck (zt [13] (μ2 a0 (-1)) = true) (nu (mup μ2 a0 7 a1) (fun μ4 => nu (mup μ4 a0 8 a3) (fun μ6 => some (0, 0, μ6))))))
theorem u_X13_init {G : zc_G} (μ : MEM) (a0 a1 a2 a3 : Int) (ha3 : isB a3) (o : zc_O) (hd : c_X13_init μ a0 a1 a2 a3 = some o) : zc_Met G yX13_init cX13_init 4 (Option.none : Option FieldType) 0 3 61 μ [zc_rv G a0, zc_rv G a1, zc_rv G a2, iv a3] o := by
  refine zc_intro hd (by decide) (by simp [lg_sl, zc_rv_cat, iv_cat, jv_cat]) (lv := [(0, zc_rv G a0), (1, zc_rv G a1), (2, zc_rv G a2), (3, iv a3)]) (by simp [lv_args, zc_rv_cat, iv_cat, jv_cat]) (fun C h hc => ?_)
  have h : zv_Ok C cX13_init "TreePress$Attribute" := h
  have hc : zc_C C G μ 4 (Option.none : Option FieldType) 0 3 61 "<init>" [] := hc
  have hN : ∀ i, i < 4 → i < zv_n C := fun i q => by rw [hc.2.1]; exact q
  unfold c_X13_init
  refine c_aload_n (x := a0) h 0 dX13_init_0 rfl rfl ?_
  refine c_aload_n (x := a2) h 2 dX13_init_1 rfl rfl ?_
  refine r_ck (fun ht1 => ?_)
  refine c_callI (x := a0) h hc (As := [zc_rv G a2]) (fun o1 e1 => u_X12_init _ a0 a2 o1 e1) [13] ht1 (by decide) q963 q964 rfl q965 q159 (by omega) (by omega) zc_s0 (by omega) (fun z hz => by cases hz) ⟨by decide, by decide⟩ (n := 1) (by decide +kernel) rfl rfl dX13_init_2 (fun _ μ2 _ => r_k0 ?_)
  refine c_aload_n (x := a0) h 0 dX13_init_5 rfl rfl ?_
  refine c_aload_n (x := a1) h 1 dX13_init_6 rfl rfl ?_
  refine r_ck (fun ht3 => ?_)
  refine c_putR (x := a0) (y := a1) h hc [13] 7 true (zc_lk1 h q967) ht3 (by decide) (Or.inr ⟨rfl, rfl, rfl⟩) (ty := (.array .byte)) (by decide +kernel) (Or.inr ⟨_, rfl⟩) dX13_init_7 (fun μ4 he5 => ?_)
  refine c_aload_n (x := a0) h 0 dX13_init_10 rfl rfl ?_
  refine r_iload_n h 3 dX13_init_11 rfl rfl ?_
  refine c_putZ (x := a0) (y := a3) h hc [13] 8 true (zc_lk1 h q971) (zt_mup he5 (by decide) ht3) (by decide) (Or.inr ⟨rfl, rfl, rfl⟩) ha3 dX13_init_12 (fun μ6 he7 => ?_)
  exact c_vret h hc rfl dX13_init_15
theorem dX3_attribute_0 : decode cX3_attribute 0 = .ok (.aload_n 0, 1) := by decide +kernel
theorem dX3_attribute_1 : decode cX3_attribute 1 = .ok (.invokevirtual 31, 3) := by decide +kernel
theorem dX3_attribute_4 : decode cX3_attribute 4 = .ok (.istore_n 2, 1) := by decide +kernel
theorem dX3_attribute_5 : decode cX3_attribute 5 = .ok (.aload_n 0, 1) := by decide +kernel
theorem dX3_attribute_6 : decode cX3_attribute 6 = .ok (.invokevirtual 113, 3) := by decide +kernel
theorem dX3_attribute_9 : decode cX3_attribute 9 = .ok (.astore_n 3, 1) := by decide +kernel
theorem dX3_attribute_10 : decode cX3_attribute 10 = .ok (.aload_n 1, 1) := by decide +kernel
theorem dX3_attribute_11 : decode cX3_attribute 11 = .ok (.aload_n 3, 1) := by decide +kernel
theorem dX3_attribute_12 : decode cX3_attribute 12 = .ok (.invokevirtual 357, 3) := by decide +kernel
theorem dX3_attribute_15 : decode cX3_attribute 15 = .ok (.ifnull 14, 3) := by decide +kernel
theorem dX3_attribute_18 : decode cX3_attribute 18 = .ok (.new 50, 3) := by decide +kernel
theorem dX3_attribute_21 : decode cX3_attribute 21 = .ok (.dup, 1) := by decide +kernel
theorem dX3_attribute_22 : decode cX3_attribute 22 = .ok (.bipush (-2), 2) := by decide +kernel
theorem dX3_attribute_24 : decode cX3_attribute 24 = .ok (.iload_n 2, 1) := by decide +kernel
theorem dX3_attribute_25 : decode cX3_attribute 25 = .ok (.invokespecial 52, 3) := by decide +kernel
theorem dX3_attribute_28 : decode cX3_attribute 28 = .ok (.athrow, 1) := by decide +kernel
theorem dX3_attribute_29 : decode cX3_attribute 29 = .ok (.aload_n 1, 1) := by decide +kernel
theorem dX3_attribute_30 : decode cX3_attribute 30 = .ok (.getfield 360, 3) := by decide +kernel
theorem dX3_attribute_33 : decode cX3_attribute 33 = .ok (.invokevirtual 94, 3) := by decide +kernel
theorem dX3_attribute_36 : decode cX3_attribute 36 = .ok (.bipush 8, 2) := by decide +kernel
theorem dX3_attribute_38 : decode cX3_attribute 38 = .ok (.if_icmp .eq 19, 3) := by decide +kernel
theorem dX3_attribute_41 : decode cX3_attribute 41 = .ok (.aload_n 0, 1) := by decide +kernel
theorem dX3_attribute_42 : decode cX3_attribute 42 = .ok (.getfield 14, 3) := by decide +kernel
theorem dX3_attribute_45 : decode cX3_attribute 45 = .ok (.getfield 91, 3) := by decide +kernel
theorem dX3_attribute_48 : decode cX3_attribute 48 = .ok (.invokevirtual 94, 3) := by decide +kernel
theorem dX3_attribute_51 : decode cX3_attribute 51 = .ok (.sipush 600, 3) := by decide +kernel
theorem dX3_attribute_54 : decode cX3_attribute 54 = .ok (.if_icmp .ne 14, 3) := by decide +kernel
theorem dX3_attribute_57 : decode cX3_attribute 57 = .ok (.new 50, 3) := by decide +kernel
theorem dX3_attribute_60 : decode cX3_attribute 60 = .ok (.dup, 1) := by decide +kernel
theorem dX3_attribute_61 : decode cX3_attribute 61 = .ok (.bipush (-3), 2) := by decide +kernel
theorem dX3_attribute_63 : decode cX3_attribute 63 = .ok (.iload_n 2, 1) := by decide +kernel
theorem dX3_attribute_64 : decode cX3_attribute 64 = .ok (.invokespecial 52, 3) := by decide +kernel
theorem dX3_attribute_67 : decode cX3_attribute 67 = .ok (.athrow, 1) := by decide +kernel
theorem dX3_attribute_68 : decode cX3_attribute 68 = .ok (.aload_n 0, 1) := by decide +kernel
theorem dX3_attribute_69 : decode cX3_attribute 69 = .ok (.invokevirtual 46, 3) := by decide +kernel
theorem dX3_attribute_72 : decode cX3_attribute 72 = .ok (.pop, 1) := by decide +kernel
theorem dX3_attribute_73 : decode cX3_attribute 73 = .ok (.aload_n 0, 1) := by decide +kernel
theorem dX3_attribute_74 : decode cX3_attribute 74 = .ok (.ldc_w 363, 3) := by decide +kernel
theorem dX3_attribute_77 : decode cX3_attribute 77 = .ok (.invokevirtual 57, 3) := by decide +kernel
theorem dX3_attribute_80 : decode cX3_attribute 80 = .ok (.aload_n 0, 1) := by decide +kernel
theorem dX3_attribute_81 : decode cX3_attribute 81 = .ok (.invokevirtual 46, 3) := by decide +kernel
theorem dX3_attribute_84 : decode cX3_attribute 84 = .ok (.pop, 1) := by decide +kernel
theorem dX3_attribute_85 : decode cX3_attribute 85 = .ok (.new 365, 3) := by decide +kernel
theorem dX3_attribute_88 : decode cX3_attribute 88 = .ok (.dup, 1) := by decide +kernel
theorem dX3_attribute_89 : decode cX3_attribute 89 = .ok (.aload_n 3, 1) := by decide +kernel
theorem dX3_attribute_90 : decode cX3_attribute 90 = .ok (.aload_n 0, 1) := by decide +kernel
theorem dX3_attribute_91 : decode cX3_attribute 91 = .ok (.invokevirtual 275, 3) := by decide +kernel
theorem dX3_attribute_94 : decode cX3_attribute 94 = .ok (.iconst 0, 1) := by decide +kernel
theorem dX3_attribute_95 : decode cX3_attribute 95 = .ok (.invokespecial 367, 3) := by decide +kernel
theorem dX3_attribute_98 : decode cX3_attribute 98 = .ok (.astore 4, 2) := by decide +kernel
theorem dX3_attribute_100 : decode cX3_attribute 100 = .ok (.aload_n 0, 1) := by decide +kernel
theorem dX3_attribute_101 : decode cX3_attribute 101 = .ok (.aload 4, 2) := by decide +kernel
theorem dX3_attribute_103 : decode cX3_attribute 103 = .ok (.aload_n 1, 1) := by decide +kernel
theorem dX3_attribute_104 : decode cX3_attribute 104 = .ok (.iload_n 2, 1) := by decide +kernel
theorem dX3_attribute_105 : decode cX3_attribute 105 = .ok (.invokevirtual 327, 3) := by decide +kernel
theorem dX3_attribute_108 : decode cX3_attribute 108 = .ok (.aload_n 1, 1) := by decide +kernel
theorem dX3_attribute_109 : decode cX3_attribute 109 = .ok (.getfield 360, 3) := by decide +kernel
theorem dX3_attribute_112 : decode cX3_attribute 112 = .ok (.aload 4, 2) := by decide +kernel
theorem dX3_attribute_114 : decode cX3_attribute 114 = .ok (.invokevirtual 152, 3) := by decide +kernel
theorem dX3_attribute_117 : decode cX3_attribute 117 = .ok (.pop, 1) := by decide +kernel
theorem dX3_attribute_118 : decode cX3_attribute 118 = .ok (.return_, 1) := by decide +kernel
def c_X3_attribute (μ : MEM) (a0 a1 : Int) : Option zc_O := ck (zt [3] (μ a0 (-1)) = true) (bc (c_X2_place μ a0) (fun r2 μ3 => ck (zt [3] (μ3 a0 (-1)) = true) (bc (c_X2_name μ3 a0) (fun r6 μ7 => ck (zt [11] (μ7 a1 (-1)) = true) (bc (c_X11_attribute μ7 a1 r6) (fun r10 μ11 => if r10 = 0 then (ck (zt [11] (μ11 a1 (-1)) = true) (ck (zt [40] (μ11 (μ11 a1 5) (-1)) = true) (bc (b_lsize μ11 (μ11 a1 5)) (fun r15 μ16 => if r15 = 8 then (ck (1 ≤ μ16 0 1 ∧ (8 : Int) ≤ μ16 0 2) (nu (mnew μ16 22 0 8) (fun μ18 => bc (b_finit μ18 (μ16 0 0) (-3) r2) (fun _ μ20 => ck (0 < (μ16 0 0)) (some (1, (μ16 0 0), μ20)))))) else (ck (zt [3] (μ16 a0 (-1)) = true) (ck (zt [4] (μ16 (μ16 a0 3) (-1)) = true) (ck (zt [40] (μ16 (μ16 (μ16 a0 3) 1) (-1)) = true) (bc (b_lsize μ16 (μ16 (μ16 a0 3) 1)) (fun r24 μ25 => if r24 = 600 then (ck (1 ≤ μ25 0 1 ∧ (8 : Int) ≤ μ25 0 2) (nu (mnew μ25 22 0 8) (fun μ27 => bc (b_finit μ27 (μ25 0 0) (-3) r2) (fun _ μ29 => ck (0 < (μ25 0 0)) (some (1, (μ25 0 0), μ29)))))) else (ck (zt [3] (μ25 a0 (-1)) = true) (bc (c_X3_space μ25 a0) (fun r31 μ32 => ck (zt [3] (μ32 a0 (-1)) = true) (bc (c_X2_must μ32 a0 (-29)) (fun _ μ35 => ck (zt [3] (μ35 a0 (-1)) = true) (bc (c_X3_space μ35 a0) (fun r37 μ38 => ck (1 ≤ μ38 0 1 ∧ (5 : Int) ≤ μ38 0 2) (nu (mnew μ38 13 0 5) (fun μ40 => ck (zt [3] (μ40 a0 (-1)) = true) (bc (c_X3_value μ40 a0) (fun r43 μ44 => ck (zt [13] (μ44 (μ38 0 0) (-1)) = true) (bc (c_X13_init μ44 (μ38 0 0) r6 r43 0) (fun _ μ47 => ck (zt [3] (μ47 a0 (-1)) = true) (bc (c_X3_add μ47 a0 (μ38 0 0) a1 r2) (fun _ μ49 => ck (zt [11] (μ49 a1 (-1)) = true) (ck (zt [40] (μ49 (μ49 a1 5) (-1)) = true) (bc (b_ladd μ49 (μ49 a1 5) (μ38 0 0)) (fun r52 μ53 => some (0, 0, μ53)))))))))))))))))))))))))))) else (ck (1 ≤ μ11 0 1 ∧ (8 : Int) ≤ μ11 0 2) (nu (mnew μ11 22 0 8) (fun μ55 => bc (b_finit μ55 (μ11 0 0) (-2) r2) (fun _ μ57 => ck (0 < (μ11 0 0)) (some (1, (μ11 0 0), μ57))))))))))))
theorem u_X3_attribute {G : zc_G} (μ : MEM) (a0 a1 : Int) (o : zc_O) (hd : c_X3_attribute μ a0 a1 = some o) : zc_Met G yX3_attribute cX3_attribute 5 (Option.none : Option FieldType) 0 10 210 μ [zc_rv G a0, zc_rv G a1] o := by
  refine zc_intro hd (by decide) (by simp [lg_sl, zc_rv_cat, iv_cat, jv_cat]) (lv := [(0, zc_rv G a0), (1, zc_rv G a1)]) (by simp [lv_args, zc_rv_cat, iv_cat, jv_cat]) (fun C h hc => ?_)
  have h : zv_Ok C cX3_attribute "TreePress$Parser" := h
  have hc : zc_C C G μ 5 (Option.none : Option FieldType) 0 10 210 "attribute" [] := hc
  have hN : ∀ i, i < 5 → i < zv_n C := fun i q => by rw [hc.2.1]; exact q
  unfold c_X3_attribute
  refine c_aload_n (x := a0) h 0 dX3_attribute_0 rfl rfl ?_
  refine r_ck (fun ht1 => ?_)
  refine c_callU (x := a0) (xm := ⟨"TreePress$Parser", "place", "()I"⟩) (owner := "TreePress$Reader") h hc (As := []) (fun o1 e1 => u_X2_place _ a0 o1 e1) [3] ht1 (by decide) q483 q484 (va_Decl.of (h.2.2.2.2 _ q487) (h.2.2.2.2 _ q488)) ⟨by decide, by decide⟩ q487 (fun t ht => by cases List.mem_singleton.mp ht; exact q486) q488 q137 (by omega) (by omega) zc_s0 (by omega) (fun z hz => by cases hz) (n := 0) (by decide +kernel) rfl rfl dX3_attribute_1 (fun r2 μ3 hr4 => r_k1 ?_)
  refine r_istore_n (i := 2) (lv' := [(2, iv r2), (0, zc_rv G a0), (1, zc_rv G a1)]) h dX3_attribute_4 rfl (hN _ (by decide)) (by simp [zc_rv_cat]) ?_
  refine c_aload_n (x := a0) h 1 dX3_attribute_5 rfl rfl ?_
  refine r_ck (fun ht5 => ?_)
  refine c_callU (x := a0) (xm := ⟨"TreePress$Parser", "name", "()[B"⟩) (owner := "TreePress$Reader") h hc (As := []) (fun o1 e1 => u_X2_name _ a0 o1 e1) [3] ht5 (by decide) q662 q663 (va_Decl.of (h.2.2.2.2 _ q666) (h.2.2.2.2 _ q667)) ⟨by decide, by decide⟩ q666 (fun t ht => by cases List.mem_singleton.mp ht; exact q665) q667 q137 (by omega) (by omega) zc_s0 (by omega) (fun z hz => by cases hz) (n := 0) (by decide +kernel) rfl rfl dX3_attribute_6 (fun r6 μ7 hr8 => r_k4 ?_)
  refine c_astore_n (i := 3) (lv' := [(3, zc_rv G r6), (2, iv r2), (0, zc_rv G a0), (1, zc_rv G a1)]) h dX3_attribute_9 rfl (hN _ (by decide)) rfl ?_
  refine c_aload_n (x := a1) h 3 dX3_attribute_10 rfl rfl ?_
  refine c_aload_n (x := r6) h 0 dX3_attribute_11 rfl rfl ?_
  refine r_ck (fun ht9 => ?_)
  refine c_callV (x := a1) h hc (As := [zc_rv G r6]) (fun o1 e1 => u_X11_attribute _ a1 r6 o1 e1) [11] ht9 (by decide) q949 q950 (fun t ht => by cases List.mem_singleton.mp ht; exact q951) q952 q158 (by omega) (by omega) zc_s0 (by omega) (fun z hz => by cases hz) ⟨by decide, by decide⟩ (n := 1) (by decide +kernel) rfl rfl dX3_attribute_12 (fun r10 μ11 hr12 => r_k4 ?_)
  refine c_ifnull (x := r10) h 29 dX3_attribute_15 rfl ?_ ?_
  · refine c_aload_n (x := a1) h 3 dX3_attribute_29 rfl rfl ?_
    refine r_ck (fun ht13 => ?_)
    refine c_getR (fin := true) h hc [11] 5 (zc_lk3 hc (O := "TreePress$Element") (n := "attributes") (ds := "Ljava/util/ArrayList;") (host := "TreePress") (by decide)) ht13 (by decide) dX3_attribute_30 ?_
    refine r_ck (fun ht14 => ?_)
    refine c_callV (x := (μ11 a1 5)) h hc (As := []) (fun o1 e1 => w_lsize _ (μ11 a1 5) o1 e1) [40] ht14 (by decide) q695 q343 (fun t ht => by cases List.mem_singleton.mp ht; exact q344) q345 q135 (by omega) (by omega) zc_s0 (by omega) (fun z hz => by cases hz) ⟨by decide, by decide⟩ (n := 0) (by decide +kernel) rfl rfl dX3_attribute_33 (fun r15 μ16 hr17 => r_k1 ?_)
    refine r_bipush h dX3_attribute_36 (by decide) ?_
    refine r_icmp_eq (x := r15) (y := 8) h hr17 (by decide) 57 dX3_attribute_38 rfl ?_ ?_
    · refine c_newF h hc q650 q577 q153 dX3_attribute_57 (fun _ μ18 he19 => ?_)
      refine r_dup h dX3_attribute_60 (zc_rv_cat G _) ?_
      refine r_bipush h dX3_attribute_61 (by decide) ?_
      refine r_iload_n h 1 dX3_attribute_63 rfl rfl ?_
      refine c_callI (x := (μ16 0 0)) h hc (As := [iv (-3), iv r2]) (fun o1 e1 => w_finit _ (μ16 0 0) (-3) r2 (by decide) hr4 o1 e1) [22] (zt_nw he19) (by decide) q651 q616 rfl q617 q153 (by omega) (by omega) (zc_sc (zc_rv_cat G _) zc_s0) (by omega) (fun z hz => by cases hz) ⟨by decide, by decide⟩ (n := 2) (by decide +kernel) rfl rfl dX3_attribute_64 (fun _ μ20 _ => r_k0 ?_)
      exact c_athrow h hc (fun z hz => by cases hz) dX3_attribute_67
    · refine c_aload_n (x := a0) h 2 dX3_attribute_41 rfl rfl ?_
      refine r_ck (fun ht21 => ?_)
      refine c_getR (fin := true) h hc [3] 3 (zc_lk1 h q446) ht21 (by decide) dX3_attribute_42 ?_
      refine r_ck (fun ht22 => ?_)
      refine c_getR (fin := true) h hc [4] 1 (zc_lk3 hc (O := "TreePress$Document") (n := "nodes") (ds := "Ljava/util/ArrayList;") (host := "TreePress") (by decide)) ht22 (by decide) dX3_attribute_45 ?_
      refine r_ck (fun ht23 => ?_)
      refine c_callV (x := (μ16 (μ16 a0 3) 1)) h hc (As := []) (fun o1 e1 => w_lsize _ (μ16 (μ16 a0 3) 1) o1 e1) [40] ht23 (by decide) q695 q343 (fun t ht => by cases List.mem_singleton.mp ht; exact q344) q345 q135 (by omega) (by omega) zc_s0 (by omega) (fun z hz => by cases hz) ⟨by decide, by decide⟩ (n := 0) (by decide +kernel) rfl rfl dX3_attribute_48 (fun r24 μ25 hr26 => r_k1 ?_)
      refine r_sipush h dX3_attribute_51 (by decide) ?_
      refine r_icmp_ne (x := r24) (y := 600) h hr26 (by decide) 68 dX3_attribute_54 rfl ?_ ?_
      · refine c_newF h hc q650 q577 q153 dX3_attribute_57 (fun _ μ27 he28 => ?_)
        refine r_dup h dX3_attribute_60 (zc_rv_cat G _) ?_
        refine r_bipush h dX3_attribute_61 (by decide) ?_
        refine r_iload_n h 1 dX3_attribute_63 rfl rfl ?_
        refine c_callI (x := (μ25 0 0)) h hc (As := [iv (-3), iv r2]) (fun o1 e1 => w_finit _ (μ25 0 0) (-3) r2 (by decide) hr4 o1 e1) [22] (zt_nw he28) (by decide) q651 q616 rfl q617 q153 (by omega) (by omega) (zc_sc (zc_rv_cat G _) zc_s0) (by omega) (fun z hz => by cases hz) ⟨by decide, by decide⟩ (n := 2) (by decide +kernel) rfl rfl dX3_attribute_64 (fun _ μ29 _ => r_k0 ?_)
        exact c_athrow h hc (fun z hz => by cases hz) dX3_attribute_67
      · refine c_aload_n (x := a0) h 2 dX3_attribute_68 rfl rfl ?_
        refine r_ck (fun ht30 => ?_)
        refine c_callV (x := a0) h hc (As := []) (fun o1 e1 => u_X3_space _ a0 o1 e1) [3] ht30 (by decide) q479 q481 (fun t ht => by cases List.mem_singleton.mp ht; exact qs5) q482 q138 (by omega) (by omega) zc_s0 (by omega) (fun z hz => by cases hz) ⟨by decide, by decide⟩ (n := 0) (by decide +kernel) rfl rfl dX3_attribute_69 (fun r31 μ32 hr33 => r_k3 ?_)
        refine r_pop h dX3_attribute_72 (iv_cat _) ?_
        refine c_aload_n (x := a0) h 2 dX3_attribute_73 rfl rfl ?_
        refine c_ldcws (tx := "=") h hc 29 (by decide) (-29) rfl (by decide) dX3_attribute_74 ?_
        refine r_ck (fun ht34 => ?_)
        refine c_callU (x := a0) (xm := ⟨"TreePress$Parser", "must", "(Ljava/lang/String;)V"⟩) (owner := "TreePress$Reader") h hc (As := [zc_rv G (-29)]) (fun o1 e1 => u_X2_must _ a0 (-29) o1 e1) [3] ht34 (by decide) q563 q564 (va_Decl.of (h.2.2.2.2 _ q567) (h.2.2.2.2 _ q568)) ⟨by decide, by decide⟩ q567 (fun t ht => by cases List.mem_singleton.mp ht; exact q566) q568 q137 (by omega) (by omega) zc_s0 (by omega) (fun z hz => by cases hz) (n := 1) (by decide +kernel) rfl rfl dX3_attribute_77 (fun _ μ35 _ => r_k0 ?_)
        refine c_aload_n (x := a0) h 2 dX3_attribute_80 rfl rfl ?_
        refine r_ck (fun ht36 => ?_)
        refine c_callV (x := a0) h hc (As := []) (fun o1 e1 => u_X3_space _ a0 o1 e1) [3] ht36 (by decide) q479 q481 (fun t ht => by cases List.mem_singleton.mp ht; exact qs5) q482 q138 (by omega) (by omega) zc_s0 (by omega) (fun z hz => by cases hz) ⟨by decide, by decide⟩ (n := 0) (by decide +kernel) rfl rfl dX3_attribute_81 (fun r37 μ38 hr39 => r_k3 ?_)
        refine r_pop h dX3_attribute_84 (iv_cat _) ?_
        refine c_new h hc 13 (N := 5) rfl (by decide) q958 q959 q160 dX3_attribute_85 (fun _ μ40 he41 => ?_)
        refine r_dup h dX3_attribute_88 (zc_rv_cat G _) ?_
        refine c_aload_n (x := r6) h 0 dX3_attribute_89 rfl rfl ?_
        refine c_aload_n (x := a0) h 2 dX3_attribute_90 rfl rfl ?_
        refine r_ck (fun ht42 => ?_)
        refine c_callV (x := a0) h hc (As := []) (fun o1 e1 => u_X3_value _ a0 o1 e1) [3] ht42 (by decide) q882 q884 (fun t ht => by cases List.mem_singleton.mp ht; exact qs20) q885 q138 (by omega) (by omega) (zc_sc (zc_rv_cat G _) (zc_sc (zc_rv_cat G _) (zc_sc (zc_rv_cat G _) zc_s0))) (by omega) (fun z hz => by cases hz) ⟨by decide, by decide⟩ (n := 0) (by decide +kernel) rfl rfl dX3_attribute_91 (fun r43 μ44 hr45 => r_k4 ?_)
        refine r_iconst h dX3_attribute_94 ?_
        refine r_ck (fun ht46 => ?_)
        refine c_callI (x := (μ38 0 0)) h hc (As := [zc_rv G r6, zc_rv G r43, iv 0]) (fun o1 e1 => u_X13_init _ (μ38 0 0) r6 r43 0 (by decide) o1 e1) [13] ht46 (by decide) q960 q961 rfl q962 q160 (by omega) (by omega) (zc_sc (zc_rv_cat G _) zc_s0) (by omega) (fun z hz => by cases hz) ⟨by decide, by decide⟩ (n := 3) (by decide +kernel) rfl rfl dX3_attribute_95 (fun _ μ47 _ => r_k0 ?_)
        refine c_astore (lv' := [(4, zc_rv G (μ38 0 0)), (3, zc_rv G r6), (2, iv r2), (0, zc_rv G a0), (1, zc_rv G a1)]) h dX3_attribute_98 (hN _ (by decide)) (by simp [zc_rv_cat]) ?_
        refine c_aload_n (x := a0) h 3 dX3_attribute_100 rfl rfl ?_
        refine c_aload (x := (μ38 0 0)) h 0 dX3_attribute_101 rfl ?_
        refine c_aload_n (x := a1) h 4 dX3_attribute_103 rfl rfl ?_
        refine r_iload_n h 2 dX3_attribute_104 rfl rfl ?_
        refine r_ck (fun ht48 => ?_)
        refine c_callV (x := a0) h hc (As := [zc_rv G (μ38 0 0), zc_rv G a1, iv r2]) (fun o1 e1 => u_X3_add _ a0 (μ38 0 0) a1 r2 hr4 o1 e1) [3] ht48 (by decide) q939 q941 (fun t ht => by cases List.mem_singleton.mp ht; exact qs26) q942 q138 (by omega) (by omega) zc_s0 (by omega) (fun z hz => by cases hz) ⟨by decide, by decide⟩ (n := 3) (by decide +kernel) rfl rfl dX3_attribute_105 (fun _ μ49 _ => r_k0 ?_)
        refine c_aload_n (x := a1) h 4 dX3_attribute_108 rfl rfl ?_
        refine r_ck (fun ht50 => ?_)
        refine c_getR (fin := true) h hc [11] 5 (zc_lk3 hc (O := "TreePress$Element") (n := "attributes") (ds := "Ljava/util/ArrayList;") (host := "TreePress") (by decide)) ht50 (by decide) dX3_attribute_109 ?_
        refine c_aload (x := (μ38 0 0)) h 0 dX3_attribute_112 rfl ?_
        refine r_ck (fun ht51 => ?_)
        refine c_callV (x := (μ49 a1 5)) h hc (As := [zc_rv G (μ38 0 0)]) (fun o1 e1 => w_ladd _ (μ49 a1 5) (μ38 0 0) o1 e1) [40] ht51 (by decide) q765 q347 (fun t ht => by cases List.mem_singleton.mp ht; exact q348) q349 q135 (by omega) (by omega) zc_s0 (by omega) (fun z hz => by cases hz) ⟨by decide, by decide⟩ (n := 1) (by decide +kernel) rfl rfl dX3_attribute_114 (fun r52 μ53 hr54 => r_k3 ?_)
        refine r_pop h dX3_attribute_117 (iv_cat _) ?_
        exact c_vret h hc rfl dX3_attribute_118
  · refine c_newF h hc q650 q577 q153 dX3_attribute_18 (fun _ μ55 he56 => ?_)
    refine r_dup h dX3_attribute_21 (zc_rv_cat G _) ?_
    refine r_bipush h dX3_attribute_22 (by decide) ?_
    refine r_iload_n h 1 dX3_attribute_24 rfl rfl ?_
    refine c_callI (x := (μ11 0 0)) h hc (As := [iv (-2), iv r2]) (fun o1 e1 => w_finit _ (μ11 0 0) (-2) r2 (by decide) hr4 o1 e1) [22] (zt_nw he56) (by decide) q651 q616 rfl q617 q153 (by omega) (by omega) (zc_sc (zc_rv_cat G _) zc_s0) (by omega) (fun z hz => by cases hz) ⟨by decide, by decide⟩ (n := 2) (by decide +kernel) rfl rfl dX3_attribute_25 (fun _ μ57 _ => r_k0 ?_)
    exact c_athrow h hc (fun z hz => by cases hz) dX3_attribute_28
theorem dX4_rule_0 : decode cX4_rule 0 = .ok (.iconst 0, 1) := by decide +kernel
theorem dX4_rule_1 : decode cX4_rule 1 = .ok (.istore_n 3, 1) := by decide +kernel
theorem dX4_rule_2 : decode cX4_rule 2 = .ok (.iload_n 3, 1) := by decide +kernel
theorem dX4_rule_3 : decode cX4_rule 3 = .ok (.aload_n 0, 1) := by decide +kernel
theorem dX4_rule_4 : decode cX4_rule 4 = .ok (.getfield 28, 3) := by decide +kernel
theorem dX4_rule_7 : decode cX4_rule 7 = .ok (.invokevirtual 41, 3) := by decide +kernel
theorem dX4_rule_10 : decode cX4_rule 10 = .ok (.if_icmp .ge 63, 3) := by decide +kernel
theorem dX4_rule_13 : decode cX4_rule 13 = .ok (.aload_n 0, 1) := by decide +kernel
theorem dX4_rule_14 : decode cX4_rule 14 = .ok (.getfield 28, 3) := by decide +kernel
theorem dX4_rule_17 : decode cX4_rule 17 = .ok (.iload_n 3, 1) := by decide +kernel
theorem dX4_rule_18 : decode cX4_rule 18 = .ok (.invokevirtual 57, 3) := by decide +kernel
theorem dX4_rule_21 : decode cX4_rule 21 = .ok (.checkcast 71, 3) := by decide +kernel
theorem dX4_rule_24 : decode cX4_rule 24 = .ok (.getfield 73, 3) := by decide +kernel
theorem dX4_rule_27 : decode cX4_rule 27 = .ok (.aload_n 1, 1) := by decide +kernel
theorem dX4_rule_28 : decode cX4_rule 28 = .ok (.invokestatic 67, 3) := by decide +kernel
theorem dX4_rule_31 : decode cX4_rule 31 = .ok (.ifCond .eq 36, 3) := by decide +kernel
theorem dX4_rule_34 : decode cX4_rule 34 = .ok (.aload_n 0, 1) := by decide +kernel
theorem dX4_rule_35 : decode cX4_rule 35 = .ok (.getfield 28, 3) := by decide +kernel
theorem dX4_rule_38 : decode cX4_rule 38 = .ok (.iload_n 3, 1) := by decide +kernel
theorem dX4_rule_39 : decode cX4_rule 39 = .ok (.invokevirtual 57, 3) := by decide +kernel
theorem dX4_rule_42 : decode cX4_rule 42 = .ok (.checkcast 71, 3) := by decide +kernel
theorem dX4_rule_45 : decode cX4_rule 45 = .ok (.getfield 76, 3) := by decide +kernel
theorem dX4_rule_48 : decode cX4_rule 48 = .ok (.aload_n 2, 1) := by decide +kernel
theorem dX4_rule_49 : decode cX4_rule 49 = .ok (.invokestatic 67, 3) := by decide +kernel
theorem dX4_rule_52 : decode cX4_rule 52 = .ok (.ifCond .eq 15, 3) := by decide +kernel
theorem dX4_rule_55 : decode cX4_rule 55 = .ok (.aload_n 0, 1) := by decide +kernel
theorem dX4_rule_56 : decode cX4_rule 56 = .ok (.getfield 28, 3) := by decide +kernel
theorem dX4_rule_59 : decode cX4_rule 59 = .ok (.iload_n 3, 1) := by decide +kernel
theorem dX4_rule_60 : decode cX4_rule 60 = .ok (.invokevirtual 57, 3) := by decide +kernel
theorem dX4_rule_63 : decode cX4_rule 63 = .ok (.checkcast 71, 3) := by decide +kernel
theorem dX4_rule_66 : decode cX4_rule 66 = .ok (.areturn, 1) := by decide +kernel
theorem dX4_rule_67 : decode cX4_rule 67 = .ok (.iinc 3 1, 3) := by decide +kernel
theorem dX4_rule_70 : decode cX4_rule 70 = .ok (.goto (-68), 3) := by decide +kernel
theorem dX4_rule_73 : decode cX4_rule 73 = .ok (.aconst_null, 1) := by decide +kernel
theorem dX4_rule_74 : decode cX4_rule 74 = .ok (.areturn, 1) := by decide +kernel
def c_X4_rule_2 : Nat → MEM → Int → Int → Int → Int → Option zc_O
  | 0, _, _, _, _, _ => none
  | n + 1, μ, x0, x1, x2, x3 => ck (zt [4] (μ x0 (-1)) = true) (ck (zt [40] (μ (μ x0 4) (-1)) = true) (bc (b_lsize μ (μ x0 4)) (fun r3 μ4 => if r3 ≤ x3 then (some (0, 0, μ4)) else (ck (zt [4] (μ4 x0 (-1)) = true) (ck (zt [40] (μ4 (μ4 x0 4) (-1)) = true) (bc (b_lget μ4 (μ4 x0 4) x3) (fun r8 μ9 => ck (zt [10] (μ9 r8 (-1)) = true) (bc (c_X0_isSame μ9 (μ9 r8 0) x1) (fun r12 μ13 => if r12 = 0 then (ck (inR (x3 + 1)) (c_X4_rule_2 n μ13 x0 x1 x2 (x3 + 1))) else (ck (zt [4] (μ13 x0 (-1)) = true) (ck (zt [40] (μ13 (μ13 x0 4) (-1)) = true) (bc (b_lget μ13 (μ13 x0 4) x3) (fun r18 μ19 => ck (zt [10] (μ19 r18 (-1)) = true) (bc (c_X0_isSame μ19 (μ19 r18 1) x2) (fun r22 μ23 => if r22 = 0 then (ck (inR (x3 + 1)) (c_X4_rule_2 n μ23 x0 x1 x2 (x3 + 1))) else (ck (zt [4] (μ23 x0 (-1)) = true) (ck (zt [40] (μ23 (μ23 x0 4) (-1)) = true) (bc (b_lget μ23 (μ23 x0 4) x3) (fun r28 μ29 => ck (zt [10] (μ29 r28 (-1)) = true) (some (0, r28, μ29)))))))))))))))))))))
theorem u_X4_rule_2 {C : zv_Cx zc_O} {G : zc_G} {μ0 : MEM} (h : zv_Ok C cX4_rule "TreePress$Document") (hc : zc_C C G μ0 4 (Option.some (FieldType.object "TreePress$Rule")) 4 3 64 "rule" []) : ∀ (n : Nat) (μ : MEM) (x0 x1 x2 x3 : Int), inR x3 → VV C (c_X4_rule_2 n μ x0 x1 x2 x3) μ [(0, zc_rv G x0), (1, zc_rv G x1), (2, zc_rv G x2), (3, iv x3)] [] 2 := by
  have hN : ∀ i, i < 4 → i < zv_n C := fun i q => by rw [hc.2.1]; exact q
  intro n
  induction n with
  | zero => intros; exact r_none
  | succ n ih =>
    intro μ x0 x1 x2 x3 hx3
    rw [c_X4_rule_2]
    refine r_iload_n h 3 dX4_rule_2 rfl rfl ?_
    refine c_aload_n (x := x0) h 0 dX4_rule_3 rfl rfl ?_
    refine r_ck (fun ht1 => ?_)
    refine c_getR (fin := true) h hc [4] 4 (zc_lk1 h q419) ht1 (by decide) dX4_rule_4 ?_
    refine r_ck (fun ht2 => ?_)
    refine c_callV (x := (μ x0 4)) h hc (As := []) (fun o1 e1 => w_lsize _ (μ x0 4) o1 e1) [40] ht2 (by decide) q342 q343 (fun t ht => by cases List.mem_singleton.mp ht; exact q344) q345 q135 (by omega) (by omega) (zc_sc (iv_cat _) zc_s0) (by omega) (fun z hz => by cases hz) ⟨by decide, by decide⟩ (n := 0) (by decide +kernel) rfl rfl dX4_rule_7 (fun r3 μ4 hr5 => r_k1 ?_)
    refine r_icmp_ge (x := x3) (y := r3) h hx3 hr5 73 dX4_rule_10 rfl ?_ ?_
    · refine c_null G h dX4_rule_73 ?_
      exact c_aret h hc rfl (Or.inl ⟨_, rfl⟩) dX4_rule_74
    · refine c_aload_n (x := x0) h 0 dX4_rule_13 rfl rfl ?_
      refine r_ck (fun ht6 => ?_)
      refine c_getR (fin := true) h hc [4] 4 (zc_lk1 h q419) ht6 (by decide) dX4_rule_14 ?_
      refine r_iload_n h 3 dX4_rule_17 rfl rfl ?_
      refine r_ck (fun ht7 => ?_)
      refine c_callV (x := (μ4 x0 4)) h hc (As := [iv x3]) (fun o1 e1 => w_lget _ (μ4 x0 4) x3 hx3 o1 e1) [40] ht7 (by decide) q862 q844 (fun t ht => by cases List.mem_singleton.mp ht; exact q845) q846 q135 (by omega) (by omega) zc_s0 (by omega) (fun z hz => by cases hz) ⟨by decide, by decide⟩ (n := 1) (by decide +kernel) rfl rfl dX4_rule_18 (fun r8 μ9 hr10 => r_k4 ?_)
      refine r_ck (fun ht11 => ?_)
      refine c_cast h hc [10] q863 ht11 (by decide) dX4_rule_21 ?_
      refine c_getR (fin := true) h hc [10] 0 (zc_lk3 hc (O := "TreePress$Rule") (n := "of") (ds := "[B") (host := "TreePress") (by decide)) ht11 (by decide) dX4_rule_24 ?_
      refine c_aload_n (x := x1) h 1 dX4_rule_27 rfl rfl ?_
      refine c_callSN h hc (As := [zc_rv G (μ9 r8 0), zc_rv G x1]) (fun o1 e1 => u_X0_isSame _ (μ9 r8 0) x1 o1 e1) (host := "TreePress") (by decide) q856 q857 q132 (by omega) (by omega) zc_s0 (by omega) (fun z hz => by cases hz) ⟨by decide, by decide⟩ (n := 2) (by decide +kernel) rfl rfl dX4_rule_28 (fun r12 μ13 hr14 => r_k3 ?_)
      refine r_if_eq (x := r12) h hr14.r 67 dX4_rule_31 rfl ?_ ?_
      · refine r_iinc (lv' := [(3, iv (x3 + 1)), (0, zc_rv G x0), (1, zc_rv G x1), (2, zc_rv G x2)]) h 3 dX4_rule_67 rfl (hN _ (by decide)) (by simp [zc_rv_cat]) ?_
        refine r_goto h 2 dX4_rule_70 rfl ?_
        refine r_ck (fun hk15 => ?_)
        exact r_lv [1, 2, 3, 0] rfl (ih _ x0 x1 x2 (x3 + 1) hk15)
      · refine c_aload_n (x := x0) h 0 dX4_rule_34 rfl rfl ?_
        refine r_ck (fun ht16 => ?_)
        refine c_getR (fin := true) h hc [4] 4 (zc_lk1 h q419) ht16 (by decide) dX4_rule_35 ?_
        refine r_iload_n h 3 dX4_rule_38 rfl rfl ?_
        refine r_ck (fun ht17 => ?_)
        refine c_callV (x := (μ13 x0 4)) h hc (As := [iv x3]) (fun o1 e1 => w_lget _ (μ13 x0 4) x3 hx3 o1 e1) [40] ht17 (by decide) q862 q844 (fun t ht => by cases List.mem_singleton.mp ht; exact q845) q846 q135 (by omega) (by omega) zc_s0 (by omega) (fun z hz => by cases hz) ⟨by decide, by decide⟩ (n := 1) (by decide +kernel) rfl rfl dX4_rule_39 (fun r18 μ19 hr20 => r_k4 ?_)
        refine r_ck (fun ht21 => ?_)
        refine c_cast h hc [10] q863 ht21 (by decide) dX4_rule_42 ?_
        refine c_getR (fin := true) h hc [10] 1 (zc_lk3 hc (O := "TreePress$Rule") (n := "name") (ds := "[B") (host := "TreePress") (by decide)) ht21 (by decide) dX4_rule_45 ?_
        refine c_aload_n (x := x2) h 2 dX4_rule_48 rfl rfl ?_
        refine c_callSN h hc (As := [zc_rv G (μ19 r18 1), zc_rv G x2]) (fun o1 e1 => u_X0_isSame _ (μ19 r18 1) x2 o1 e1) (host := "TreePress") (by decide) q856 q857 q132 (by omega) (by omega) zc_s0 (by omega) (fun z hz => by cases hz) ⟨by decide, by decide⟩ (n := 2) (by decide +kernel) rfl rfl dX4_rule_49 (fun r22 μ23 hr24 => r_k3 ?_)
        refine r_if_eq (x := r22) h hr24.r 67 dX4_rule_52 rfl ?_ ?_
        · refine r_iinc (lv' := [(3, iv (x3 + 1)), (0, zc_rv G x0), (1, zc_rv G x1), (2, zc_rv G x2)]) h 3 dX4_rule_67 rfl (hN _ (by decide)) (by simp [zc_rv_cat]) ?_
          refine r_goto h 2 dX4_rule_70 rfl ?_
          refine r_ck (fun hk25 => ?_)
          exact r_lv [1, 2, 3, 0] rfl (ih _ x0 x1 x2 (x3 + 1) hk25)
        · refine c_aload_n (x := x0) h 0 dX4_rule_55 rfl rfl ?_
          refine r_ck (fun ht26 => ?_)
          refine c_getR (fin := true) h hc [4] 4 (zc_lk1 h q419) ht26 (by decide) dX4_rule_56 ?_
          refine r_iload_n h 3 dX4_rule_59 rfl rfl ?_
          refine r_ck (fun ht27 => ?_)
          refine c_callV (x := (μ23 x0 4)) h hc (As := [iv x3]) (fun o1 e1 => w_lget _ (μ23 x0 4) x3 hx3 o1 e1) [40] ht27 (by decide) q862 q844 (fun t ht => by cases List.mem_singleton.mp ht; exact q845) q846 q135 (by omega) (by omega) zc_s0 (by omega) (fun z hz => by cases hz) ⟨by decide, by decide⟩ (n := 1) (by decide +kernel) rfl rfl dX4_rule_60 (fun r28 μ29 hr30 => r_k4 ?_)
          refine r_ck (fun ht31 => ?_)
          refine c_cast h hc [10] q863 ht31 (by decide) dX4_rule_63 ?_
          exact c_aret h hc rfl (Or.inl ⟨_, rfl⟩) dX4_rule_66
def c_X4_rule (μ : MEM) (a0 a1 a2 : Int) : Option zc_O := c_X4_rule_2 zF μ a0 a1 a2 0
theorem u_X4_rule {G : zc_G} (μ : MEM) (a0 a1 a2 : Int) (o : zc_O) (hd : c_X4_rule μ a0 a1 a2 = some o) : zc_Met G yX4_rule cX4_rule 4 (Option.some (FieldType.object "TreePress$Rule")) 4 3 64 μ [zc_rv G a0, zc_rv G a1, zc_rv G a2] o := by
  refine zc_intro hd (by decide) (by simp [lg_sl, zc_rv_cat, iv_cat, jv_cat]) (lv := [(0, zc_rv G a0), (1, zc_rv G a1), (2, zc_rv G a2)]) (by simp [lv_args, zc_rv_cat, iv_cat, jv_cat]) (fun C h hc => ?_)
  have h : zv_Ok C cX4_rule "TreePress$Document" := h
  have hc : zc_C C G μ 4 (Option.some (FieldType.object "TreePress$Rule")) 4 3 64 "rule" [] := hc
  have hN : ∀ i, i < 4 → i < zv_n C := fun i q => by rw [hc.2.1]; exact q
  unfold c_X4_rule
  refine r_iconst h dX4_rule_0 ?_
  refine r_istore_n (i := 3) (lv' := [(3, iv 0), (0, zc_rv G a0), (1, zc_rv G a1), (2, zc_rv G a2)]) h dX4_rule_1 rfl (hN _ (by decide)) (by simp [zc_rv_cat]) ?_
  exact r_lv [1, 2, 3, 0] rfl (u_X4_rule_2 h hc zF _ a0 a1 a2 0 (by decide))
theorem dX3_byDefault_0 : decode cX3_byDefault 0 = .ok (.iconst 0, 1) := by decide +kernel
theorem dX3_byDefault_1 : decode cX3_byDefault 1 = .ok (.istore_n 3, 1) := by decide +kernel
theorem dX3_byDefault_2 : decode cX3_byDefault 2 = .ok (.iload_n 3, 1) := by decide +kernel
theorem dX3_byDefault_3 : decode cX3_byDefault 3 = .ok (.aload_n 0, 1) := by decide +kernel
theorem dX3_byDefault_4 : decode cX3_byDefault 4 = .ok (.getfield 14, 3) := by decide +kernel
theorem dX3_byDefault_7 : decode cX3_byDefault 7 = .ok (.getfield 224, 3) := by decide +kernel
theorem dX3_byDefault_10 : decode cX3_byDefault 10 = .ok (.invokevirtual 94, 3) := by decide +kernel
theorem dX3_byDefault_13 : decode cX3_byDefault 13 = .ok (.if_icmp .ge 146, 3) := by decide +kernel
theorem dX3_byDefault_16 : decode cX3_byDefault 16 = .ok (.aload_n 0, 1) := by decide +kernel
theorem dX3_byDefault_17 : decode cX3_byDefault 17 = .ok (.getfield 14, 3) := by decide +kernel
theorem dX3_byDefault_20 : decode cX3_byDefault 20 = .ok (.getfield 224, 3) := by decide +kernel
theorem dX3_byDefault_23 : decode cX3_byDefault 23 = .ok (.iload_n 3, 1) := by decide +kernel
theorem dX3_byDefault_24 : decode cX3_byDefault 24 = .ok (.invokevirtual 229, 3) := by decide +kernel
theorem dX3_byDefault_27 : decode cX3_byDefault 27 = .ok (.checkcast 222, 3) := by decide +kernel
theorem dX3_byDefault_30 : decode cX3_byDefault 30 = .ok (.astore 4, 2) := by decide +kernel
theorem dX3_byDefault_32 : decode cX3_byDefault 32 = .ok (.aload 4, 2) := by decide +kernel
theorem dX3_byDefault_34 : decode cX3_byDefault 34 = .ok (.getfield 278, 3) := by decide +kernel
theorem dX3_byDefault_37 : decode cX3_byDefault 37 = .ok (.ifnull 116, 3) := by decide +kernel
theorem dX3_byDefault_40 : decode cX3_byDefault 40 = .ok (.aload 4, 2) := by decide +kernel
theorem dX3_byDefault_42 : decode cX3_byDefault 42 = .ok (.getfield 233, 3) := by decide +kernel
theorem dX3_byDefault_45 : decode cX3_byDefault 45 = .ok (.aload_n 1, 1) := by decide +kernel
theorem dX3_byDefault_46 : decode cX3_byDefault 46 = .ok (.getfield 356, 3) := by decide +kernel
theorem dX3_byDefault_49 : decode cX3_byDefault 49 = .ok (.invokestatic 236, 3) := by decide +kernel
theorem dX3_byDefault_52 : decode cX3_byDefault 52 = .ok (.ifCond .eq 101, 3) := by decide +kernel
theorem dX3_byDefault_55 : decode cX3_byDefault 55 = .ok (.aload_n 0, 1) := by decide +kernel
theorem dX3_byDefault_56 : decode cX3_byDefault 56 = .ok (.getfield 14, 3) := by decide +kernel
theorem dX3_byDefault_59 : decode cX3_byDefault 59 = .ok (.aload 4, 2) := by decide +kernel
theorem dX3_byDefault_61 : decode cX3_byDefault 61 = .ok (.getfield 233, 3) := by decide +kernel
theorem dX3_byDefault_64 : decode cX3_byDefault 64 = .ok (.aload 4, 2) := by decide +kernel
theorem dX3_byDefault_66 : decode cX3_byDefault 66 = .ok (.getfield 240, 3) := by decide +kernel
theorem dX3_byDefault_69 : decode cX3_byDefault 69 = .ok (.invokevirtual 242, 3) := by decide +kernel
theorem dX3_byDefault_72 : decode cX3_byDefault 72 = .ok (.aload 4, 2) := by decide +kernel
theorem dX3_byDefault_74 : decode cX3_byDefault 74 = .ok (.if_acmp .ne 79, 3) := by decide +kernel
theorem dX3_byDefault_77 : decode cX3_byDefault 77 = .ok (.aload_n 1, 1) := by decide +kernel
theorem dX3_byDefault_78 : decode cX3_byDefault 78 = .ok (.aload 4, 2) := by decide +kernel
theorem dX3_byDefault_80 : decode cX3_byDefault 80 = .ok (.getfield 240, 3) := by decide +kernel
theorem dX3_byDefault_83 : decode cX3_byDefault 83 = .ok (.invokevirtual 357, 3) := by decide +kernel
theorem dX3_byDefault_86 : decode cX3_byDefault 86 = .ok (.ifnull 6, 3) := by decide +kernel
theorem dX3_byDefault_89 : decode cX3_byDefault 89 = .ok (.goto 64, 3) := by decide +kernel
theorem dX3_byDefault_92 : decode cX3_byDefault 92 = .ok (.aload_n 1, 1) := by decide +kernel
theorem dX3_byDefault_93 : decode cX3_byDefault 93 = .ok (.getfield 360, 3) := by decide +kernel
theorem dX3_byDefault_96 : decode cX3_byDefault 96 = .ok (.invokevirtual 94, 3) := by decide +kernel
theorem dX3_byDefault_99 : decode cX3_byDefault 99 = .ok (.bipush 8, 2) := by decide +kernel
theorem dX3_byDefault_101 : decode cX3_byDefault 101 = .ok (.if_icmp .ne 14, 3) := by decide +kernel
theorem dX3_byDefault_104 : decode cX3_byDefault 104 = .ok (.new 50, 3) := by decide +kernel
theorem dX3_byDefault_107 : decode cX3_byDefault 107 = .ok (.dup, 1) := by decide +kernel
theorem dX3_byDefault_108 : decode cX3_byDefault 108 = .ok (.bipush (-3), 2) := by decide +kernel
theorem dX3_byDefault_110 : decode cX3_byDefault 110 = .ok (.iload_n 2, 1) := by decide +kernel
theorem dX3_byDefault_111 : decode cX3_byDefault 111 = .ok (.invokespecial 52, 3) := by decide +kernel
theorem dX3_byDefault_114 : decode cX3_byDefault 114 = .ok (.athrow, 1) := by decide +kernel
theorem dX3_byDefault_115 : decode cX3_byDefault 115 = .ok (.new 365, 3) := by decide +kernel
theorem dX3_byDefault_118 : decode cX3_byDefault 118 = .ok (.dup, 1) := by decide +kernel
theorem dX3_byDefault_119 : decode cX3_byDefault 119 = .ok (.aload 4, 2) := by decide +kernel
theorem dX3_byDefault_121 : decode cX3_byDefault 121 = .ok (.getfield 240, 3) := by decide +kernel
theorem dX3_byDefault_124 : decode cX3_byDefault 124 = .ok (.aload 4, 2) := by decide +kernel
theorem dX3_byDefault_126 : decode cX3_byDefault 126 = .ok (.getfield 278, 3) := by decide +kernel
theorem dX3_byDefault_129 : decode cX3_byDefault 129 = .ok (.iconst 1, 1) := by decide +kernel
theorem dX3_byDefault_130 : decode cX3_byDefault 130 = .ok (.invokespecial 367, 3) := by decide +kernel
theorem dX3_byDefault_133 : decode cX3_byDefault 133 = .ok (.astore 5, 2) := by decide +kernel
theorem dX3_byDefault_135 : decode cX3_byDefault 135 = .ok (.aload_n 0, 1) := by decide +kernel
theorem dX3_byDefault_136 : decode cX3_byDefault 136 = .ok (.aload 5, 2) := by decide +kernel
theorem dX3_byDefault_138 : decode cX3_byDefault 138 = .ok (.aload_n 1, 1) := by decide +kernel
theorem dX3_byDefault_139 : decode cX3_byDefault 139 = .ok (.iload_n 2, 1) := by decide +kernel
theorem dX3_byDefault_140 : decode cX3_byDefault 140 = .ok (.invokevirtual 327, 3) := by decide +kernel
theorem dX3_byDefault_143 : decode cX3_byDefault 143 = .ok (.aload_n 1, 1) := by decide +kernel
theorem dX3_byDefault_144 : decode cX3_byDefault 144 = .ok (.getfield 360, 3) := by decide +kernel
theorem dX3_byDefault_147 : decode cX3_byDefault 147 = .ok (.aload 5, 2) := by decide +kernel
theorem dX3_byDefault_149 : decode cX3_byDefault 149 = .ok (.invokevirtual 152, 3) := by decide +kernel
theorem dX3_byDefault_152 : decode cX3_byDefault 152 = .ok (.pop, 1) := by decide +kernel
theorem dX3_byDefault_153 : decode cX3_byDefault 153 = .ok (.iinc 3 1, 3) := by decide +kernel
theorem dX3_byDefault_156 : decode cX3_byDefault 156 = .ok (.goto (-154), 3) := by decide +kernel
theorem dX3_byDefault_159 : decode cX3_byDefault 159 = .ok (.return_, 1) := by decide +kernel
def c_X3_byDefault_2 : Nat → MEM → Int → Int → Int → Int → Option zc_O
  | 0, _, _, _, _, _ => none
  | n + 1, μ, x0, x1, x2, x3 => ck (zt [3] (μ x0 (-1)) = true) (ck (zt [4] (μ (μ x0 3) (-1)) = true) (ck (zt [40] (μ (μ (μ x0 3) 4) (-1)) = true) (bc (b_lsize μ (μ (μ x0 3) 4)) (fun r4 μ5 => if r4 ≤ x3 then (some (0, 0, μ5)) else (ck (zt [3] (μ5 x0 (-1)) = true) (ck (zt [4] (μ5 (μ5 x0 3) (-1)) = true) (ck (zt [40] (μ5 (μ5 (μ5 x0 3) 4) (-1)) = true) (bc (b_lget μ5 (μ5 (μ5 x0 3) 4) x3) (fun r10 μ11 => ck (zt [10] (μ11 r10 (-1)) = true) (if (μ11 r10 6) = 0 then (ck (inR (x3 + 1)) (c_X3_byDefault_2 n μ11 x0 x1 x2 (x3 + 1))) else (ck (zt [11] (μ11 x1 (-1)) = true) (bc (c_X0_isSame μ11 (μ11 r10 0) (μ11 x1 4)) (fun r16 μ17 => if r16 = 0 then (ck (inR (x3 + 1)) (c_X3_byDefault_2 n μ17 x0 x1 x2 (x3 + 1))) else (ck (zt [3] (μ17 x0 (-1)) = true) (ck (zt [10] (μ17 r10 (-1)) = true) (ck (zt [4] (μ17 (μ17 x0 3) (-1)) = true) (bc (c_X4_rule μ17 (μ17 x0 3) (μ17 r10 0) (μ17 r10 1)) (fun r23 μ24 => ck ((0 : Int) ≤ r23 ∧ (0 : Int) ≤ r10) (if r23 = r10 then (ck (zt [10] (μ24 r10 (-1)) = true) (ck (zt [11] (μ24 x1 (-1)) = true) (bc (c_X11_attribute μ24 x1 (μ24 r10 1)) (fun r28 μ29 => if r28 = 0 then (ck (zt [11] (μ29 x1 (-1)) = true) (ck (zt [40] (μ29 (μ29 x1 5) (-1)) = true) (bc (b_lsize μ29 (μ29 x1 5)) (fun r33 μ34 => if r33 = 8 then (ck (1 ≤ μ34 0 1 ∧ (8 : Int) ≤ μ34 0 2) (nu (mnew μ34 22 0 8) (fun μ36 => bc (b_finit μ36 (μ34 0 0) (-3) x2) (fun _ μ38 => ck (0 < (μ34 0 0)) (some (1, (μ34 0 0), μ38)))))) else (ck (1 ≤ μ34 0 1 ∧ (5 : Int) ≤ μ34 0 2) (nu (mnew μ34 13 0 5) (fun μ39 => ck (zt [10] (μ39 r10 (-1)) = true) (bc (c_X13_init μ39 (μ34 0 0) (μ39 r10 1) (μ39 r10 6) 1) (fun _ μ42 => ck (zt [3] (μ42 x0 (-1)) = true) (bc (c_X3_add μ42 x0 (μ34 0 0) x1 x2) (fun _ μ44 => ck (zt [11] (μ44 x1 (-1)) = true) (ck (zt [40] (μ44 (μ44 x1 5) (-1)) = true) (bc (b_ladd μ44 (μ44 x1 5) (μ34 0 0)) (fun r47 μ48 => ck (inR (x3 + 1)) (c_X3_byDefault_2 n μ48 x0 x1 x2 (x3 + 1)))))))))))))))) else (ck (inR (x3 + 1)) (c_X3_byDefault_2 n μ29 x0 x1 x2 (x3 + 1))))))) else (ck (inR (x3 + 1)) (c_X3_byDefault_2 n μ24 x0 x1 x2 (x3 + 1))))))))))))))))))))))
theorem u_X3_byDefault_2 {C : zv_Cx zc_O} {G : zc_G} {μ0 : MEM} (h : zv_Ok C cX3_byDefault "TreePress$Parser") (hc : zc_C C G μ0 6 (Option.none : Option FieldType) 0 9 197 "byDefault" []) : ∀ (n : Nat) (μ : MEM) (x0 x1 x2 x3 : Int), inR x2 → inR x3 → VV C (c_X3_byDefault_2 n μ x0 x1 x2 x3) μ [(0, zc_rv G x0), (1, zc_rv G x1), (2, iv x2), (3, iv x3)] [] 2 := by
  have hN : ∀ i, i < 6 → i < zv_n C := fun i q => by rw [hc.2.1]; exact q
  intro n
  induction n with
  | zero => intros; exact r_none
  | succ n ih =>
    intro μ x0 x1 x2 x3 hx2 hx3
    rw [c_X3_byDefault_2]
    refine r_iload_n h 3 dX3_byDefault_2 rfl rfl ?_
    refine c_aload_n (x := x0) h 0 dX3_byDefault_3 rfl rfl ?_
    refine r_ck (fun ht1 => ?_)
    refine c_getR (fin := true) h hc [3] 3 (zc_lk1 h q446) ht1 (by decide) dX3_byDefault_4 ?_
    refine r_ck (fun ht2 => ?_)
    refine c_getR (fin := true) h hc [4] 4 (zc_lk3 hc (O := "TreePress$Document") (n := "rules") (ds := "Ljava/util/ArrayList;") (host := "TreePress") (by decide)) ht2 (by decide) dX3_byDefault_7 ?_
    refine r_ck (fun ht3 => ?_)
    refine c_callV (x := (μ (μ x0 3) 4)) h hc (As := []) (fun o1 e1 => w_lsize _ (μ (μ x0 3) 4) o1 e1) [40] ht3 (by decide) q695 q343 (fun t ht => by cases List.mem_singleton.mp ht; exact q344) q345 q135 (by omega) (by omega) (zc_sc (iv_cat _) zc_s0) (by omega) (fun z hz => by cases hz) ⟨by decide, by decide⟩ (n := 0) (by decide +kernel) rfl rfl dX3_byDefault_10 (fun r4 μ5 hr6 => r_k1 ?_)
    refine r_icmp_ge (x := x3) (y := r4) h hx3 hr6 159 dX3_byDefault_13 rfl ?_ ?_
    · exact c_vret h hc rfl dX3_byDefault_159
    · refine c_aload_n (x := x0) h 0 dX3_byDefault_16 rfl rfl ?_
      refine r_ck (fun ht7 => ?_)
      refine c_getR (fin := true) h hc [3] 3 (zc_lk1 h q446) ht7 (by decide) dX3_byDefault_17 ?_
      refine r_ck (fun ht8 => ?_)
      refine c_getR (fin := true) h hc [4] 4 (zc_lk3 hc (O := "TreePress$Document") (n := "rules") (ds := "Ljava/util/ArrayList;") (host := "TreePress") (by decide)) ht8 (by decide) dX3_byDefault_20 ?_
      refine r_iload_n h 3 dX3_byDefault_23 rfl rfl ?_
      refine r_ck (fun ht9 => ?_)
      refine c_callV (x := (μ5 (μ5 x0 3) 4)) h hc (As := [iv x3]) (fun o1 e1 => w_lget _ (μ5 (μ5 x0 3) 4) x3 hx3 o1 e1) [40] ht9 (by decide) q843 q844 (fun t ht => by cases List.mem_singleton.mp ht; exact q845) q846 q135 (by omega) (by omega) zc_s0 (by omega) (fun z hz => by cases hz) ⟨by decide, by decide⟩ (n := 1) (by decide +kernel) rfl rfl dX3_byDefault_24 (fun r10 μ11 hr12 => r_k4 ?_)
      refine r_ck (fun ht13 => ?_)
      refine c_cast h hc [10] q801 ht13 (by decide) dX3_byDefault_27 ?_
      refine c_astore (lv' := [(4, zc_rv G r10), (0, zc_rv G x0), (1, zc_rv G x1), (2, iv x2), (3, iv x3)]) h dX3_byDefault_30 (hN _ (by decide)) rfl ?_
      refine c_aload (x := r10) h 0 dX3_byDefault_32 rfl ?_
      refine c_getR (fin := false) h hc [10] 6 (zc_lk3 hc (O := "TreePress$Rule") (n := "value") (ds := "[B") (host := "TreePress") (by decide)) ht13 (by decide) dX3_byDefault_34 ?_
      refine c_ifnull (x := (μ11 r10 6)) h 153 dX3_byDefault_37 rfl ?_ ?_
      · refine r_iinc (lv' := [(3, iv (x3 + 1)), (4, zc_rv G r10), (0, zc_rv G x0), (1, zc_rv G x1), (2, iv x2)]) h 4 dX3_byDefault_153 rfl (hN _ (by decide)) rfl ?_
        refine r_goto h 2 dX3_byDefault_156 rfl ?_
        refine r_ck (fun hk14 => ?_)
        exact r_lv [2, 3, 4, 0] rfl (ih _ x0 x1 x2 (x3 + 1) hx2 hk14)
      · refine c_aload (x := r10) h 0 dX3_byDefault_40 rfl ?_
        refine c_getR (fin := true) h hc [10] 0 (zc_lk3 hc (O := "TreePress$Rule") (n := "of") (ds := "[B") (host := "TreePress") (by decide)) ht13 (by decide) dX3_byDefault_42 ?_
        refine c_aload_n (x := x1) h 2 dX3_byDefault_45 rfl rfl ?_
        refine r_ck (fun ht15 => ?_)
        refine c_getR (fin := true) h hc [11] 4 (zc_lk3 hc (O := "TreePress$Element") (n := "name") (ds := "[B") (host := "TreePress") (by decide)) ht15 (by decide) dX3_byDefault_46 ?_
        refine c_callSN h hc (As := [zc_rv G (μ11 r10 0), zc_rv G (μ11 x1 4)]) (fun o1 e1 => u_X0_isSame _ (μ11 r10 0) (μ11 x1 4) o1 e1) (host := "TreePress") (by decide) q856 q857 q132 (by omega) (by omega) zc_s0 (by omega) (fun z hz => by cases hz) ⟨by decide, by decide⟩ (n := 2) (by decide +kernel) rfl rfl dX3_byDefault_49 (fun r16 μ17 hr18 => r_k3 ?_)
        refine r_if_eq (x := r16) h hr18.r 153 dX3_byDefault_52 rfl ?_ ?_
        · refine r_iinc (lv' := [(3, iv (x3 + 1)), (4, zc_rv G r10), (0, zc_rv G x0), (1, zc_rv G x1), (2, iv x2)]) h 4 dX3_byDefault_153 rfl (hN _ (by decide)) rfl ?_
          refine r_goto h 2 dX3_byDefault_156 rfl ?_
          refine r_ck (fun hk19 => ?_)
          exact r_lv [2, 3, 4, 0] rfl (ih _ x0 x1 x2 (x3 + 1) hx2 hk19)
        · refine c_aload_n (x := x0) h 1 dX3_byDefault_55 rfl rfl ?_
          refine r_ck (fun ht20 => ?_)
          refine c_getR (fin := true) h hc [3] 3 (zc_lk1 h q446) ht20 (by decide) dX3_byDefault_56 ?_
          refine c_aload (x := r10) h 0 dX3_byDefault_59 rfl ?_
          refine r_ck (fun ht21 => ?_)
          refine c_getR (fin := true) h hc [10] 0 (zc_lk3 hc (O := "TreePress$Rule") (n := "of") (ds := "[B") (host := "TreePress") (by decide)) ht21 (by decide) dX3_byDefault_61 ?_
          refine c_aload (x := r10) h 0 dX3_byDefault_64 rfl ?_
          refine c_getR (fin := true) h hc [10] 1 (zc_lk3 hc (O := "TreePress$Rule") (n := "name") (ds := "[B") (host := "TreePress") (by decide)) ht21 (by decide) dX3_byDefault_66 ?_
          refine r_ck (fun ht22 => ?_)
          refine c_callV (x := (μ17 x0 3)) h hc (As := [zc_rv G (μ17 r10 0), zc_rv G (μ17 r10 1)]) (fun o1 e1 => u_X4_rule _ (μ17 x0 3) (μ17 r10 0) (μ17 r10 1) o1 e1) [4] ht22 (by decide) q858 q859 (fun t ht => by cases List.mem_singleton.mp ht; exact q860) q861 q140 (by omega) (by omega) zc_s0 (by omega) (fun z hz => by cases hz) ⟨by decide, by decide⟩ (n := 2) (by decide +kernel) rfl rfl dX3_byDefault_69 (fun r23 μ24 hr25 => r_k4 ?_)
          refine c_aload (x := r10) h 0 dX3_byDefault_72 rfl ?_
          refine c_acmp_ne (x := r23) (y := r10) h 153 dX3_byDefault_74 rfl ?_ ?_
          · refine c_aload_n (x := x1) h 2 dX3_byDefault_77 rfl rfl ?_
            refine c_aload (x := r10) h 0 dX3_byDefault_78 rfl ?_
            refine r_ck (fun ht26 => ?_)
            refine c_getR (fin := true) h hc [10] 1 (zc_lk3 hc (O := "TreePress$Rule") (n := "name") (ds := "[B") (host := "TreePress") (by decide)) ht26 (by decide) dX3_byDefault_80 ?_
            refine r_ck (fun ht27 => ?_)
            refine c_callV (x := x1) h hc (As := [zc_rv G (μ24 r10 1)]) (fun o1 e1 => u_X11_attribute _ x1 (μ24 r10 1) o1 e1) [11] ht27 (by decide) q949 q950 (fun t ht => by cases List.mem_singleton.mp ht; exact q951) q952 q158 (by omega) (by omega) zc_s0 (by omega) (fun z hz => by cases hz) ⟨by decide, by decide⟩ (n := 1) (by decide +kernel) rfl rfl dX3_byDefault_83 (fun r28 μ29 hr30 => r_k4 ?_)
            refine c_ifnull (x := r28) h 92 dX3_byDefault_86 rfl ?_ ?_
            · refine c_aload_n (x := x1) h 2 dX3_byDefault_92 rfl rfl ?_
              refine r_ck (fun ht31 => ?_)
              refine c_getR (fin := true) h hc [11] 5 (zc_lk3 hc (O := "TreePress$Element") (n := "attributes") (ds := "Ljava/util/ArrayList;") (host := "TreePress") (by decide)) ht31 (by decide) dX3_byDefault_93 ?_
              refine r_ck (fun ht32 => ?_)
              refine c_callV (x := (μ29 x1 5)) h hc (As := []) (fun o1 e1 => w_lsize _ (μ29 x1 5) o1 e1) [40] ht32 (by decide) q695 q343 (fun t ht => by cases List.mem_singleton.mp ht; exact q344) q345 q135 (by omega) (by omega) zc_s0 (by omega) (fun z hz => by cases hz) ⟨by decide, by decide⟩ (n := 0) (by decide +kernel) rfl rfl dX3_byDefault_96 (fun r33 μ34 hr35 => r_k1 ?_)
              refine r_bipush h dX3_byDefault_99 (by decide) ?_
              refine r_icmp_ne (x := r33) (y := 8) h hr35 (by decide) 115 dX3_byDefault_101 rfl ?_ ?_
              · refine c_newF h hc q650 q577 q153 dX3_byDefault_104 (fun _ μ36 he37 => ?_)
                refine r_dup h dX3_byDefault_107 (zc_rv_cat G _) ?_
                refine r_bipush h dX3_byDefault_108 (by decide) ?_
                refine r_iload_n h 3 dX3_byDefault_110 rfl rfl ?_
                refine c_callI (x := (μ34 0 0)) h hc (As := [iv (-3), iv x2]) (fun o1 e1 => w_finit _ (μ34 0 0) (-3) x2 (by decide) hx2 o1 e1) [22] (zt_nw he37) (by decide) q651 q616 rfl q617 q153 (by omega) (by omega) (zc_sc (zc_rv_cat G _) zc_s0) (by omega) (fun z hz => by cases hz) ⟨by decide, by decide⟩ (n := 2) (by decide +kernel) rfl rfl dX3_byDefault_111 (fun _ μ38 _ => r_k0 ?_)
                exact c_athrow h hc (fun z hz => by cases hz) dX3_byDefault_114
              · refine c_new h hc 13 (N := 5) rfl (by decide) q958 q959 q160 dX3_byDefault_115 (fun _ μ39 he40 => ?_)
                refine r_dup h dX3_byDefault_118 (zc_rv_cat G _) ?_
                refine c_aload (x := r10) h 0 dX3_byDefault_119 rfl ?_
                refine r_ck (fun ht41 => ?_)
                refine c_getR (fin := true) h hc [10] 1 (zc_lk3 hc (O := "TreePress$Rule") (n := "name") (ds := "[B") (host := "TreePress") (by decide)) ht41 (by decide) dX3_byDefault_121 ?_
                refine c_aload (x := r10) h 0 dX3_byDefault_124 rfl ?_
                refine c_getR (fin := false) h hc [10] 6 (zc_lk3 hc (O := "TreePress$Rule") (n := "value") (ds := "[B") (host := "TreePress") (by decide)) ht41 (by decide) dX3_byDefault_126 ?_
                refine r_iconst h dX3_byDefault_129 ?_
                refine c_callI (x := (μ34 0 0)) h hc (As := [zc_rv G (μ39 r10 1), zc_rv G (μ39 r10 6), iv 1]) (fun o1 e1 => u_X13_init _ (μ34 0 0) (μ39 r10 1) (μ39 r10 6) 1 (by decide) o1 e1) [13] (zt_nw he40) (by decide) q960 q961 rfl q962 q160 (by omega) (by omega) (zc_sc (zc_rv_cat G _) zc_s0) (by omega) (fun z hz => by cases hz) ⟨by decide, by decide⟩ (n := 3) (by decide +kernel) rfl rfl dX3_byDefault_130 (fun _ μ42 _ => r_k0 ?_)
                refine c_astore (lv' := [(5, zc_rv G (μ34 0 0)), (4, zc_rv G r10), (0, zc_rv G x0), (1, zc_rv G x1), (2, iv x2), (3, iv x3)]) h dX3_byDefault_133 (hN _ (by decide)) (by simp [zc_rv_cat]) ?_
                refine c_aload_n (x := x0) h 2 dX3_byDefault_135 rfl rfl ?_
                refine c_aload (x := (μ34 0 0)) h 0 dX3_byDefault_136 rfl ?_
                refine c_aload_n (x := x1) h 3 dX3_byDefault_138 rfl rfl ?_
                refine r_iload_n h 4 dX3_byDefault_139 rfl rfl ?_
                refine r_ck (fun ht43 => ?_)
                refine c_callV (x := x0) h hc (As := [zc_rv G (μ34 0 0), zc_rv G x1, iv x2]) (fun o1 e1 => u_X3_add _ x0 (μ34 0 0) x1 x2 hx2 o1 e1) [3] ht43 (by decide) q939 q941 (fun t ht => by cases List.mem_singleton.mp ht; exact qs26) q942 q138 (by omega) (by omega) zc_s0 (by omega) (fun z hz => by cases hz) ⟨by decide, by decide⟩ (n := 3) (by decide +kernel) rfl rfl dX3_byDefault_140 (fun _ μ44 _ => r_k0 ?_)
                refine c_aload_n (x := x1) h 3 dX3_byDefault_143 rfl rfl ?_
                refine r_ck (fun ht45 => ?_)
                refine c_getR (fin := true) h hc [11] 5 (zc_lk3 hc (O := "TreePress$Element") (n := "attributes") (ds := "Ljava/util/ArrayList;") (host := "TreePress") (by decide)) ht45 (by decide) dX3_byDefault_144 ?_
                refine c_aload (x := (μ34 0 0)) h 0 dX3_byDefault_147 rfl ?_
                refine r_ck (fun ht46 => ?_)
                refine c_callV (x := (μ44 x1 5)) h hc (As := [zc_rv G (μ34 0 0)]) (fun o1 e1 => w_ladd _ (μ44 x1 5) (μ34 0 0) o1 e1) [40] ht46 (by decide) q765 q347 (fun t ht => by cases List.mem_singleton.mp ht; exact q348) q349 q135 (by omega) (by omega) zc_s0 (by omega) (fun z hz => by cases hz) ⟨by decide, by decide⟩ (n := 1) (by decide +kernel) rfl rfl dX3_byDefault_149 (fun r47 μ48 hr49 => r_k3 ?_)
                refine r_pop h dX3_byDefault_152 (iv_cat _) ?_
                refine r_iinc (lv' := [(3, iv (x3 + 1)), (5, zc_rv G (μ34 0 0)), (4, zc_rv G r10), (0, zc_rv G x0), (1, zc_rv G x1), (2, iv x2)]) h 5 dX3_byDefault_153 rfl (hN _ (by decide)) rfl ?_
                refine r_goto h 2 dX3_byDefault_156 rfl ?_
                refine r_ck (fun hk50 => ?_)
                exact r_lv [3, 4, 5, 0] rfl (ih _ x0 x1 x2 (x3 + 1) hx2 hk50)
            · refine r_goto h 153 dX3_byDefault_89 rfl ?_
              refine r_iinc (lv' := [(3, iv (x3 + 1)), (4, zc_rv G r10), (0, zc_rv G x0), (1, zc_rv G x1), (2, iv x2)]) h 4 dX3_byDefault_153 rfl (hN _ (by decide)) rfl ?_
              refine r_goto h 2 dX3_byDefault_156 rfl ?_
              refine r_ck (fun hk51 => ?_)
              exact r_lv [2, 3, 4, 0] rfl (ih _ x0 x1 x2 (x3 + 1) hx2 hk51)
          · refine r_iinc (lv' := [(3, iv (x3 + 1)), (4, zc_rv G r10), (0, zc_rv G x0), (1, zc_rv G x1), (2, iv x2)]) h 4 dX3_byDefault_153 rfl (hN _ (by decide)) rfl ?_
            refine r_goto h 2 dX3_byDefault_156 rfl ?_
            refine r_ck (fun hk52 => ?_)
            exact r_lv [2, 3, 4, 0] rfl (ih _ x0 x1 x2 (x3 + 1) hx2 hk52)
def c_X3_byDefault (μ : MEM) (a0 a1 a2 : Int) : Option zc_O := c_X3_byDefault_2 zF μ a0 a1 a2 0
theorem u_X3_byDefault {G : zc_G} (μ : MEM) (a0 a1 a2 : Int) (ha2 : inR a2) (o : zc_O) (hd : c_X3_byDefault μ a0 a1 a2 = some o) : zc_Met G yX3_byDefault cX3_byDefault 6 (Option.none : Option FieldType) 0 9 197 μ [zc_rv G a0, zc_rv G a1, iv a2] o := by
  refine zc_intro hd (by decide) (by simp [lg_sl, zc_rv_cat, iv_cat, jv_cat]) (lv := [(0, zc_rv G a0), (1, zc_rv G a1), (2, iv a2)]) (by simp [lv_args, zc_rv_cat, iv_cat, jv_cat]) (fun C h hc => ?_)
  have h : zv_Ok C cX3_byDefault "TreePress$Parser" := h
  have hc : zc_C C G μ 6 (Option.none : Option FieldType) 0 9 197 "byDefault" [] := hc
  have hN : ∀ i, i < 6 → i < zv_n C := fun i q => by rw [hc.2.1]; exact q
  unfold c_X3_byDefault
  refine r_iconst h dX3_byDefault_0 ?_
  refine r_istore_n (i := 3) (lv' := [(3, iv 0), (0, zc_rv G a0), (1, zc_rv G a1), (2, iv a2)]) h dX3_byDefault_1 rfl (hN _ (by decide)) rfl ?_
  exact r_lv [1, 2, 3, 0] rfl (u_X3_byDefault_2 h hc zF _ a0 a1 a2 0 ha2 (by decide))
theorem dX3_comment_0 : decode cX3_comment 0 = .ok (.aload_n 0, 1) := by decide +kernel
theorem dX3_comment_1 : decode cX3_comment 1 = .ok (.ldc 55, 2) := by decide +kernel
theorem dX3_comment_3 : decode cX3_comment 3 = .ok (.invokevirtual 57, 3) := by decide +kernel
theorem dX3_comment_6 : decode cX3_comment 6 = .ok (.aload_n 0, 1) := by decide +kernel
theorem dX3_comment_7 : decode cX3_comment 7 = .ok (.ldc 61, 2) := by decide +kernel
theorem dX3_comment_9 : decode cX3_comment 9 = .ok (.invokevirtual 63, 3) := by decide +kernel
theorem dX3_comment_12 : decode cX3_comment 12 = .ok (.ifCond .ne 39, 3) := by decide +kernel
theorem dX3_comment_15 : decode cX3_comment 15 = .ok (.aload_n 0, 1) := by decide +kernel
theorem dX3_comment_16 : decode cX3_comment 16 = .ok (.invokevirtual 35, 3) := by decide +kernel
theorem dX3_comment_19 : decode cX3_comment 19 = .ok (.invokestatic 67, 3) := by decide +kernel
theorem dX3_comment_22 : decode cX3_comment 22 = .ok (.ifCond .ne 16, 3) := by decide +kernel
theorem dX3_comment_25 : decode cX3_comment 25 = .ok (.new 50, 3) := by decide +kernel
theorem dX3_comment_28 : decode cX3_comment 28 = .ok (.dup, 1) := by decide +kernel
theorem dX3_comment_29 : decode cX3_comment 29 = .ok (.iconst (-1), 1) := by decide +kernel
theorem dX3_comment_30 : decode cX3_comment 30 = .ok (.aload_n 0, 1) := by decide +kernel
theorem dX3_comment_31 : decode cX3_comment 31 = .ok (.invokevirtual 31, 3) := by decide +kernel
theorem dX3_comment_34 : decode cX3_comment 34 = .ok (.invokespecial 52, 3) := by decide +kernel
theorem dX3_comment_37 : decode cX3_comment 37 = .ok (.athrow, 1) := by decide +kernel
theorem dX3_comment_38 : decode cX3_comment 38 = .ok (.aload_n 0, 1) := by decide +kernel
theorem dX3_comment_39 : decode cX3_comment 39 = .ok (.aload_n 0, 1) := by decide +kernel
theorem dX3_comment_40 : decode cX3_comment 40 = .ok (.invokevirtual 31, 3) := by decide +kernel
theorem dX3_comment_43 : decode cX3_comment 43 = .ok (.iconst 1, 1) := by decide +kernel
theorem dX3_comment_44 : decode cX3_comment 44 = .ok (.iadd, 1) := by decide +kernel
theorem dX3_comment_45 : decode cX3_comment 45 = .ok (.invokevirtual 42, 3) := by decide +kernel
theorem dX3_comment_48 : decode cX3_comment 48 = .ok (.goto (-42), 3) := by decide +kernel
theorem dX3_comment_51 : decode cX3_comment 51 = .ok (.aload_n 0, 1) := by decide +kernel
theorem dX3_comment_52 : decode cX3_comment 52 = .ok (.ldc 61, 2) := by decide +kernel
theorem dX3_comment_54 : decode cX3_comment 54 = .ok (.invokevirtual 57, 3) := by decide +kernel
theorem dX3_comment_57 : decode cX3_comment 57 = .ok (.aload_n 0, 1) := by decide +kernel
theorem dX3_comment_58 : decode cX3_comment 58 = .ok (.ldc 70, 2) := by decide +kernel
theorem dX3_comment_60 : decode cX3_comment 60 = .ok (.invokevirtual 57, 3) := by decide +kernel
theorem dX3_comment_63 : decode cX3_comment 63 = .ok (.return_, 1) := by decide +kernel
def c_X3_comment_6 : Nat → MEM → Int → Option zc_O
  | 0, _, _ => none
  | n + 1, μ, x0 => ck (zt [3] (μ x0 (-1)) = true) (bc (c_X2_isAt μ x0 (-2)) (fun r2 μ3 => if r2 = 0 then (ck (zt [3] (μ3 x0 (-1)) = true) (bc (c_X2_here μ3 x0) (fun r6 μ7 => bc (c_X0_isChar μ7 r6) (fun r9 μ10 => if r9 = 0 then (ck (1 ≤ μ10 0 1 ∧ (8 : Int) ≤ μ10 0 2) (nu (mnew μ10 22 0 8) (fun μ12 => ck (zt [3] (μ12 x0 (-1)) = true) (bc (c_X2_place μ12 x0) (fun r15 μ16 => ck (zt [22] (μ16 (μ10 0 0) (-1)) = true) (bc (b_finit μ16 (μ10 0 0) (-1) r15) (fun _ μ19 => ck (0 < (μ10 0 0)) (some (1, (μ10 0 0), μ19))))))))) else (ck (zt [3] (μ10 x0 (-1)) = true) (bc (c_X2_place μ10 x0) (fun r21 μ22 => ck (inR (r21 + 1)) (ck (zt [3] (μ22 x0 (-1)) = true) (bc (c_X2_goTo μ22 x0 (r21 + 1)) (fun _ μ26 => c_X3_comment_6 n μ26 x0)))))))))) else (ck (zt [3] (μ3 x0 (-1)) = true) (bc (c_X2_must μ3 x0 (-2)) (fun _ μ28 => ck (zt [3] (μ28 x0 (-1)) = true) (bc (c_X2_must μ28 x0 (-3)) (fun _ μ30 => some (0, 0, μ30))))))))
theorem u_X3_comment_6 {C : zv_Cx zc_O} {G : zc_G} {μ0 : MEM} (h : zv_Ok C cX3_comment "TreePress$Parser") (hc : zc_C C G μ0 1 (Option.none : Option FieldType) 0 8 163 "comment" []) : ∀ (n : Nat) (μ : MEM) (x0 : Int), VV C (c_X3_comment_6 n μ x0) μ [(0, zc_rv G x0)] [] 6 := by
  have hN : ∀ i, i < 1 → i < zv_n C := fun i q => by rw [hc.2.1]; exact q
  intro n
  induction n with
  | zero => intros; exact r_none
  | succ n ih =>
    intro μ x0 
    rw [c_X3_comment_6]
    refine c_aload_n (x := x0) h 0 dX3_comment_6 rfl rfl ?_
    refine c_ldcs (tx := "--") h hc 2 (by decide) (-2) rfl (by decide) dX3_comment_7 ?_
    refine r_ck (fun ht1 => ?_)
    refine c_callU (x := x0) (xm := ⟨"TreePress$Parser", "isAt", "(Ljava/lang/String;)Z"⟩) (owner := "TreePress$Reader") h hc (As := [zc_rv G (-2)]) (fun o1 e1 => u_X2_isAt _ x0 (-2) o1 e1) [3] ht1 (by decide) q505 q506 (va_Decl.of (h.2.2.2.2 _ q509) (h.2.2.2.2 _ q510)) ⟨by decide, by decide⟩ q509 (fun t ht => by cases List.mem_singleton.mp ht; exact q508) q510 q137 (by omega) (by omega) zc_s0 (by omega) (fun z hz => by cases hz) (n := 1) (by decide +kernel) rfl rfl dX3_comment_9 (fun r2 μ3 hr4 => r_k3 ?_)
    refine r_if_ne (x := r2) h hr4.r 51 dX3_comment_12 rfl ?_ ?_
    · refine c_aload_n (x := x0) h 0 dX3_comment_15 rfl rfl ?_
      refine r_ck (fun ht5 => ?_)
      refine c_callU (x := x0) (xm := ⟨"TreePress$Parser", "here", "()I"⟩) (owner := "TreePress$Reader") h hc (As := []) (fun o1 e1 => u_X2_here _ x0 o1 e1) [3] ht5 (by decide) q489 q490 (va_Decl.of (h.2.2.2.2 _ q493) (h.2.2.2.2 _ q494)) ⟨by decide, by decide⟩ q493 (fun t ht => by cases List.mem_singleton.mp ht; exact q492) q494 q137 (by omega) (by omega) zc_s0 (by omega) (fun z hz => by cases hz) (n := 0) (by decide +kernel) rfl rfl dX3_comment_16 (fun r6 μ7 hr8 => r_k1 ?_)
      refine c_callSN h hc (As := [iv r6]) (fun o1 e1 => u_X0_isChar _ r6 hr8 o1 e1) (host := "TreePress") (by decide) q647 q648 q132 (by omega) (by omega) zc_s0 (by omega) (fun z hz => by cases hz) ⟨by decide, by decide⟩ (n := 1) (by decide +kernel) rfl rfl dX3_comment_19 (fun r9 μ10 hr11 => r_k3 ?_)
      refine r_if_ne (x := r9) h hr11.r 38 dX3_comment_22 rfl ?_ ?_
      · refine c_newF h hc q650 q577 q153 dX3_comment_25 (fun _ μ12 he13 => ?_)
        refine r_dup h dX3_comment_28 (zc_rv_cat G _) ?_
        refine r_iconst h dX3_comment_29 ?_
        refine c_aload_n (x := x0) h 0 dX3_comment_30 rfl rfl ?_
        refine r_ck (fun ht14 => ?_)
        refine c_callU (x := x0) (xm := ⟨"TreePress$Parser", "place", "()I"⟩) (owner := "TreePress$Reader") h hc (As := []) (fun o1 e1 => u_X2_place _ x0 o1 e1) [3] ht14 (by decide) q483 q484 (va_Decl.of (h.2.2.2.2 _ q487) (h.2.2.2.2 _ q488)) ⟨by decide, by decide⟩ q487 (fun t ht => by cases List.mem_singleton.mp ht; exact q486) q488 q137 (by omega) (by omega) (zc_sc (iv_cat _) (zc_sc (zc_rv_cat G _) (zc_sc (zc_rv_cat G _) zc_s0))) (by omega) (fun z hz => by cases hz) (n := 0) (by decide +kernel) rfl rfl dX3_comment_31 (fun r15 μ16 hr17 => r_k1 ?_)
        refine r_ck (fun ht18 => ?_)
        refine c_callI (x := (μ10 0 0)) h hc (As := [iv (-1), iv r15]) (fun o1 e1 => w_finit _ (μ10 0 0) (-1) r15 (by decide) hr17 o1 e1) [22] ht18 (by decide) q651 q616 rfl q617 q153 (by omega) (by omega) (zc_sc (zc_rv_cat G _) zc_s0) (by omega) (fun z hz => by cases hz) ⟨by decide, by decide⟩ (n := 2) (by decide +kernel) rfl rfl dX3_comment_34 (fun _ μ19 _ => r_k0 ?_)
        exact c_athrow h hc (fun z hz => by cases hz) dX3_comment_37
      · refine c_aload_n (x := x0) h 0 dX3_comment_38 rfl rfl ?_
        refine c_aload_n (x := x0) h 0 dX3_comment_39 rfl rfl ?_
        refine r_ck (fun ht20 => ?_)
        refine c_callU (x := x0) (xm := ⟨"TreePress$Parser", "place", "()I"⟩) (owner := "TreePress$Reader") h hc (As := []) (fun o1 e1 => u_X2_place _ x0 o1 e1) [3] ht20 (by decide) q483 q484 (va_Decl.of (h.2.2.2.2 _ q487) (h.2.2.2.2 _ q488)) ⟨by decide, by decide⟩ q487 (fun t ht => by cases List.mem_singleton.mp ht; exact q486) q488 q137 (by omega) (by omega) (zc_sc (zc_rv_cat G _) zc_s0) (by omega) (fun z hz => by cases hz) (n := 0) (by decide +kernel) rfl rfl dX3_comment_40 (fun r21 μ22 hr23 => r_k1 ?_)
        refine r_iconst h dX3_comment_43 ?_
        refine r_iadd h dX3_comment_44 ?_
        refine r_ck (fun hk24 => ?_)
        refine r_ck (fun ht25 => ?_)
        refine c_callU (x := x0) (xm := ⟨"TreePress$Parser", "goTo", "(I)V"⟩) (owner := "TreePress$Reader") h hc (As := [iv (r21 + 1)]) (fun o1 e1 => u_X2_goTo _ x0 (r21 + 1) hk24 o1 e1) [3] ht25 (by decide) q498 q499 (va_Decl.of (h.2.2.2.2 _ q502) (h.2.2.2.2 _ q503)) ⟨by decide, by decide⟩ q502 (fun t ht => by cases List.mem_singleton.mp ht; exact q501) q503 q137 (by omega) (by omega) zc_s0 (by omega) (fun z hz => by cases hz) (n := 1) (by decide +kernel) rfl rfl dX3_comment_45 (fun _ μ26 _ => r_k0 ?_)
        refine r_goto h 6 dX3_comment_48 rfl ?_
        exact r_lv [0] rfl (ih _ x0)
    · refine c_aload_n (x := x0) h 0 dX3_comment_51 rfl rfl ?_
      refine c_ldcs (tx := "--") h hc 2 (by decide) (-2) rfl (by decide) dX3_comment_52 ?_
      refine r_ck (fun ht27 => ?_)
      refine c_callU (x := x0) (xm := ⟨"TreePress$Parser", "must", "(Ljava/lang/String;)V"⟩) (owner := "TreePress$Reader") h hc (As := [zc_rv G (-2)]) (fun o1 e1 => u_X2_must _ x0 (-2) o1 e1) [3] ht27 (by decide) q563 q564 (va_Decl.of (h.2.2.2.2 _ q567) (h.2.2.2.2 _ q568)) ⟨by decide, by decide⟩ q567 (fun t ht => by cases List.mem_singleton.mp ht; exact q566) q568 q137 (by omega) (by omega) zc_s0 (by omega) (fun z hz => by cases hz) (n := 1) (by decide +kernel) rfl rfl dX3_comment_54 (fun _ μ28 _ => r_k0 ?_)
      refine c_aload_n (x := x0) h 0 dX3_comment_57 rfl rfl ?_
      refine c_ldcs (tx := ">") h hc 3 (by decide) (-3) rfl (by decide) dX3_comment_58 ?_
      refine r_ck (fun ht29 => ?_)
      refine c_callU (x := x0) (xm := ⟨"TreePress$Parser", "must", "(Ljava/lang/String;)V"⟩) (owner := "TreePress$Reader") h hc (As := [zc_rv G (-3)]) (fun o1 e1 => u_X2_must _ x0 (-3) o1 e1) [3] ht29 (by decide) q563 q564 (va_Decl.of (h.2.2.2.2 _ q567) (h.2.2.2.2 _ q568)) ⟨by decide, by decide⟩ q567 (fun t ht => by cases List.mem_singleton.mp ht; exact q566) q568 q137 (by omega) (by omega) zc_s0 (by omega) (fun z hz => by cases hz) (n := 1) (by decide +kernel) rfl rfl dX3_comment_60 (fun _ μ30 _ => r_k0 ?_)
      exact c_vret h hc rfl dX3_comment_63
def c_X3_comment (μ : MEM) (a0 : Int) : Option zc_O := ck (zt [3] (μ a0 (-1)) = true) (bc (c_X2_must μ a0 (-1)) (fun _ μ2 => c_X3_comment_6 zF μ2 a0))
theorem u_X3_comment {G : zc_G} (μ : MEM) (a0 : Int) (o : zc_O) (hd : c_X3_comment μ a0 = some o) : zc_Met G yX3_comment cX3_comment 1 (Option.none : Option FieldType) 0 8 163 μ [zc_rv G a0] o := by
  refine zc_intro hd (by decide) (by simp [lg_sl, zc_rv_cat, iv_cat, jv_cat]) (lv := [(0, zc_rv G a0)]) (by simp [lv_args, zc_rv_cat, iv_cat, jv_cat]) (fun C h hc => ?_)
  have h : zv_Ok C cX3_comment "TreePress$Parser" := h
  have hc : zc_C C G μ 1 (Option.none : Option FieldType) 0 8 163 "comment" [] := hc
  have hN : ∀ i, i < 1 → i < zv_n C := fun i q => by rw [hc.2.1]; exact q
  unfold c_X3_comment
  refine c_aload_n (x := a0) h 0 dX3_comment_0 rfl rfl ?_
  refine c_ldcs (tx := "<!--") h hc 1 (by decide) (-1) rfl (by decide) dX3_comment_1 ?_
  refine r_ck (fun ht1 => ?_)
  refine c_callU (x := a0) (xm := ⟨"TreePress$Parser", "must", "(Ljava/lang/String;)V"⟩) (owner := "TreePress$Reader") h hc (As := [zc_rv G (-1)]) (fun o1 e1 => u_X2_must _ a0 (-1) o1 e1) [3] ht1 (by decide) q563 q564 (va_Decl.of (h.2.2.2.2 _ q567) (h.2.2.2.2 _ q568)) ⟨by decide, by decide⟩ q567 (fun t ht => by cases List.mem_singleton.mp ht; exact q566) q568 q137 (by omega) (by omega) zc_s0 (by omega) (fun z hz => by cases hz) (n := 1) (by decide +kernel) rfl rfl dX3_comment_3 (fun _ μ2 _ => r_k0 ?_)
  exact r_lv [0] rfl (u_X3_comment_6 h hc zF _ a0)
theorem dX14_init_0 : decode cX14_init 0 = .ok (.aload_n 0, 1) := by decide +kernel
theorem dX14_init_1 : decode cX14_init 1 = .ok (.aload_n 1, 1) := by decide +kernel
theorem dX14_init_2 : decode cX14_init 2 = .ok (.invokespecial 1, 3) := by decide +kernel
theorem dX14_init_5 : decode cX14_init 5 = .ok (.aload_n 0, 1) := by decide +kernel
theorem dX14_init_6 : decode cX14_init 6 = .ok (.iload_n 2, 1) := by decide +kernel
theorem dX14_init_7 : decode cX14_init 7 = .ok (.putfield 7, 3) := by decide +kernel
theorem dX14_init_10 : decode cX14_init 10 = .ok (.return_, 1) := by decide +kernel
def c_X14_init (μ : MEM) (a0 a1 a2 : Int) : Option zc_O := ck (zt [14] (μ a0 (-1)) = true) (bc (c_X12_init μ a0 a1) (fun _ μ2 => ck (zt [14] (μ2 a0 (-1)) = true) (nu (mup μ2 a0 9 a2) (fun μ4 => some (0, 0, μ4)))))
theorem u_X14_init {G : zc_G} (μ : MEM) (a0 a1 a2 : Int) (ha2 : isB a2) (o : zc_O) (hd : c_X14_init μ a0 a1 a2 = some o) : zc_Met G yX14_init cX14_init 3 (Option.none : Option FieldType) 0 3 61 μ [zc_rv G a0, zc_rv G a1, iv a2] o := by
  refine zc_intro hd (by decide) (by simp [lg_sl, zc_rv_cat, iv_cat, jv_cat]) (lv := [(0, zc_rv G a0), (1, zc_rv G a1), (2, iv a2)]) (by simp [lv_args, zc_rv_cat, iv_cat, jv_cat]) (fun C h hc => ?_)
  have h : zv_Ok C cX14_init "TreePress$Text" := h
  have hc : zc_C C G μ 3 (Option.none : Option FieldType) 0 3 61 "<init>" [] := hc
  have hN : ∀ i, i < 3 → i < zv_n C := fun i q => by rw [hc.2.1]; exact q
  unfold c_X14_init
  refine c_aload_n (x := a0) h 0 dX14_init_0 rfl rfl ?_
  refine c_aload_n (x := a1) h 1 dX14_init_1 rfl rfl ?_
  refine r_ck (fun ht1 => ?_)
  refine c_callI (x := a0) h hc (As := [zc_rv G a1]) (fun o1 e1 => u_X12_init _ a0 a1 o1 e1) [14] ht1 (by decide) q1008 q964 rfl q965 q159 (by omega) (by omega) zc_s0 (by omega) (fun z hz => by cases hz) ⟨by decide, by decide⟩ (n := 1) (by decide +kernel) rfl rfl dX14_init_2 (fun _ μ2 _ => r_k0 ?_)
  refine c_aload_n (x := a0) h 0 dX14_init_5 rfl rfl ?_
  refine r_iload_n h 2 dX14_init_6 rfl rfl ?_
  refine r_ck (fun ht3 => ?_)
  refine c_putZ (x := a0) (y := a2) h hc [14] 9 true (zc_lk1 h q1009) ht3 (by decide) (Or.inr ⟨rfl, rfl, rfl⟩) ha2 dX14_init_7 (fun μ4 he5 => ?_)
  exact c_vret h hc rfl dX14_init_10
theorem dX3_text_0 : decode cX3_text 0 = .ok (.aload_n 0, 1) := by decide +kernel
theorem dX3_text_1 : decode cX3_text 1 = .ok (.invokevirtual 31, 3) := by decide +kernel
theorem dX3_text_4 : decode cX3_text 4 = .ok (.istore_n 2, 1) := by decide +kernel
theorem dX3_text_5 : decode cX3_text 5 = .ok (.aload_n 0, 1) := by decide +kernel
theorem dX3_text_6 : decode cX3_text 6 = .ok (.getfield 300, 3) := by decide +kernel
theorem dX3_text_9 : decode cX3_text 9 = .ok (.istore_n 3, 1) := by decide +kernel
theorem dX3_text_10 : decode cX3_text 10 = .ok (.iconst 1, 1) := by decide +kernel
theorem dX3_text_11 : decode cX3_text 11 = .ok (.istore 4, 2) := by decide +kernel
theorem dX3_text_13 : decode cX3_text 13 = .ok (.aload_n 0, 1) := by decide +kernel
theorem dX3_text_14 : decode cX3_text 14 = .ok (.invokevirtual 35, 3) := by decide +kernel
theorem dX3_text_17 : decode cX3_text 17 = .ok (.bipush 60, 2) := by decide +kernel
theorem dX3_text_19 : decode cX3_text 19 = .ok (.if_icmp .eq 85, 3) := by decide +kernel
theorem dX3_text_22 : decode cX3_text 22 = .ok (.aload_n 0, 1) := by decide +kernel
theorem dX3_text_23 : decode cX3_text 23 = .ok (.invokevirtual 31, 3) := by decide +kernel
theorem dX3_text_26 : decode cX3_text 26 = .ok (.istore 5, 2) := by decide +kernel
theorem dX3_text_28 : decode cX3_text 28 = .ok (.aload_n 0, 1) := by decide +kernel
theorem dX3_text_29 : decode cX3_text 29 = .ok (.invokevirtual 309, 3) := by decide +kernel
theorem dX3_text_32 : decode cX3_text 32 = .ok (.istore 6, 2) := by decide +kernel
theorem dX3_text_34 : decode cX3_text 34 = .ok (.iload 5, 2) := by decide +kernel
theorem dX3_text_36 : decode cX3_text 36 = .ok (.iload_n 2, 1) := by decide +kernel
theorem dX3_text_37 : decode cX3_text 37 = .ok (.if_icmp .ne 31, 3) := by decide +kernel
theorem dX3_text_40 : decode cX3_text 40 = .ok (.aload_n 0, 1) := by decide +kernel
theorem dX3_text_41 : decode cX3_text 41 = .ok (.getfield 14, 3) := by decide +kernel
theorem dX3_text_44 : decode cX3_text 44 = .ok (.getfield 91, 3) := by decide +kernel
theorem dX3_text_47 : decode cX3_text 47 = .ok (.invokevirtual 94, 3) := by decide +kernel
theorem dX3_text_50 : decode cX3_text 50 = .ok (.sipush 600, 3) := by decide +kernel
theorem dX3_text_53 : decode cX3_text 53 = .ok (.if_icmp .ne 15, 3) := by decide +kernel
theorem dX3_text_56 : decode cX3_text 56 = .ok (.new 50, 3) := by decide +kernel
theorem dX3_text_59 : decode cX3_text 59 = .ok (.dup, 1) := by decide +kernel
theorem dX3_text_60 : decode cX3_text 60 = .ok (.bipush (-3), 2) := by decide +kernel
theorem dX3_text_62 : decode cX3_text 62 = .ok (.iload 5, 2) := by decide +kernel
theorem dX3_text_64 : decode cX3_text 64 = .ok (.invokespecial 52, 3) := by decide +kernel
theorem dX3_text_67 : decode cX3_text 67 = .ok (.athrow, 1) := by decide +kernel
theorem dX3_text_68 : decode cX3_text 68 = .ok (.aload_n 0, 1) := by decide +kernel
theorem dX3_text_69 : decode cX3_text 69 = .ok (.iload 6, 2) := by decide +kernel
theorem dX3_text_71 : decode cX3_text 71 = .ok (.iload 5, 2) := by decide +kernel
theorem dX3_text_73 : decode cX3_text 73 = .ok (.invokevirtual 312, 3) := by decide +kernel
theorem dX3_text_76 : decode cX3_text 76 = .ok (.iload 4, 2) := by decide +kernel
theorem dX3_text_78 : decode cX3_text 78 = .ok (.aload_n 0, 1) := by decide +kernel
theorem dX3_text_79 : decode cX3_text 79 = .ok (.getfield 280, 3) := by decide +kernel
theorem dX3_text_82 : decode cX3_text 82 = .ok (.ifCond .ne 15, 3) := by decide +kernel
theorem dX3_text_85 : decode cX3_text 85 = .ok (.iload 6, 2) := by decide +kernel
theorem dX3_text_87 : decode cX3_text 87 = .ok (.invokestatic 38, 3) := by decide +kernel
theorem dX3_text_90 : decode cX3_text 90 = .ok (.ifCond .eq 7, 3) := by decide +kernel
theorem dX3_text_93 : decode cX3_text 93 = .ok (.iconst 1, 1) := by decide +kernel
theorem dX3_text_94 : decode cX3_text 94 = .ok (.goto 4, 3) := by decide +kernel
theorem dX3_text_97 : decode cX3_text 97 = .ok (.iconst 0, 1) := by decide +kernel
theorem dX3_text_98 : decode cX3_text 98 = .ok (.iand, 1) := by decide +kernel
theorem dX3_text_99 : decode cX3_text 99 = .ok (.istore 4, 2) := by decide +kernel
theorem dX3_text_101 : decode cX3_text 101 = .ok (.goto (-88), 3) := by decide +kernel
theorem dX3_text_104 : decode cX3_text 104 = .ok (.new 373, 3) := by decide +kernel
theorem dX3_text_107 : decode cX3_text 107 = .ok (.dup, 1) := by decide +kernel
theorem dX3_text_108 : decode cX3_text 108 = .ok (.aload_n 0, 1) := by decide +kernel
theorem dX3_text_109 : decode cX3_text 109 = .ok (.iload_n 3, 1) := by decide +kernel
theorem dX3_text_110 : decode cX3_text 110 = .ok (.invokevirtual 315, 3) := by decide +kernel
theorem dX3_text_113 : decode cX3_text 113 = .ok (.iload 4, 2) := by decide +kernel
theorem dX3_text_115 : decode cX3_text 115 = .ok (.invokespecial 375, 3) := by decide +kernel
theorem dX3_text_118 : decode cX3_text 118 = .ok (.astore 5, 2) := by decide +kernel
theorem dX3_text_120 : decode cX3_text 120 = .ok (.aload_n 0, 1) := by decide +kernel
theorem dX3_text_121 : decode cX3_text 121 = .ok (.aload 5, 2) := by decide +kernel
theorem dX3_text_123 : decode cX3_text 123 = .ok (.aload_n 1, 1) := by decide +kernel
theorem dX3_text_124 : decode cX3_text 124 = .ok (.iload_n 2, 1) := by decide +kernel
theorem dX3_text_125 : decode cX3_text 125 = .ok (.invokevirtual 327, 3) := by decide +kernel
theorem dX3_text_128 : decode cX3_text 128 = .ok (.aload_n 1, 1) := by decide +kernel
theorem dX3_text_129 : decode cX3_text 129 = .ok (.getfield 378, 3) := by decide +kernel
theorem dX3_text_132 : decode cX3_text 132 = .ok (.aload 5, 2) := by decide +kernel
theorem dX3_text_134 : decode cX3_text 134 = .ok (.invokevirtual 152, 3) := by decide +kernel
theorem dX3_text_137 : decode cX3_text 137 = .ok (.pop, 1) := by decide +kernel
theorem dX3_text_138 : decode cX3_text 138 = .ok (.return_, 1) := by decide +kernel
def c_X3_text_68 (lp13 : MEM → Int → Int → Int → Int → Int → Option zc_O) (μ : MEM) (x0 x1 x2 x3 x4 x5 x6 : Int) : Option zc_O := ck (zt [3] (μ x0 (-1)) = true) (bc (c_X3_keep μ x0 x6 x5) (fun _ μ2 => ck (zt [3] (μ2 x0 (-1)) = true) (if (μ2 x0 7) = 0 then (bc (c_X0_isSpace μ2 x6) (fun r5 μ6 => if r5 = 0 then (lp13 μ6 x0 x1 x2 x3 (i_and x4 0)) else (lp13 μ6 x0 x1 x2 x3 (i_and x4 1)))) else (lp13 μ2 x0 x1 x2 x3 (i_and x4 0)))))
theorem u_X3_text_68 {C : zv_Cx zc_O} {G : zc_G} {μ0 : MEM} (h : zv_Ok C cX3_text "TreePress$Parser") (hc : zc_C C G μ0 7 (Option.none : Option FieldType) 0 9 197 "text" []) (lp13 : MEM → Int → Int → Int → Int → Int → Option zc_O) (hlp13 : ∀ (μ : MEM) (x0 x1 x2 x3 x4 : Int), inR x2 → inR x3 → isB x4 → VV C (lp13 μ x0 x1 x2 x3 x4) μ [(0, zc_rv G x0), (1, zc_rv G x1), (2, iv x2), (3, iv x3), (4, iv x4)] [] 13) (μ : MEM) (x0 x1 x2 x3 x4 x5 x6 : Int) (hx2 : inR x2) (hx3 : inR x3) (hx4 : isB x4) (hx5 : inR x5) (hx6 : inR x6) : VV C (c_X3_text_68 lp13 μ x0 x1 x2 x3 x4 x5 x6) μ [(0, zc_rv G x0), (1, zc_rv G x1), (2, iv x2), (3, iv x3), (4, iv x4), (5, iv x5), (6, iv x6)] [] 68 := by
  have hN : ∀ i, i < 7 → i < zv_n C := fun i q => by rw [hc.2.1]; exact q
  unfold c_X3_text_68
  refine c_aload_n (x := x0) h 0 dX3_text_68 rfl rfl ?_
  refine r_iload h 6 dX3_text_69 rfl ?_
  refine r_iload h 5 dX3_text_71 rfl ?_
  refine r_ck (fun ht1 => ?_)
  refine c_callV (x := x0) h hc (As := [iv x6, iv x5]) (fun o1 e1 => u_X3_keep _ x0 x6 x5 hx6 hx5 o1 e1) [3] ht1 (by decide) q901 q903 (fun t ht => by cases List.mem_singleton.mp ht; exact qs23) q904 q138 (by omega) (by omega) zc_s0 (by omega) (fun z hz => by cases hz) ⟨by decide, by decide⟩ (n := 2) (by decide +kernel) rfl rfl dX3_text_73 (fun _ μ2 _ => r_k0 ?_)
  refine r_iload h 4 dX3_text_76 rfl ?_
  refine c_aload_n (x := x0) h 0 dX3_text_78 rfl rfl ?_
  refine r_ck (fun ht3 => ?_)
  refine c_getZ (fin := false) h hc [3] 7 (zc_lk1 h q450) ht3 (by decide) dX3_text_79 (fun hr4 => ?_)
  refine r_if_ne (x := (μ2 x0 7)) h hr4.r 97 dX3_text_82 rfl ?_ ?_
  · refine r_iload h 6 dX3_text_85 rfl ?_
    refine c_callSN h hc (As := [iv x6]) (fun o1 e1 => u_X0_isSpace _ x6 hx6 o1 e1) (host := "TreePress") (by decide) q496 q497 q132 (by omega) (by omega) (zc_sc (iv_cat _) zc_s0) (by omega) (fun z hz => by cases hz) ⟨by decide, by decide⟩ (n := 1) (by decide +kernel) rfl rfl dX3_text_87 (fun r5 μ6 hr7 => r_k3 ?_)
    refine r_if_eq (x := r5) h hr7.r 97 dX3_text_90 rfl ?_ ?_
    · refine r_iconst h dX3_text_97 ?_
      refine r_iand h dX3_text_98 ?_
      refine r_istore (lv' := [(4, iv (i_and x4 0)), (0, zc_rv G x0), (1, zc_rv G x1), (2, iv x2), (3, iv x3), (5, iv x5), (6, iv x6)]) h dX3_text_99 (hN _ (by decide)) rfl ?_
      refine r_goto h 13 dX3_text_101 rfl ?_
      exact r_lv [1, 2, 3, 4, 0] rfl (hlp13 _ x0 x1 x2 x3 (i_and x4 0) hx2 hx3 (i_and_B hx4 (by decide)))
    · refine r_iconst h dX3_text_93 ?_
      refine r_goto h 98 dX3_text_94 rfl ?_
      refine r_iand h dX3_text_98 ?_
      refine r_istore (lv' := [(4, iv (i_and x4 1)), (0, zc_rv G x0), (1, zc_rv G x1), (2, iv x2), (3, iv x3), (5, iv x5), (6, iv x6)]) h dX3_text_99 (hN _ (by decide)) rfl ?_
      refine r_goto h 13 dX3_text_101 rfl ?_
      exact r_lv [1, 2, 3, 4, 0] rfl (hlp13 _ x0 x1 x2 x3 (i_and x4 1) hx2 hx3 (i_and_B hx4 (by decide)))
  · refine r_iconst h dX3_text_97 ?_
    refine r_iand h dX3_text_98 ?_
    refine r_istore (lv' := [(4, iv (i_and x4 0)), (0, zc_rv G x0), (1, zc_rv G x1), (2, iv x2), (3, iv x3), (5, iv x5), (6, iv x6)]) h dX3_text_99 (hN _ (by decide)) rfl ?_
    refine r_goto h 13 dX3_text_101 rfl ?_
    exact r_lv [1, 2, 3, 4, 0] rfl (hlp13 _ x0 x1 x2 x3 (i_and x4 0) hx2 hx3 (i_and_B hx4 (by decide)))
def c_X3_text_13 : Nat → MEM → Int → Int → Int → Int → Int → Option zc_O
  | 0, _, _, _, _, _, _ => none
  | n + 1, μ, x0, x1, x2, x3, x4 => ck (zt [3] (μ x0 (-1)) = true) (bc (c_X2_here μ x0) (fun r2 μ3 => if r2 = 60 then (ck (1 ≤ μ3 0 1 ∧ (4 : Int) ≤ μ3 0 2) (nu (mnew μ3 14 0 4) (fun μ5 => ck (zt [3] (μ5 x0 (-1)) = true) (bc (c_X3_kept μ5 x0 x3) (fun r8 μ9 => ck (zt [14] (μ9 (μ3 0 0) (-1)) = true) (bc (c_X14_init μ9 (μ3 0 0) r8 x4) (fun _ μ12 => ck (zt [3] (μ12 x0 (-1)) = true) (bc (c_X3_add μ12 x0 (μ3 0 0) x1 x2) (fun _ μ14 => ck (zt [11] (μ14 x1 (-1)) = true) (ck (zt [40] (μ14 (μ14 x1 2) (-1)) = true) (bc (b_ladd μ14 (μ14 x1 2) (μ3 0 0)) (fun r17 μ18 => some (0, 0, μ18))))))))))))) else (ck (zt [3] (μ3 x0 (-1)) = true) (bc (c_X2_place μ3 x0) (fun r21 μ22 => ck (zt [3] (μ22 x0 (-1)) = true) (bc (c_X3_piece μ22 x0) (fun r25 μ26 => if r21 = x2 then (ck (zt [3] (μ26 x0 (-1)) = true) (ck (zt [4] (μ26 (μ26 x0 3) (-1)) = true) (ck (zt [40] (μ26 (μ26 (μ26 x0 3) 1) (-1)) = true) (bc (b_lsize μ26 (μ26 (μ26 x0 3) 1)) (fun r31 μ32 => if r31 = 600 then (ck (1 ≤ μ32 0 1 ∧ (8 : Int) ≤ μ32 0 2) (nu (mnew μ32 22 0 8) (fun μ34 => bc (b_finit μ34 (μ32 0 0) (-3) r21) (fun _ μ36 => ck (0 < (μ32 0 0)) (some (1, (μ32 0 0), μ36)))))) else (c_X3_text_68 (c_X3_text_13 n) μ32 x0 x1 x2 x3 x4 r21 r25)))))) else (c_X3_text_68 (c_X3_text_13 n) μ26 x0 x1 x2 x3 x4 r21 r25))))))))
theorem u_X3_text_13 {C : zv_Cx zc_O} {G : zc_G} {μ0 : MEM} (h : zv_Ok C cX3_text "TreePress$Parser") (hc : zc_C C G μ0 7 (Option.none : Option FieldType) 0 9 197 "text" []) : ∀ (n : Nat) (μ : MEM) (x0 x1 x2 x3 x4 : Int), inR x2 → inR x3 → isB x4 → VV C (c_X3_text_13 n μ x0 x1 x2 x3 x4) μ [(0, zc_rv G x0), (1, zc_rv G x1), (2, iv x2), (3, iv x3), (4, iv x4)] [] 13 := by
  have hN : ∀ i, i < 7 → i < zv_n C := fun i q => by rw [hc.2.1]; exact q
  intro n
  induction n with
  | zero => intros; exact r_none
  | succ n ih =>
    intro μ x0 x1 x2 x3 x4 hx2 hx3 hx4
    rw [c_X3_text_13]
    refine c_aload_n (x := x0) h 0 dX3_text_13 rfl rfl ?_
    refine r_ck (fun ht1 => ?_)
    refine c_callU (x := x0) (xm := ⟨"TreePress$Parser", "here", "()I"⟩) (owner := "TreePress$Reader") h hc (As := []) (fun o1 e1 => u_X2_here _ x0 o1 e1) [3] ht1 (by decide) q489 q490 (va_Decl.of (h.2.2.2.2 _ q493) (h.2.2.2.2 _ q494)) ⟨by decide, by decide⟩ q493 (fun t ht => by cases List.mem_singleton.mp ht; exact q492) q494 q137 (by omega) (by omega) zc_s0 (by omega) (fun z hz => by cases hz) (n := 0) (by decide +kernel) rfl rfl dX3_text_14 (fun r2 μ3 hr4 => r_k1 ?_)
    refine r_bipush h dX3_text_17 (by decide) ?_
    refine r_icmp_eq (x := r2) (y := 60) h hr4 (by decide) 104 dX3_text_19 rfl ?_ ?_
    · refine c_new h hc 14 (N := 4) rfl (by decide) q1003 q1004 q161 dX3_text_104 (fun _ μ5 he6 => ?_)
      refine r_dup h dX3_text_107 (zc_rv_cat G _) ?_
      refine c_aload_n (x := x0) h 0 dX3_text_108 rfl rfl ?_
      refine r_iload_n h 3 dX3_text_109 rfl rfl ?_
      refine r_ck (fun ht7 => ?_)
      refine c_callV (x := x0) h hc (As := [iv x3]) (fun o1 e1 => u_X3_kept _ x0 x3 hx3 o1 e1) [3] ht7 (by decide) q905 q907 (fun t ht => by cases List.mem_singleton.mp ht; exact qs24) q908 q138 (by omega) (by omega) (zc_sc (zc_rv_cat G _) (zc_sc (zc_rv_cat G _) zc_s0)) (by omega) (fun z hz => by cases hz) ⟨by decide, by decide⟩ (n := 1) (by decide +kernel) rfl rfl dX3_text_110 (fun r8 μ9 hr10 => r_k4 ?_)
      refine r_iload h 4 dX3_text_113 rfl ?_
      refine r_ck (fun ht11 => ?_)
      refine c_callI (x := (μ3 0 0)) h hc (As := [zc_rv G r8, iv x4]) (fun o1 e1 => u_X14_init _ (μ3 0 0) r8 x4 hx4 o1 e1) [14] ht11 (by decide) q1005 q1006 rfl q1007 q161 (by omega) (by omega) (zc_sc (zc_rv_cat G _) zc_s0) (by omega) (fun z hz => by cases hz) ⟨by decide, by decide⟩ (n := 2) (by decide +kernel) rfl rfl dX3_text_115 (fun _ μ12 _ => r_k0 ?_)
      refine c_astore (lv' := [(5, zc_rv G (μ3 0 0)), (0, zc_rv G x0), (1, zc_rv G x1), (2, iv x2), (3, iv x3), (4, iv x4)]) h dX3_text_118 (hN _ (by decide)) rfl ?_
      refine c_aload_n (x := x0) h 1 dX3_text_120 rfl rfl ?_
      refine c_aload (x := (μ3 0 0)) h 0 dX3_text_121 rfl ?_
      refine c_aload_n (x := x1) h 2 dX3_text_123 rfl rfl ?_
      refine r_iload_n h 3 dX3_text_124 rfl rfl ?_
      refine r_ck (fun ht13 => ?_)
      refine c_callV (x := x0) h hc (As := [zc_rv G (μ3 0 0), zc_rv G x1, iv x2]) (fun o1 e1 => u_X3_add _ x0 (μ3 0 0) x1 x2 hx2 o1 e1) [3] ht13 (by decide) q939 q941 (fun t ht => by cases List.mem_singleton.mp ht; exact qs26) q942 q138 (by omega) (by omega) zc_s0 (by omega) (fun z hz => by cases hz) ⟨by decide, by decide⟩ (n := 3) (by decide +kernel) rfl rfl dX3_text_125 (fun _ μ14 _ => r_k0 ?_)
      refine c_aload_n (x := x1) h 2 dX3_text_128 rfl rfl ?_
      refine r_ck (fun ht15 => ?_)
      refine c_getR (fin := true) h hc [11] 2 (zc_lk2 h q314 q310) ht15 (by decide) dX3_text_129 ?_
      refine c_aload (x := (μ3 0 0)) h 0 dX3_text_132 rfl ?_
      refine r_ck (fun ht16 => ?_)
      refine c_callV (x := (μ14 x1 2)) h hc (As := [zc_rv G (μ3 0 0)]) (fun o1 e1 => w_ladd _ (μ14 x1 2) (μ3 0 0) o1 e1) [40] ht16 (by decide) q765 q347 (fun t ht => by cases List.mem_singleton.mp ht; exact q348) q349 q135 (by omega) (by omega) zc_s0 (by omega) (fun z hz => by cases hz) ⟨by decide, by decide⟩ (n := 1) (by decide +kernel) rfl rfl dX3_text_134 (fun r17 μ18 hr19 => r_k3 ?_)
      refine r_pop h dX3_text_137 (iv_cat _) ?_
      exact c_vret h hc rfl dX3_text_138
    · refine c_aload_n (x := x0) h 0 dX3_text_22 rfl rfl ?_
      refine r_ck (fun ht20 => ?_)
      refine c_callU (x := x0) (xm := ⟨"TreePress$Parser", "place", "()I"⟩) (owner := "TreePress$Reader") h hc (As := []) (fun o1 e1 => u_X2_place _ x0 o1 e1) [3] ht20 (by decide) q483 q484 (va_Decl.of (h.2.2.2.2 _ q487) (h.2.2.2.2 _ q488)) ⟨by decide, by decide⟩ q487 (fun t ht => by cases List.mem_singleton.mp ht; exact q486) q488 q137 (by omega) (by omega) zc_s0 (by omega) (fun z hz => by cases hz) (n := 0) (by decide +kernel) rfl rfl dX3_text_23 (fun r21 μ22 hr23 => r_k1 ?_)
      refine r_istore (lv' := [(5, iv r21), (0, zc_rv G x0), (1, zc_rv G x1), (2, iv x2), (3, iv x3), (4, iv x4)]) h dX3_text_26 (hN _ (by decide)) rfl ?_
      refine c_aload_n (x := x0) h 1 dX3_text_28 rfl rfl ?_
      refine r_ck (fun ht24 => ?_)
      refine c_callV (x := x0) h hc (As := []) (fun o1 e1 => u_X3_piece _ x0 o1 e1) [3] ht24 (by decide) q886 q888 (fun t ht => by cases List.mem_singleton.mp ht; exact qs21) q889 q138 (by omega) (by omega) zc_s0 (by omega) (fun z hz => by cases hz) ⟨by decide, by decide⟩ (n := 0) (by decide +kernel) rfl rfl dX3_text_29 (fun r25 μ26 hr27 => r_k1 ?_)
      refine r_istore (lv' := [(6, iv r25), (5, iv r21), (0, zc_rv G x0), (1, zc_rv G x1), (2, iv x2), (3, iv x3), (4, iv x4)]) h dX3_text_32 (hN _ (by decide)) rfl ?_
      refine r_iload h 1 dX3_text_34 rfl ?_
      refine r_iload_n h 4 dX3_text_36 rfl rfl ?_
      refine r_icmp_ne (x := r21) (y := x2) h hr23 hx2 68 dX3_text_37 rfl ?_ ?_
      · refine c_aload_n (x := x0) h 2 dX3_text_40 rfl rfl ?_
        refine r_ck (fun ht28 => ?_)
        refine c_getR (fin := true) h hc [3] 3 (zc_lk1 h q446) ht28 (by decide) dX3_text_41 ?_
        refine r_ck (fun ht29 => ?_)
        refine c_getR (fin := true) h hc [4] 1 (zc_lk3 hc (O := "TreePress$Document") (n := "nodes") (ds := "Ljava/util/ArrayList;") (host := "TreePress") (by decide)) ht29 (by decide) dX3_text_44 ?_
        refine r_ck (fun ht30 => ?_)
        refine c_callV (x := (μ26 (μ26 x0 3) 1)) h hc (As := []) (fun o1 e1 => w_lsize _ (μ26 (μ26 x0 3) 1) o1 e1) [40] ht30 (by decide) q695 q343 (fun t ht => by cases List.mem_singleton.mp ht; exact q344) q345 q135 (by omega) (by omega) zc_s0 (by omega) (fun z hz => by cases hz) ⟨by decide, by decide⟩ (n := 0) (by decide +kernel) rfl rfl dX3_text_47 (fun r31 μ32 hr33 => r_k1 ?_)
        refine r_sipush h dX3_text_50 (by decide) ?_
        refine r_icmp_ne (x := r31) (y := 600) h hr33 (by decide) 68 dX3_text_53 rfl ?_ ?_
        · refine c_newF h hc q650 q577 q153 dX3_text_56 (fun _ μ34 he35 => ?_)
          refine r_dup h dX3_text_59 (zc_rv_cat G _) ?_
          refine r_bipush h dX3_text_60 (by decide) ?_
          refine r_iload h 1 dX3_text_62 rfl ?_
          refine c_callI (x := (μ32 0 0)) h hc (As := [iv (-3), iv r21]) (fun o1 e1 => w_finit _ (μ32 0 0) (-3) r21 (by decide) hr23 o1 e1) [22] (zt_nw he35) (by decide) q651 q616 rfl q617 q153 (by omega) (by omega) (zc_sc (zc_rv_cat G _) zc_s0) (by omega) (fun z hz => by cases hz) ⟨by decide, by decide⟩ (n := 2) (by decide +kernel) rfl rfl dX3_text_64 (fun _ μ36 _ => r_k0 ?_)
          exact c_athrow h hc (fun z hz => by cases hz) dX3_text_67
        · exact r_lv [2, 3, 4, 5, 6, 1, 0] rfl (u_X3_text_68 h hc (c_X3_text_13 n) ih _ x0 x1 x2 x3 x4 r21 r25 hx2 hx3 hx4 hr23 hr27)
      · exact r_lv [2, 3, 4, 5, 6, 1, 0] rfl (u_X3_text_68 h hc (c_X3_text_13 n) ih _ x0 x1 x2 x3 x4 r21 r25 hx2 hx3 hx4 hr23 hr27)
def c_X3_text (μ : MEM) (a0 a1 : Int) : Option zc_O := ck (zt [3] (μ a0 (-1)) = true) (bc (c_X2_place μ a0) (fun r2 μ3 => ck (zt [3] (μ3 a0 (-1)) = true) (c_X3_text_13 zF μ3 a0 a1 r2 (μ3 a0 6) 1)))
theorem u_X3_text {G : zc_G} (μ : MEM) (a0 a1 : Int) (o : zc_O) (hd : c_X3_text μ a0 a1 = some o) : zc_Met G yX3_text cX3_text 7 (Option.none : Option FieldType) 0 9 197 μ [zc_rv G a0, zc_rv G a1] o := by
  refine zc_intro hd (by decide) (by simp [lg_sl, zc_rv_cat, iv_cat, jv_cat]) (lv := [(0, zc_rv G a0), (1, zc_rv G a1)]) (by simp [lv_args, zc_rv_cat, iv_cat, jv_cat]) (fun C h hc => ?_)
  have h : zv_Ok C cX3_text "TreePress$Parser" := h
  have hc : zc_C C G μ 7 (Option.none : Option FieldType) 0 9 197 "text" [] := hc
  have hN : ∀ i, i < 7 → i < zv_n C := fun i q => by rw [hc.2.1]; exact q
  unfold c_X3_text
  refine c_aload_n (x := a0) h 0 dX3_text_0 rfl rfl ?_
  refine r_ck (fun ht1 => ?_)
  refine c_callU (x := a0) (xm := ⟨"TreePress$Parser", "place", "()I"⟩) (owner := "TreePress$Reader") h hc (As := []) (fun o1 e1 => u_X2_place _ a0 o1 e1) [3] ht1 (by decide) q483 q484 (va_Decl.of (h.2.2.2.2 _ q487) (h.2.2.2.2 _ q488)) ⟨by decide, by decide⟩ q487 (fun t ht => by cases List.mem_singleton.mp ht; exact q486) q488 q137 (by omega) (by omega) zc_s0 (by omega) (fun z hz => by cases hz) (n := 0) (by decide +kernel) rfl rfl dX3_text_1 (fun r2 μ3 hr4 => r_k1 ?_)
  refine r_istore_n (i := 2) (lv' := [(2, iv r2), (0, zc_rv G a0), (1, zc_rv G a1)]) h dX3_text_4 rfl (hN _ (by decide)) (by simp [zc_rv_cat]) ?_
  refine c_aload_n (x := a0) h 1 dX3_text_5 rfl rfl ?_
  refine r_ck (fun ht5 => ?_)
  refine c_getI (fin := false) h hc [3] 6 (zc_lk1 h q449) ht5 (by decide) dX3_text_6 (fun hr6 => ?_)
  refine r_istore_n (i := 3) (lv' := [(3, iv (μ3 a0 6)), (2, iv r2), (0, zc_rv G a0), (1, zc_rv G a1)]) h dX3_text_9 rfl (hN _ (by decide)) rfl ?_
  refine r_iconst h dX3_text_10 ?_
  refine r_istore (lv' := [(4, iv 1), (3, iv (μ3 a0 6)), (2, iv r2), (0, zc_rv G a0), (1, zc_rv G a1)]) h dX3_text_11 (hN _ (by decide)) rfl ?_
  exact r_lv [3, 4, 2, 1, 0] rfl (u_X3_text_13 h hc zF _ a0 a1 r2 (μ3 a0 6) 1 hr4 hr6 (by decide))
theorem dX3_inside_0 : decode cX3_inside 0 = .ok (.aload_n 0, 1) := by decide +kernel
theorem dX3_inside_1 : decode cX3_inside 1 = .ok (.ldc_w 354, 3) := by decide +kernel
theorem dX3_inside_4 : decode cX3_inside 4 = .ok (.invokevirtual 63, 3) := by decide +kernel
theorem dX3_inside_7 : decode cX3_inside 7 = .ok (.ifCond .ne 47, 3) := by decide +kernel
theorem dX3_inside_10 : decode cX3_inside 10 = .ok (.aload_n 0, 1) := by decide +kernel
theorem dX3_inside_11 : decode cX3_inside 11 = .ok (.ldc 55, 2) := by decide +kernel
theorem dX3_inside_13 : decode cX3_inside 13 = .ok (.invokevirtual 63, 3) := by decide +kernel
theorem dX3_inside_16 : decode cX3_inside 16 = .ok (.ifCond .eq 10, 3) := by decide +kernel
theorem dX3_inside_19 : decode cX3_inside 19 = .ok (.aload_n 0, 1) := by decide +kernel
theorem dX3_inside_20 : decode cX3_inside 20 = .ok (.invokevirtual 72, 3) := by decide +kernel
theorem dX3_inside_23 : decode cX3_inside 23 = .ok (.goto (-23), 3) := by decide +kernel
theorem dX3_inside_26 : decode cX3_inside 26 = .ok (.aload_n 0, 1) := by decide +kernel
theorem dX3_inside_27 : decode cX3_inside 27 = .ok (.invokevirtual 35, 3) := by decide +kernel
theorem dX3_inside_30 : decode cX3_inside 30 = .ok (.bipush 60, 2) := by decide +kernel
theorem dX3_inside_32 : decode cX3_inside 32 = .ok (.if_icmp .ne 14, 3) := by decide +kernel
theorem dX3_inside_35 : decode cX3_inside 35 = .ok (.aload_n 0, 1) := by decide +kernel
theorem dX3_inside_36 : decode cX3_inside 36 = .ok (.aload_n 1, 1) := by decide +kernel
theorem dX3_inside_37 : decode cX3_inside 37 = .ok (.iload_n 2, 1) := by decide +kernel
theorem dX3_inside_38 : decode cX3_inside 38 = .ok (.iconst 1, 1) := by decide +kernel
theorem dX3_inside_39 : decode cX3_inside 39 = .ok (.iadd, 1) := by decide +kernel
theorem dX3_inside_40 : decode cX3_inside 40 = .ok (.invokevirtual 87, 3) := by decide +kernel
theorem dX3_inside_43 : decode cX3_inside 43 = .ok (.goto (-43), 3) := by decide +kernel
theorem dX3_inside_46 : decode cX3_inside 46 = .ok (.aload_n 0, 1) := by decide +kernel
theorem dX3_inside_47 : decode cX3_inside 47 = .ok (.aload_n 1, 1) := by decide +kernel
theorem dX3_inside_48 : decode cX3_inside 48 = .ok (.invokevirtual 370, 3) := by decide +kernel
theorem dX3_inside_51 : decode cX3_inside 51 = .ok (.goto (-51), 3) := by decide +kernel
theorem dX3_inside_54 : decode cX3_inside 54 = .ok (.return_, 1) := by decide +kernel
def c_X3_inside_0 (relement : MEM → Int → Int → Int → Option zc_O) : Nat → MEM → Int → Int → Int → Option zc_O
  | 0, _, _, _, _ => none
  | n + 1, μ, x0, x1, x2 => ck (zt [3] (μ x0 (-1)) = true) (bc (c_X2_isAt μ x0 (-31)) (fun r2 μ3 => if r2 = 0 then (ck (zt [3] (μ3 x0 (-1)) = true) (bc (c_X2_isAt μ3 x0 (-1)) (fun r6 μ7 => if r6 = 0 then (ck (zt [3] (μ7 x0 (-1)) = true) (bc (c_X2_here μ7 x0) (fun r10 μ11 => if r10 = 60 then (ck (inR (x2 + 1)) (ck (zt [3] (μ11 x0 (-1)) = true) (bc (relement μ11 x0 x1 (x2 + 1)) (fun _ μ15 => c_X3_inside_0 relement n μ15 x0 x1 x2)))) else (ck (zt [3] (μ11 x0 (-1)) = true) (bc (c_X3_text μ11 x0 x1) (fun _ μ17 => c_X3_inside_0 relement n μ17 x0 x1 x2)))))) else (ck (zt [3] (μ7 x0 (-1)) = true) (bc (c_X3_comment μ7 x0) (fun _ μ19 => c_X3_inside_0 relement n μ19 x0 x1 x2)))))) else (some (0, 0, μ3))))
theorem u_X3_inside_0 {C : zv_Cx zc_O} {G : zc_G} {μ0 : MEM} {F L FRv LOv : Nat} (hfr1 : F + 1 ≤ FRv) (hfr2 : 10 ≤ FRv) (hlo1 : L + 27 ≤ LOv) (hlo2 : 223 ≤ LOv) (h : zv_Ok C cX3_inside "TreePress$Parser") (hc : zc_C C G μ0 3 (Option.none : Option FieldType) 0 FRv LOv "inside" []) (relement : MEM → Int → Int → Int → Option zc_O) (hrelement : ∀ (μ : MEM) (a0 a1 a2 : Int), inR a2 → ∀ o, relement μ a0 a1 a2 = some o → zc_Met G yX3_element cX3_element 8 (Option.none : Option FieldType) 0 F L μ [zc_rv G a0, zc_rv G a1, iv a2] o) : ∀ (n : Nat) (μ : MEM) (x0 x1 x2 : Int), inR x2 → VV C (c_X3_inside_0 relement n μ x0 x1 x2) μ [(0, zc_rv G x0), (1, zc_rv G x1), (2, iv x2)] [] 0 := by
  have hN : ∀ i, i < 3 → i < zv_n C := fun i q => by rw [hc.2.1]; exact q
  intro n
  induction n with
  | zero => intros; exact r_none
  | succ n ih =>
    intro μ x0 x1 x2 hx2
    rw [c_X3_inside_0]
    refine c_aload_n (x := x0) h 0 dX3_inside_0 rfl rfl ?_
    refine c_ldcws (tx := "</") h hc 31 (by decide) (-31) rfl (by decide) dX3_inside_1 ?_
    refine r_ck (fun ht1 => ?_)
    refine c_callU (x := x0) (xm := ⟨"TreePress$Parser", "isAt", "(Ljava/lang/String;)Z"⟩) (owner := "TreePress$Reader") h hc (As := [zc_rv G (-31)]) (fun o1 e1 => u_X2_isAt _ x0 (-31) o1 e1) [3] ht1 (by decide) q505 q506 (va_Decl.of (h.2.2.2.2 _ q509) (h.2.2.2.2 _ q510)) ⟨by decide, by decide⟩ q509 (fun t ht => by cases List.mem_singleton.mp ht; exact q508) q510 q137 (by omega) (by omega) zc_s0 (by omega) (fun z hz => by cases hz) (n := 1) (by decide +kernel) rfl rfl dX3_inside_4 (fun r2 μ3 hr4 => r_k3 ?_)
    refine r_if_ne (x := r2) h hr4.r 54 dX3_inside_7 rfl ?_ ?_
    · refine c_aload_n (x := x0) h 0 dX3_inside_10 rfl rfl ?_
      refine c_ldcs (tx := "<!--") h hc 1 (by decide) (-1) rfl (by decide) dX3_inside_11 ?_
      refine r_ck (fun ht5 => ?_)
      refine c_callU (x := x0) (xm := ⟨"TreePress$Parser", "isAt", "(Ljava/lang/String;)Z"⟩) (owner := "TreePress$Reader") h hc (As := [zc_rv G (-1)]) (fun o1 e1 => u_X2_isAt _ x0 (-1) o1 e1) [3] ht5 (by decide) q505 q506 (va_Decl.of (h.2.2.2.2 _ q509) (h.2.2.2.2 _ q510)) ⟨by decide, by decide⟩ q509 (fun t ht => by cases List.mem_singleton.mp ht; exact q508) q510 q137 (by omega) (by omega) zc_s0 (by omega) (fun z hz => by cases hz) (n := 1) (by decide +kernel) rfl rfl dX3_inside_13 (fun r6 μ7 hr8 => r_k3 ?_)
      refine r_if_eq (x := r6) h hr8.r 26 dX3_inside_16 rfl ?_ ?_
      · refine c_aload_n (x := x0) h 0 dX3_inside_26 rfl rfl ?_
        refine r_ck (fun ht9 => ?_)
        refine c_callU (x := x0) (xm := ⟨"TreePress$Parser", "here", "()I"⟩) (owner := "TreePress$Reader") h hc (As := []) (fun o1 e1 => u_X2_here _ x0 o1 e1) [3] ht9 (by decide) q489 q490 (va_Decl.of (h.2.2.2.2 _ q493) (h.2.2.2.2 _ q494)) ⟨by decide, by decide⟩ q493 (fun t ht => by cases List.mem_singleton.mp ht; exact q492) q494 q137 (by omega) (by omega) zc_s0 (by omega) (fun z hz => by cases hz) (n := 0) (by decide +kernel) rfl rfl dX3_inside_27 (fun r10 μ11 hr12 => r_k1 ?_)
        refine r_bipush h dX3_inside_30 (by decide) ?_
        refine r_icmp_ne (x := r10) (y := 60) h hr12 (by decide) 46 dX3_inside_32 rfl ?_ ?_
        · refine c_aload_n (x := x0) h 0 dX3_inside_35 rfl rfl ?_
          refine c_aload_n (x := x1) h 1 dX3_inside_36 rfl rfl ?_
          refine r_iload_n h 2 dX3_inside_37 rfl rfl ?_
          refine r_iconst h dX3_inside_38 ?_
          refine r_iadd h dX3_inside_39 ?_
          refine r_ck (fun hk13 => ?_)
          refine r_ck (fun ht14 => ?_)
          refine c_callV (x := x0) h hc (As := [zc_rv G x1, iv (x2 + 1)]) (fun o1 e1 => hrelement _ x0 x1 (x2 + 1) hk13 o1 e1) [3] ht14 (by decide) q910 q912 (fun t ht => by cases List.mem_singleton.mp ht; exact qs25) q913 q138 (by omega) (by omega) zc_s0 (by omega) (fun z hz => by cases hz) ⟨by decide, by decide⟩ (n := 2) (by decide +kernel) rfl rfl dX3_inside_40 (fun _ μ15 _ => r_k0 ?_)
          refine r_goto h 0 dX3_inside_43 rfl ?_
          exact r_lv [0, 1, 2] rfl (ih _ x0 x1 x2 hx2)
        · refine c_aload_n (x := x0) h 0 dX3_inside_46 rfl rfl ?_
          refine c_aload_n (x := x1) h 1 dX3_inside_47 rfl rfl ?_
          refine r_ck (fun ht16 => ?_)
          refine c_callV (x := x0) h hc (As := [zc_rv G x1]) (fun o1 e1 => u_X3_text _ x0 x1 o1 e1) [3] ht16 (by decide) q999 q1001 (fun t ht => by cases List.mem_singleton.mp ht; exact qs30) q1002 q138 (by omega) (by omega) zc_s0 (by omega) (fun z hz => by cases hz) ⟨by decide, by decide⟩ (n := 1) (by decide +kernel) rfl rfl dX3_inside_48 (fun _ μ17 _ => r_k0 ?_)
          refine r_goto h 0 dX3_inside_51 rfl ?_
          exact r_lv [0, 1, 2] rfl (ih _ x0 x1 x2 hx2)
      · refine c_aload_n (x := x0) h 0 dX3_inside_19 rfl rfl ?_
        refine r_ck (fun ht18 => ?_)
        refine c_callV (x := x0) h hc (As := []) (fun o1 e1 => u_X3_comment _ x0 o1 e1) [3] ht18 (by decide) q559 q561 (fun t ht => by cases List.mem_singleton.mp ht; exact qs6) q562 q138 (by omega) (by omega) zc_s0 (by omega) (fun z hz => by cases hz) ⟨by decide, by decide⟩ (n := 0) (by decide +kernel) rfl rfl dX3_inside_20 (fun _ μ19 _ => r_k0 ?_)
        refine r_goto h 0 dX3_inside_23 rfl ?_
        exact r_lv [0, 1, 2] rfl (ih _ x0 x1 x2 hx2)
    · exact c_vret h hc rfl dX3_inside_54
def c_X3_inside (relement : MEM → Int → Int → Int → Option zc_O) (μ : MEM) (a0 a1 a2 : Int) : Option zc_O := c_X3_inside_0 relement zF μ a0 a1 a2
theorem u_X3_inside {G : zc_G} {F L FRv LOv : Nat} (hfr1 : F + 1 ≤ FRv) (hfr2 : 10 ≤ FRv) (hlo1 : L + 27 ≤ LOv) (hlo2 : 223 ≤ LOv) (relement : MEM → Int → Int → Int → Option zc_O) (hrelement : ∀ (μ : MEM) (a0 a1 a2 : Int), inR a2 → ∀ o, relement μ a0 a1 a2 = some o → zc_Met G yX3_element cX3_element 8 (Option.none : Option FieldType) 0 F L μ [zc_rv G a0, zc_rv G a1, iv a2] o) (μ : MEM) (a0 a1 a2 : Int) (ha2 : inR a2) (o : zc_O) (hd : c_X3_inside relement μ a0 a1 a2 = some o) : zc_Met G yX3_inside cX3_inside 3 (Option.none : Option FieldType) 0 FRv LOv μ [zc_rv G a0, zc_rv G a1, iv a2] o := by
  refine zc_intro hd (by decide) (by simp [lg_sl, zc_rv_cat, iv_cat, jv_cat]) (lv := [(0, zc_rv G a0), (1, zc_rv G a1), (2, iv a2)]) (by simp [lv_args, zc_rv_cat, iv_cat, jv_cat]) (fun C h hc => ?_)
  have h : zv_Ok C cX3_inside "TreePress$Parser" := h
  have hc : zc_C C G μ 3 (Option.none : Option FieldType) 0 FRv LOv "inside" [] := hc
  have hN : ∀ i, i < 3 → i < zv_n C := fun i q => by rw [hc.2.1]; exact q
  unfold c_X3_inside
  exact r_lv [0, 1, 2] rfl (u_X3_inside_0 hfr1 hfr2 hlo1 hlo2 h hc relement hrelement zF _ a0 a1 a2 ha2)
