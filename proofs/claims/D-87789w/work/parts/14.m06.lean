set_option maxRecDepth 100000
set_option maxHeartbeats 1000000
/-! methods of the class side: decode rows, denotations c_.., walks u_.. (written by wip/gen/cmain.py) -/
theorem dX0_line_0 : decode cX0_line 0 = .ok (.iload_n 1, 1) := by decide +kernel
theorem dX0_line_1 : decode cX0_line 1 = .ok (.aload_n 0, 1) := by decide +kernel
theorem dX0_line_2 : decode cX0_line 2 = .ok (.getfield 46, 3) := by decide +kernel
theorem dX0_line_5 : decode cX0_line 5 = .ok (.invokevirtual 90, 3) := by decide +kernel
theorem dX0_line_8 : decode cX0_line 8 = .ok (.invokestatic 99, 3) := by decide +kernel
theorem dX0_line_11 : decode cX0_line 11 = .ok (.ifCond .ne 6, 3) := by decide +kernel
theorem dX0_line_14 : decode cX0_line 14 = .ok (.bipush (-9), 2) := by decide +kernel
theorem dX0_line_16 : decode cX0_line 16 = .ok (.ireturn, 1) := by decide +kernel
theorem dX0_line_17 : decode cX0_line 17 = .ok (.aload_n 0, 1) := by decide +kernel
theorem dX0_line_18 : decode cX0_line 18 = .ok (.getfield 46, 3) := by decide +kernel
theorem dX0_line_21 : decode cX0_line 21 = .ok (.iload_n 1, 1) := by decide +kernel
theorem dX0_line_22 : decode cX0_line 22 = .ok (.invokevirtual 103, 3) := by decide +kernel
theorem dX0_line_25 : decode cX0_line 25 = .ok (.checkcast 252, 3) := by decide +kernel
theorem dX0_line_28 : decode cX0_line 28 = .ok (.astore_n 3, 1) := by decide +kernel
theorem dX0_line_29 : decode cX0_line 29 = .ok (.iload_n 2, 1) := by decide +kernel
theorem dX0_line_30 : decode cX0_line 30 = .ok (.tableswitch 53 0 3 #[30, 35, 40, 45], 30) := by decide +kernel
theorem dX0_line_60 : decode cX0_line 60 = .ok (.aload_n 3, 1) := by decide +kernel
theorem dX0_line_61 : decode cX0_line 61 = .ok (.getfield 316, 3) := by decide +kernel
theorem dX0_line_64 : decode cX0_line 64 = .ok (.ireturn, 1) := by decide +kernel
theorem dX0_line_65 : decode cX0_line 65 = .ok (.aload_n 3, 1) := by decide +kernel
theorem dX0_line_66 : decode cX0_line 66 = .ok (.getfield 274, 3) := by decide +kernel
theorem dX0_line_69 : decode cX0_line 69 = .ok (.ireturn, 1) := by decide +kernel
theorem dX0_line_70 : decode cX0_line 70 = .ok (.aload_n 3, 1) := by decide +kernel
theorem dX0_line_71 : decode cX0_line 71 = .ok (.getfield 319, 3) := by decide +kernel
theorem dX0_line_74 : decode cX0_line 74 = .ok (.ireturn, 1) := by decide +kernel
theorem dX0_line_75 : decode cX0_line 75 = .ok (.aload_n 3, 1) := by decide +kernel
theorem dX0_line_76 : decode cX0_line 76 = .ok (.getfield 263, 3) := by decide +kernel
theorem dX0_line_79 : decode cX0_line 79 = .ok (.getfield 117, 3) := by decide +kernel
theorem dX0_line_82 : decode cX0_line 82 = .ok (.ireturn, 1) := by decide +kernel
theorem dX0_line_83 : decode cX0_line 83 = .ok (.bipush (-9), 2) := by decide +kernel
theorem dX0_line_85 : decode cX0_line 85 = .ok (.ireturn, 1) := by decide +kernel
def c_X0_line (μ : MEM) (a0 a1 a2 : Int) : Option zc_O := ck (zt [1] (μ a0 (-1)) = true) (ck (zt [40] (μ (μ a0 11) (-1)) = true) (bc (b_lsize μ (μ a0 11)) (fun r3 μ4 => bc (c_X0_isIn μ4 a1 r3) (fun r6 μ7 => if r6 = 0 then (some (0, (-9), μ7)) else (ck (zt [1] (μ7 a0 (-1)) = true) (ck (zt [40] (μ7 (μ7 a0 11) (-1)) = true) (bc (b_lget μ7 (μ7 a0 11) a1) (fun r11 μ12 => ck (zt [18] (μ12 r11 (-1)) = true) (if a2 = 0 then (some (0, (μ12 r11 2), μ12)) else if a2 = 1 then (some (0, (μ12 r11 1), μ12)) else if a2 = 2 then (some (0, (μ12 r11 3), μ12)) else if a2 = 3 then (ck (zt [6, 11, 13, 14] (μ12 (μ12 r11 4) (-1)) = true) (some (0, (μ12 (μ12 r11 4) 0), μ12))) else (some (0, (-9), μ12)))))))))))
theorem u_X0_line {G : zc_G} (μ : MEM) (a0 a1 a2 : Int) (ha1 : inR a1) (ha2 : inR a2) (o : zc_O) (hd : c_X0_line μ a0 a1 a2 = some o) : zc_Met G yX0_line cX0_line 4 (Option.some FieldType.int) 1 3 64 μ [zc_rv G a0, iv a1, iv a2] o := by
  refine zc_intro hd (by decide) (by simp [lg_sl, zc_rv_cat, iv_cat, jv_cat]) (lv := [(0, zc_rv G a0), (1, iv a1), (2, iv a2)]) (by simp [lv_args, zc_rv_cat, iv_cat, jv_cat]) (fun C h hc => ?_)
  have h : zv_Ok C cX0_line "TreePress" := h
  have hc : zc_C C G μ 4 (Option.some FieldType.int) 1 3 64 "line" [] := hc
  have hN : ∀ i, i < 4 → i < zv_n C := fun i q => by rw [hc.2.1]; exact q
  unfold c_X0_line
  refine r_iload_n h 1 dX0_line_0 rfl rfl ?_
  refine c_aload_n (x := a0) h 0 dX0_line_1 rfl rfl ?_
  refine r_ck (fun ht1 => ?_)
  refine c_getR (fin := true) h hc [1] 11 (zc_lk1 h q216) ht1 (by decide) dX0_line_2 ?_
  refine r_ck (fun ht2 => ?_)
  refine c_callV (x := (μ a0 11)) h hc (As := []) (fun o1 e1 => w_lsize _ (μ a0 11) o1 e1) [40] ht2 (by decide) q1130 q343 (fun t ht => by cases List.mem_singleton.mp ht; exact q344) q345 q135 (by omega) (by omega) (zc_sc (iv_cat _) zc_s0) (by omega) (fun z hz => by cases hz) ⟨by decide, by decide⟩ (n := 0) (by decide +kernel) rfl rfl dX0_line_5 (fun r3 μ4 hr5 => r_k1 ?_)
  refine c_callS h hc (As := [iv a1, iv r3]) (fun o1 e1 => u_X0_isIn _ a1 r3 ha1 hr5 o1 e1) q1143 q1144 q1145 q132 (by omega) (by omega) zc_s0 (by omega) (fun z hz => by cases hz) ⟨by decide, by decide⟩ (n := 2) (by decide +kernel) rfl rfl dX0_line_8 (fun r6 μ7 hr8 => r_k3 ?_)
  refine r_if_ne (x := r6) h hr8.r 17 dX0_line_11 rfl ?_ ?_
  · refine r_bipush h dX0_line_14 (by decide) ?_
    exact c_iret h hc rfl (by decide) dX0_line_16
  · refine c_aload_n (x := a0) h 0 dX0_line_17 rfl rfl ?_
    refine r_ck (fun ht9 => ?_)
    refine c_getR (fin := true) h hc [1] 11 (zc_lk1 h q216) ht9 (by decide) dX0_line_18 ?_
    refine r_iload_n h 1 dX0_line_21 rfl rfl ?_
    refine r_ck (fun ht10 => ?_)
    refine c_callV (x := (μ7 a0 11)) h hc (As := [iv a1]) (fun o1 e1 => w_lget _ (μ7 a0 11) a1 ha1 o1 e1) [40] ht10 (by decide) q1146 q844 (fun t ht => by cases List.mem_singleton.mp ht; exact q845) q846 q135 (by omega) (by omega) zc_s0 (by omega) (fun z hz => by cases hz) ⟨by decide, by decide⟩ (n := 1) (by decide +kernel) rfl rfl dX0_line_22 (fun r11 μ12 hr13 => r_k4 ?_)
    refine r_ck (fun ht14 => ?_)
    refine c_cast h hc [18] q1405 ht14 (by decide) dX0_line_25 ?_
    refine c_astore_n (i := 3) (lv' := [(3, zc_rv G r11), (0, zc_rv G a0), (1, iv a1), (2, iv a2)]) h dX0_line_28 rfl (hN _ (by decide)) rfl ?_
    refine r_iload_n h 3 dX0_line_29 rfl rfl ?_
    refine r_if (fun he15 => ?_) (fun he15 => ?_)
    · refine r_tsIn h 0 60 ha2 he15 dX0_line_30 (by decide) (by decide) rfl rfl ?_
      refine c_aload_n (x := r11) h 0 dX0_line_60 rfl rfl ?_
      refine c_getI (fin := false) h hc [18] 2 (zc_lk3 hc (O := "TreePress$Line") (n := "page") (ds := "I") (host := "TreePress") (by decide)) ht14 (by decide) dX0_line_61 (fun hr16 => ?_)
      exact c_iret h hc rfl hr16 dX0_line_64
    refine r_if (fun he17 => ?_) (fun he17 => ?_)
    · refine r_tsIn h 1 65 ha2 he17 dX0_line_30 (by decide) (by decide) rfl rfl ?_
      refine c_aload_n (x := r11) h 0 dX0_line_65 rfl rfl ?_
      refine c_getI (fin := false) h hc [18] 1 (zc_lk3 hc (O := "TreePress$Line") (n := "many") (ds := "I") (host := "TreePress") (by decide)) ht14 (by decide) dX0_line_66 (fun hr18 => ?_)
      exact c_iret h hc rfl hr18 dX0_line_69
    refine r_if (fun he19 => ?_) (fun he19 => ?_)
    · refine r_tsIn h 2 70 ha2 he19 dX0_line_30 (by decide) (by decide) rfl rfl ?_
      refine c_aload_n (x := r11) h 0 dX0_line_70 rfl rfl ?_
      refine c_getI (fin := false) h hc [18] 3 (zc_lk3 hc (O := "TreePress$Line") (n := "row") (ds := "I") (host := "TreePress") (by decide)) ht14 (by decide) dX0_line_71 (fun hr20 => ?_)
      exact c_iret h hc rfl hr20 dX0_line_74
    refine r_if (fun he21 => ?_) (fun he21 => ?_)
    · refine r_tsIn h 3 75 ha2 he21 dX0_line_30 (by decide) (by decide) rfl rfl ?_
      refine c_aload_n (x := r11) h 0 dX0_line_75 rfl rfl ?_
      refine c_getR (fin := false) h hc [18] 4 (zc_lk3 hc (O := "TreePress$Line") (n := "of") (ds := "LTreePress$Node;") (host := "TreePress") (by decide)) ht14 (by decide) dX0_line_76 ?_
      refine r_ck (fun ht22 => ?_)
      refine c_getI (fin := false) h hc [6, 11, 13, 14] 0 (zc_lk1 h q324) ht22 (by decide) dX0_line_79 (fun hr23 => ?_)
      exact c_iret h hc rfl hr23 dX0_line_82
    refine r_tsOut h 83 ha2 (by omega) dX0_line_30 rfl ?_
    refine r_bipush h dX0_line_83 (by decide) ?_
    exact c_iret h hc rfl (by decide) dX0_line_85
theorem dX0_at_0 : decode cX0_at 0 = .ok (.iload_n 1, 1) := by decide +kernel
theorem dX0_at_1 : decode cX0_at 1 = .ok (.aload_n 0, 1) := by decide +kernel
theorem dX0_at_2 : decode cX0_at 2 = .ok (.getfield 46, 3) := by decide +kernel
theorem dX0_at_5 : decode cX0_at 5 = .ok (.invokevirtual 90, 3) := by decide +kernel
theorem dX0_at_8 : decode cX0_at 8 = .ok (.invokestatic 99, 3) := by decide +kernel
theorem dX0_at_11 : decode cX0_at 11 = .ok (.ifCond .eq 43, 3) := by decide +kernel
theorem dX0_at_14 : decode cX0_at 14 = .ok (.iload_n 2, 1) := by decide +kernel
theorem dX0_at_15 : decode cX0_at 15 = .ok (.aload_n 0, 1) := by decide +kernel
theorem dX0_at_16 : decode cX0_at 16 = .ok (.getfield 46, 3) := by decide +kernel
theorem dX0_at_19 : decode cX0_at 19 = .ok (.iload_n 1, 1) := by decide +kernel
theorem dX0_at_20 : decode cX0_at 20 = .ok (.invokevirtual 103, 3) := by decide +kernel
theorem dX0_at_23 : decode cX0_at 23 = .ok (.checkcast 252, 3) := by decide +kernel
theorem dX0_at_26 : decode cX0_at 26 = .ok (.getfield 274, 3) := by decide +kernel
theorem dX0_at_29 : decode cX0_at 29 = .ok (.invokestatic 99, 3) := by decide +kernel
theorem dX0_at_32 : decode cX0_at 32 = .ok (.ifCond .eq 22, 3) := by decide +kernel
theorem dX0_at_35 : decode cX0_at 35 = .ok (.aload_n 0, 1) := by decide +kernel
theorem dX0_at_36 : decode cX0_at 36 = .ok (.getfield 46, 3) := by decide +kernel
theorem dX0_at_39 : decode cX0_at 39 = .ok (.iload_n 1, 1) := by decide +kernel
theorem dX0_at_40 : decode cX0_at 40 = .ok (.invokevirtual 103, 3) := by decide +kernel
theorem dX0_at_43 : decode cX0_at 43 = .ok (.checkcast 252, 3) := by decide +kernel
theorem dX0_at_46 : decode cX0_at 46 = .ok (.getfield 271, 3) := by decide +kernel
theorem dX0_at_49 : decode cX0_at 49 = .ok (.iload_n 2, 1) := by decide +kernel
theorem dX0_at_50 : decode cX0_at 50 = .ok (.baload, 1) := by decide +kernel
theorem dX0_at_51 : decode cX0_at 51 = .ok (.goto 4, 3) := by decide +kernel
theorem dX0_at_54 : decode cX0_at 54 = .ok (.iconst (-1), 1) := by decide +kernel
theorem dX0_at_55 : decode cX0_at 55 = .ok (.ireturn, 1) := by decide +kernel
def c_X0_at (μ : MEM) (a0 a1 a2 : Int) : Option zc_O := ck (zt [1] (μ a0 (-1)) = true) (ck (zt [40] (μ (μ a0 11) (-1)) = true) (bc (b_lsize μ (μ a0 11)) (fun r3 μ4 => bc (c_X0_isIn μ4 a1 r3) (fun r6 μ7 => if r6 = 0 then (some (0, (-1), μ7)) else (ck (zt [1] (μ7 a0 (-1)) = true) (ck (zt [40] (μ7 (μ7 a0 11) (-1)) = true) (bc (b_lget μ7 (μ7 a0 11) a1) (fun r11 μ12 => ck (zt [18] (μ12 r11 (-1)) = true) (bc (c_X0_isIn μ12 a2 (μ12 r11 1)) (fun r16 μ17 => if r16 = 0 then (some (0, (-1), μ17)) else (ck (zt [1] (μ17 a0 (-1)) = true) (ck (zt [40] (μ17 (μ17 a0 11) (-1)) = true) (bc (b_lget μ17 (μ17 a0 11) a1) (fun r21 μ22 => ck (zt [18] (μ22 r21 (-1)) = true) (ck (zt [30, 31] (μ22 (μ22 r21 0) (-1)) = true) (ck ((0 : Int) ≤ a2 ∧ a2 < μ22 (μ22 r21 0) (-2)) (some (0, (μ22 (μ22 r21 0) a2), μ22))))))))))))))))))
theorem u_X0_at {G : zc_G} (μ : MEM) (a0 a1 a2 : Int) (ha1 : inR a1) (ha2 : inR a2) (o : zc_O) (hd : c_X0_at μ a0 a1 a2 = some o) : zc_Met G yX0_at cX0_at 3 (Option.some FieldType.int) 1 3 64 μ [zc_rv G a0, iv a1, iv a2] o := by
  refine zc_intro hd (by decide) (by simp [lg_sl, zc_rv_cat, iv_cat, jv_cat]) (lv := [(0, zc_rv G a0), (1, iv a1), (2, iv a2)]) (by simp [lv_args, zc_rv_cat, iv_cat, jv_cat]) (fun C h hc => ?_)
  have h : zv_Ok C cX0_at "TreePress" := h
  have hc : zc_C C G μ 3 (Option.some FieldType.int) 1 3 64 "at" [] := hc
  have hN : ∀ i, i < 3 → i < zv_n C := fun i q => by rw [hc.2.1]; exact q
  unfold c_X0_at
  refine r_iload_n h 1 dX0_at_0 rfl rfl ?_
  refine c_aload_n (x := a0) h 0 dX0_at_1 rfl rfl ?_
  refine r_ck (fun ht1 => ?_)
  refine c_getR (fin := true) h hc [1] 11 (zc_lk1 h q216) ht1 (by decide) dX0_at_2 ?_
  refine r_ck (fun ht2 => ?_)
  refine c_callV (x := (μ a0 11)) h hc (As := []) (fun o1 e1 => w_lsize _ (μ a0 11) o1 e1) [40] ht2 (by decide) q1130 q343 (fun t ht => by cases List.mem_singleton.mp ht; exact q344) q345 q135 (by omega) (by omega) (zc_sc (iv_cat _) zc_s0) (by omega) (fun z hz => by cases hz) ⟨by decide, by decide⟩ (n := 0) (by decide +kernel) rfl rfl dX0_at_5 (fun r3 μ4 hr5 => r_k1 ?_)
  refine c_callS h hc (As := [iv a1, iv r3]) (fun o1 e1 => u_X0_isIn _ a1 r3 ha1 hr5 o1 e1) q1143 q1144 q1145 q132 (by omega) (by omega) zc_s0 (by omega) (fun z hz => by cases hz) ⟨by decide, by decide⟩ (n := 2) (by decide +kernel) rfl rfl dX0_at_8 (fun r6 μ7 hr8 => r_k3 ?_)
  refine r_if_eq (x := r6) h hr8.r 54 dX0_at_11 rfl ?_ ?_
  · refine r_iconst h dX0_at_54 ?_
    exact c_iret h hc rfl (by decide) dX0_at_55
  · refine r_iload_n h 2 dX0_at_14 rfl rfl ?_
    refine c_aload_n (x := a0) h 0 dX0_at_15 rfl rfl ?_
    refine r_ck (fun ht9 => ?_)
    refine c_getR (fin := true) h hc [1] 11 (zc_lk1 h q216) ht9 (by decide) dX0_at_16 ?_
    refine r_iload_n h 1 dX0_at_19 rfl rfl ?_
    refine r_ck (fun ht10 => ?_)
    refine c_callV (x := (μ7 a0 11)) h hc (As := [iv a1]) (fun o1 e1 => w_lget _ (μ7 a0 11) a1 ha1 o1 e1) [40] ht10 (by decide) q1146 q844 (fun t ht => by cases List.mem_singleton.mp ht; exact q845) q846 q135 (by omega) (by omega) (zc_sc (iv_cat _) zc_s0) (by omega) (fun z hz => by cases hz) ⟨by decide, by decide⟩ (n := 1) (by decide +kernel) rfl rfl dX0_at_20 (fun r11 μ12 hr13 => r_k4 ?_)
    refine r_ck (fun ht14 => ?_)
    refine c_cast h hc [18] q1405 ht14 (by decide) dX0_at_23 ?_
    refine c_getI (fin := false) h hc [18] 1 (zc_lk3 hc (O := "TreePress$Line") (n := "many") (ds := "I") (host := "TreePress") (by decide)) ht14 (by decide) dX0_at_26 (fun hr15 => ?_)
    refine c_callS h hc (As := [iv a2, iv (μ12 r11 1)]) (fun o1 e1 => u_X0_isIn _ a2 (μ12 r11 1) ha2 hr15 o1 e1) q1143 q1144 q1145 q132 (by omega) (by omega) zc_s0 (by omega) (fun z hz => by cases hz) ⟨by decide, by decide⟩ (n := 2) (by decide +kernel) rfl rfl dX0_at_29 (fun r16 μ17 hr18 => r_k3 ?_)
    refine r_if_eq (x := r16) h hr18.r 54 dX0_at_32 rfl ?_ ?_
    · refine r_iconst h dX0_at_54 ?_
      exact c_iret h hc rfl (by decide) dX0_at_55
    · refine c_aload_n (x := a0) h 0 dX0_at_35 rfl rfl ?_
      refine r_ck (fun ht19 => ?_)
      refine c_getR (fin := true) h hc [1] 11 (zc_lk1 h q216) ht19 (by decide) dX0_at_36 ?_
      refine r_iload_n h 1 dX0_at_39 rfl rfl ?_
      refine r_ck (fun ht20 => ?_)
      refine c_callV (x := (μ17 a0 11)) h hc (As := [iv a1]) (fun o1 e1 => w_lget _ (μ17 a0 11) a1 ha1 o1 e1) [40] ht20 (by decide) q1146 q844 (fun t ht => by cases List.mem_singleton.mp ht; exact q845) q846 q135 (by omega) (by omega) zc_s0 (by omega) (fun z hz => by cases hz) ⟨by decide, by decide⟩ (n := 1) (by decide +kernel) rfl rfl dX0_at_40 (fun r21 μ22 hr23 => r_k4 ?_)
      refine r_ck (fun ht24 => ?_)
      refine c_cast h hc [18] q1405 ht24 (by decide) dX0_at_43 ?_
      refine c_getR (fin := true) h hc [18] 0 (zc_lk3 hc (O := "TreePress$Line") (n := "bytes") (ds := "[B") (host := "TreePress") (by decide)) ht24 (by decide) dX0_at_46 ?_
      refine r_iload_n h 2 dX0_at_49 rfl rfl ?_
      refine r_ck (fun ht25 => ?_)
      refine c_ldB h hc ht25 dX0_at_50 (fun _ hr26 => ?_)
      refine r_goto h 55 dX0_at_51 rfl ?_
      exact c_iret h hc rfl hr26.r dX0_at_55
theorem dX0_count_0 : decode cX0_count 0 = .ok (.iload_n 1, 1) := by decide +kernel
theorem dX0_count_1 : decode cX0_count 1 = .ok (.tableswitch 180 0 6 #[43, 65, 87, 109, 117, 156, 161], 43) := by decide +kernel
theorem dX0_count_44 : decode cX0_count 44 = .ok (.aload_n 0, 1) := by decide +kernel
theorem dX0_count_45 : decode cX0_count 45 = .ok (.getfield 75, 3) := by decide +kernel
theorem dX0_count_48 : decode cX0_count 48 = .ok (.ifnonnull 7, 3) := by decide +kernel
theorem dX0_count_51 : decode cX0_count 51 = .ok (.iconst 0, 1) := by decide +kernel
theorem dX0_count_52 : decode cX0_count 52 = .ok (.goto 13, 3) := by decide +kernel
theorem dX0_count_55 : decode cX0_count 55 = .ok (.aload_n 0, 1) := by decide +kernel
theorem dX0_count_56 : decode cX0_count 56 = .ok (.getfield 75, 3) := by decide +kernel
theorem dX0_count_59 : decode cX0_count 59 = .ok (.getfield 85, 3) := by decide +kernel
theorem dX0_count_62 : decode cX0_count 62 = .ok (.invokevirtual 90, 3) := by decide +kernel
theorem dX0_count_65 : decode cX0_count 65 = .ok (.ireturn, 1) := by decide +kernel
theorem dX0_count_66 : decode cX0_count 66 = .ok (.aload_n 0, 1) := by decide +kernel
theorem dX0_count_67 : decode cX0_count 67 = .ok (.getfield 75, 3) := by decide +kernel
theorem dX0_count_70 : decode cX0_count 70 = .ok (.ifnonnull 7, 3) := by decide +kernel
theorem dX0_count_73 : decode cX0_count 73 = .ok (.iconst 0, 1) := by decide +kernel
theorem dX0_count_74 : decode cX0_count 74 = .ok (.goto 13, 3) := by decide +kernel
theorem dX0_count_77 : decode cX0_count 77 = .ok (.aload_n 0, 1) := by decide +kernel
theorem dX0_count_78 : decode cX0_count 78 = .ok (.getfield 75, 3) := by decide +kernel
theorem dX0_count_81 : decode cX0_count 81 = .ok (.getfield 325, 3) := by decide +kernel
theorem dX0_count_84 : decode cX0_count 84 = .ok (.invokevirtual 90, 3) := by decide +kernel
theorem dX0_count_87 : decode cX0_count 87 = .ok (.ireturn, 1) := by decide +kernel
theorem dX0_count_88 : decode cX0_count 88 = .ok (.aload_n 0, 1) := by decide +kernel
theorem dX0_count_89 : decode cX0_count 89 = .ok (.getfield 75, 3) := by decide +kernel
theorem dX0_count_92 : decode cX0_count 92 = .ok (.ifnonnull 7, 3) := by decide +kernel
theorem dX0_count_95 : decode cX0_count 95 = .ok (.iconst 0, 1) := by decide +kernel
theorem dX0_count_96 : decode cX0_count 96 = .ok (.goto 13, 3) := by decide +kernel
theorem dX0_count_99 : decode cX0_count 99 = .ok (.aload_n 0, 1) := by decide +kernel
theorem dX0_count_100 : decode cX0_count 100 = .ok (.getfield 75, 3) := by decide +kernel
theorem dX0_count_103 : decode cX0_count 103 = .ok (.getfield 328, 3) := by decide +kernel
theorem dX0_count_106 : decode cX0_count 106 = .ok (.invokevirtual 90, 3) := by decide +kernel
theorem dX0_count_109 : decode cX0_count 109 = .ok (.ireturn, 1) := by decide +kernel
theorem dX0_count_110 : decode cX0_count 110 = .ok (.aload_n 0, 1) := by decide +kernel
theorem dX0_count_111 : decode cX0_count 111 = .ok (.getfield 46, 3) := by decide +kernel
theorem dX0_count_114 : decode cX0_count 114 = .ok (.invokevirtual 90, 3) := by decide +kernel
theorem dX0_count_117 : decode cX0_count 117 = .ok (.ireturn, 1) := by decide +kernel
theorem dX0_count_118 : decode cX0_count 118 = .ok (.aload_n 0, 1) := by decide +kernel
theorem dX0_count_119 : decode cX0_count 119 = .ok (.getfield 46, 3) := by decide +kernel
theorem dX0_count_122 : decode cX0_count 122 = .ok (.invokevirtual 90, 3) := by decide +kernel
theorem dX0_count_125 : decode cX0_count 125 = .ok (.ifCond .ne 7, 3) := by decide +kernel
theorem dX0_count_128 : decode cX0_count 128 = .ok (.iconst 0, 1) := by decide +kernel
theorem dX0_count_129 : decode cX0_count 129 = .ok (.goto 27, 3) := by decide +kernel
theorem dX0_count_132 : decode cX0_count 132 = .ok (.aload_n 0, 1) := by decide +kernel
theorem dX0_count_133 : decode cX0_count 133 = .ok (.getfield 46, 3) := by decide +kernel
theorem dX0_count_136 : decode cX0_count 136 = .ok (.aload_n 0, 1) := by decide +kernel
theorem dX0_count_137 : decode cX0_count 137 = .ok (.getfield 46, 3) := by decide +kernel
theorem dX0_count_140 : decode cX0_count 140 = .ok (.invokevirtual 90, 3) := by decide +kernel
theorem dX0_count_143 : decode cX0_count 143 = .ok (.iconst 1, 1) := by decide +kernel
theorem dX0_count_144 : decode cX0_count 144 = .ok (.isub, 1) := by decide +kernel
theorem dX0_count_145 : decode cX0_count 145 = .ok (.invokevirtual 103, 3) := by decide +kernel
theorem dX0_count_148 : decode cX0_count 148 = .ok (.checkcast 252, 3) := by decide +kernel
theorem dX0_count_151 : decode cX0_count 151 = .ok (.getfield 316, 3) := by decide +kernel
theorem dX0_count_154 : decode cX0_count 154 = .ok (.iconst 1, 1) := by decide +kernel
theorem dX0_count_155 : decode cX0_count 155 = .ok (.iadd, 1) := by decide +kernel
theorem dX0_count_156 : decode cX0_count 156 = .ok (.ireturn, 1) := by decide +kernel
theorem dX0_count_157 : decode cX0_count 157 = .ok (.aload_n 0, 1) := by decide +kernel
theorem dX0_count_158 : decode cX0_count 158 = .ok (.getfield 59, 3) := by decide +kernel
theorem dX0_count_161 : decode cX0_count 161 = .ok (.ireturn, 1) := by decide +kernel
theorem dX0_count_162 : decode cX0_count 162 = .ok (.aload_n 0, 1) := by decide +kernel
theorem dX0_count_163 : decode cX0_count 163 = .ok (.getfield 75, 3) := by decide +kernel
theorem dX0_count_166 : decode cX0_count 166 = .ok (.ifnonnull 7, 3) := by decide +kernel
theorem dX0_count_169 : decode cX0_count 169 = .ok (.iconst 0, 1) := by decide +kernel
theorem dX0_count_170 : decode cX0_count 170 = .ok (.goto 10, 3) := by decide +kernel
theorem dX0_count_173 : decode cX0_count 173 = .ok (.aload_n 0, 1) := by decide +kernel
theorem dX0_count_174 : decode cX0_count 174 = .ok (.getfield 75, 3) := by decide +kernel
theorem dX0_count_177 : decode cX0_count 177 = .ok (.getfield 331, 3) := by decide +kernel
theorem dX0_count_180 : decode cX0_count 180 = .ok (.ireturn, 1) := by decide +kernel
theorem dX0_count_181 : decode cX0_count 181 = .ok (.bipush (-9), 2) := by decide +kernel
theorem dX0_count_183 : decode cX0_count 183 = .ok (.ireturn, 1) := by decide +kernel
def c_X0_count (μ : MEM) (a0 a1 : Int) : Option zc_O := if a1 = 0 then (ck (zt [1] (μ a0 (-1)) = true) (if (μ a0 3) = 0 then (some (0, 0, μ)) else (ck (zt [4] (μ (μ a0 3) (-1)) = true) (ck (zt [40] (μ (μ (μ a0 3) 1) (-1)) = true) (bc (b_lsize μ (μ (μ a0 3) 1)) (fun r5 μ6 => some (0, r5, μ6))))))) else if a1 = 1 then (ck (zt [1] (μ a0 (-1)) = true) (if (μ a0 3) = 0 then (some (0, 0, μ)) else (ck (zt [4] (μ (μ a0 3) (-1)) = true) (ck (zt [40] (μ (μ (μ a0 3) 3) (-1)) = true) (bc (b_lsize μ (μ (μ a0 3) 3)) (fun r12 μ13 => some (0, r12, μ13))))))) else if a1 = 2 then (ck (zt [1] (μ a0 (-1)) = true) (if (μ a0 3) = 0 then (some (0, 0, μ)) else (ck (zt [4] (μ (μ a0 3) (-1)) = true) (ck (zt [40] (μ (μ (μ a0 3) 4) (-1)) = true) (bc (b_lsize μ (μ (μ a0 3) 4)) (fun r19 μ20 => some (0, r19, μ20))))))) else if a1 = 3 then (ck (zt [1] (μ a0 (-1)) = true) (ck (zt [40] (μ (μ a0 11) (-1)) = true) (bc (b_lsize μ (μ a0 11)) (fun r25 μ26 => some (0, r25, μ26))))) else if a1 = 4 then (ck (zt [1] (μ a0 (-1)) = true) (ck (zt [40] (μ (μ a0 11) (-1)) = true) (bc (b_lsize μ (μ a0 11)) (fun r31 μ32 => if r31 = 0 then (some (0, 0, μ32)) else (ck (zt [1] (μ32 a0 (-1)) = true) (ck (zt [40] (μ32 (μ32 a0 11) (-1)) = true) (bc (b_lsize μ32 (μ32 a0 11)) (fun r36 μ37 => ck (inR (r36 - 1)) (ck (zt [40] (μ37 (μ32 a0 11) (-1)) = true) (bc (b_lget μ37 (μ32 a0 11) (r36 - 1)) (fun r41 μ42 => ck (zt [18] (μ42 r41 (-1)) = true) (ck (inR ((μ42 r41 2) + 1)) (some (0, ((μ42 r41 2) + 1), μ42)))))))))))))) else if a1 = 5 then (ck (zt [1] (μ a0 (-1)) = true) (some (0, (μ a0 1), μ))) else if a1 = 6 then (ck (zt [1] (μ a0 (-1)) = true) (if (μ a0 3) = 0 then (some (0, 0, μ)) else (ck (zt [4] (μ (μ a0 3) (-1)) = true) (some (0, (μ (μ a0 3) 6), μ))))) else (some (0, (-9), μ))
theorem u_X0_count {G : zc_G} (μ : MEM) (a0 a1 : Int) (ha1 : inR a1) (o : zc_O) (hd : c_X0_count μ a0 a1 = some o) : zc_Met G yX0_count cX0_count 2 (Option.some FieldType.int) 1 3 64 μ [zc_rv G a0, iv a1] o := by
  refine zc_intro hd (by decide) (by simp [lg_sl, zc_rv_cat, iv_cat, jv_cat]) (lv := [(0, zc_rv G a0), (1, iv a1)]) (by simp [lv_args, zc_rv_cat, iv_cat, jv_cat]) (fun C h hc => ?_)
  have h : zv_Ok C cX0_count "TreePress" := h
  have hc : zc_C C G μ 2 (Option.some FieldType.int) 1 3 64 "count" [] := hc
  have hN : ∀ i, i < 2 → i < zv_n C := fun i q => by rw [hc.2.1]; exact q
  unfold c_X0_count
  refine r_iload_n h 1 dX0_count_0 rfl rfl ?_
  refine r_if (fun he1 => ?_) (fun he1 => ?_)
  · refine r_tsIn h 0 44 ha1 he1 dX0_count_1 (by decide) (by decide) rfl rfl ?_
    refine c_aload_n (x := a0) h 0 dX0_count_44 rfl rfl ?_
    refine r_ck (fun ht2 => ?_)
    refine c_getR (fin := false) h hc [1] 3 (zc_lk1 h q208) ht2 (by decide) dX0_count_45 ?_
    refine c_ifnonnull (x := (μ a0 3)) h 55 dX0_count_48 rfl ?_ ?_
    · refine r_iconst h dX0_count_51 ?_
      refine r_goto h 65 dX0_count_52 rfl ?_
      exact c_iret h hc rfl (by decide) dX0_count_65
    · refine c_aload_n (x := a0) h 0 dX0_count_55 rfl rfl ?_
      refine c_getR (fin := false) h hc [1] 3 (zc_lk1 h q208) ht2 (by decide) dX0_count_56 ?_
      refine r_ck (fun ht3 => ?_)
      refine c_getR (fin := true) h hc [4] 1 (zc_lk3 hc (O := "TreePress$Document") (n := "nodes") (ds := "Ljava/util/ArrayList;") (host := "TreePress") (by decide)) ht3 (by decide) dX0_count_59 ?_
      refine r_ck (fun ht4 => ?_)
      refine c_callV (x := (μ (μ a0 3) 1)) h hc (As := []) (fun o1 e1 => w_lsize _ (μ (μ a0 3) 1) o1 e1) [40] ht4 (by decide) q1130 q343 (fun t ht => by cases List.mem_singleton.mp ht; exact q344) q345 q135 (by omega) (by omega) zc_s0 (by omega) (fun z hz => by cases hz) ⟨by decide, by decide⟩ (n := 0) (by decide +kernel) rfl rfl dX0_count_62 (fun r5 μ6 hr7 => r_k1 ?_)
      exact c_iret h hc rfl hr7 dX0_count_65
  refine r_if (fun he8 => ?_) (fun he8 => ?_)
  · refine r_tsIn h 1 66 ha1 he8 dX0_count_1 (by decide) (by decide) rfl rfl ?_
    refine c_aload_n (x := a0) h 0 dX0_count_66 rfl rfl ?_
    refine r_ck (fun ht9 => ?_)
    refine c_getR (fin := false) h hc [1] 3 (zc_lk1 h q208) ht9 (by decide) dX0_count_67 ?_
    refine c_ifnonnull (x := (μ a0 3)) h 77 dX0_count_70 rfl ?_ ?_
    · refine r_iconst h dX0_count_73 ?_
      refine r_goto h 87 dX0_count_74 rfl ?_
      exact c_iret h hc rfl (by decide) dX0_count_87
    · refine c_aload_n (x := a0) h 0 dX0_count_77 rfl rfl ?_
      refine c_getR (fin := false) h hc [1] 3 (zc_lk1 h q208) ht9 (by decide) dX0_count_78 ?_
      refine r_ck (fun ht10 => ?_)
      refine c_getR (fin := true) h hc [4] 3 (zc_lk3 hc (O := "TreePress$Document") (n := "specs") (ds := "Ljava/util/ArrayList;") (host := "TreePress") (by decide)) ht10 (by decide) dX0_count_81 ?_
      refine r_ck (fun ht11 => ?_)
      refine c_callV (x := (μ (μ a0 3) 3)) h hc (As := []) (fun o1 e1 => w_lsize _ (μ (μ a0 3) 3) o1 e1) [40] ht11 (by decide) q1130 q343 (fun t ht => by cases List.mem_singleton.mp ht; exact q344) q345 q135 (by omega) (by omega) zc_s0 (by omega) (fun z hz => by cases hz) ⟨by decide, by decide⟩ (n := 0) (by decide +kernel) rfl rfl dX0_count_84 (fun r12 μ13 hr14 => r_k1 ?_)
      exact c_iret h hc rfl hr14 dX0_count_87
  refine r_if (fun he15 => ?_) (fun he15 => ?_)
  · refine r_tsIn h 2 88 ha1 he15 dX0_count_1 (by decide) (by decide) rfl rfl ?_
    refine c_aload_n (x := a0) h 0 dX0_count_88 rfl rfl ?_
    refine r_ck (fun ht16 => ?_)
    refine c_getR (fin := false) h hc [1] 3 (zc_lk1 h q208) ht16 (by decide) dX0_count_89 ?_
    refine c_ifnonnull (x := (μ a0 3)) h 99 dX0_count_92 rfl ?_ ?_
    · refine r_iconst h dX0_count_95 ?_
      refine r_goto h 109 dX0_count_96 rfl ?_
      exact c_iret h hc rfl (by decide) dX0_count_109
    · refine c_aload_n (x := a0) h 0 dX0_count_99 rfl rfl ?_
      refine c_getR (fin := false) h hc [1] 3 (zc_lk1 h q208) ht16 (by decide) dX0_count_100 ?_
      refine r_ck (fun ht17 => ?_)
      refine c_getR (fin := true) h hc [4] 4 (zc_lk3 hc (O := "TreePress$Document") (n := "rules") (ds := "Ljava/util/ArrayList;") (host := "TreePress") (by decide)) ht17 (by decide) dX0_count_103 ?_
      refine r_ck (fun ht18 => ?_)
      refine c_callV (x := (μ (μ a0 3) 4)) h hc (As := []) (fun o1 e1 => w_lsize _ (μ (μ a0 3) 4) o1 e1) [40] ht18 (by decide) q1130 q343 (fun t ht => by cases List.mem_singleton.mp ht; exact q344) q345 q135 (by omega) (by omega) zc_s0 (by omega) (fun z hz => by cases hz) ⟨by decide, by decide⟩ (n := 0) (by decide +kernel) rfl rfl dX0_count_106 (fun r19 μ20 hr21 => r_k1 ?_)
      exact c_iret h hc rfl hr21 dX0_count_109
  refine r_if (fun he22 => ?_) (fun he22 => ?_)
  · refine r_tsIn h 3 110 ha1 he22 dX0_count_1 (by decide) (by decide) rfl rfl ?_
    refine c_aload_n (x := a0) h 0 dX0_count_110 rfl rfl ?_
    refine r_ck (fun ht23 => ?_)
    refine c_getR (fin := true) h hc [1] 11 (zc_lk1 h q216) ht23 (by decide) dX0_count_111 ?_
    refine r_ck (fun ht24 => ?_)
    refine c_callV (x := (μ a0 11)) h hc (As := []) (fun o1 e1 => w_lsize _ (μ a0 11) o1 e1) [40] ht24 (by decide) q1130 q343 (fun t ht => by cases List.mem_singleton.mp ht; exact q344) q345 q135 (by omega) (by omega) zc_s0 (by omega) (fun z hz => by cases hz) ⟨by decide, by decide⟩ (n := 0) (by decide +kernel) rfl rfl dX0_count_114 (fun r25 μ26 hr27 => r_k1 ?_)
    exact c_iret h hc rfl hr27 dX0_count_117
  refine r_if (fun he28 => ?_) (fun he28 => ?_)
  · refine r_tsIn h 4 118 ha1 he28 dX0_count_1 (by decide) (by decide) rfl rfl ?_
    refine c_aload_n (x := a0) h 0 dX0_count_118 rfl rfl ?_
    refine r_ck (fun ht29 => ?_)
    refine c_getR (fin := true) h hc [1] 11 (zc_lk1 h q216) ht29 (by decide) dX0_count_119 ?_
    refine r_ck (fun ht30 => ?_)
    refine c_callV (x := (μ a0 11)) h hc (As := []) (fun o1 e1 => w_lsize _ (μ a0 11) o1 e1) [40] ht30 (by decide) q1130 q343 (fun t ht => by cases List.mem_singleton.mp ht; exact q344) q345 q135 (by omega) (by omega) zc_s0 (by omega) (fun z hz => by cases hz) ⟨by decide, by decide⟩ (n := 0) (by decide +kernel) rfl rfl dX0_count_122 (fun r31 μ32 hr33 => r_k1 ?_)
    refine r_if_ne (x := r31) h hr33 132 dX0_count_125 rfl ?_ ?_
    · refine r_iconst h dX0_count_128 ?_
      refine r_goto h 156 dX0_count_129 rfl ?_
      exact c_iret h hc rfl (by decide) dX0_count_156
    · refine c_aload_n (x := a0) h 0 dX0_count_132 rfl rfl ?_
      refine r_ck (fun ht34 => ?_)
      refine c_getR (fin := true) h hc [1] 11 (zc_lk1 h q216) ht34 (by decide) dX0_count_133 ?_
      refine c_aload_n (x := a0) h 0 dX0_count_136 rfl rfl ?_
      refine c_getR (fin := true) h hc [1] 11 (zc_lk1 h q216) ht34 (by decide) dX0_count_137 ?_
      refine r_ck (fun ht35 => ?_)
      refine c_callV (x := (μ32 a0 11)) h hc (As := []) (fun o1 e1 => w_lsize _ (μ32 a0 11) o1 e1) [40] ht35 (by decide) q1130 q343 (fun t ht => by cases List.mem_singleton.mp ht; exact q344) q345 q135 (by omega) (by omega) (zc_sc (zc_rv_cat G _) zc_s0) (by omega) (fun z hz => by cases hz) ⟨by decide, by decide⟩ (n := 0) (by decide +kernel) rfl rfl dX0_count_140 (fun r36 μ37 hr38 => r_k1 ?_)
      refine r_iconst h dX0_count_143 ?_
      refine r_isub h dX0_count_144 ?_
      refine r_ck (fun hk39 => ?_)
      refine r_ck (fun ht40 => ?_)
      refine c_callV (x := (μ32 a0 11)) h hc (As := [iv (r36 - 1)]) (fun o1 e1 => w_lget _ (μ32 a0 11) (r36 - 1) hk39 o1 e1) [40] ht40 (by decide) q1146 q844 (fun t ht => by cases List.mem_singleton.mp ht; exact q845) q846 q135 (by omega) (by omega) zc_s0 (by omega) (fun z hz => by cases hz) ⟨by decide, by decide⟩ (n := 1) (by decide +kernel) rfl rfl dX0_count_145 (fun r41 μ42 hr43 => r_k4 ?_)
      refine r_ck (fun ht44 => ?_)
      refine c_cast h hc [18] q1405 ht44 (by decide) dX0_count_148 ?_
      refine c_getI (fin := false) h hc [18] 2 (zc_lk3 hc (O := "TreePress$Line") (n := "page") (ds := "I") (host := "TreePress") (by decide)) ht44 (by decide) dX0_count_151 (fun hr45 => ?_)
      refine r_iconst h dX0_count_154 ?_
      refine r_iadd h dX0_count_155 ?_
      refine r_ck (fun hk46 => ?_)
      exact c_iret h hc rfl hk46 dX0_count_156
  refine r_if (fun he47 => ?_) (fun he47 => ?_)
  · refine r_tsIn h 5 157 ha1 he47 dX0_count_1 (by decide) (by decide) rfl rfl ?_
    refine c_aload_n (x := a0) h 0 dX0_count_157 rfl rfl ?_
    refine r_ck (fun ht48 => ?_)
    refine c_getI (fin := false) h hc [1] 1 (zc_lk1 h q206) ht48 (by decide) dX0_count_158 (fun hr49 => ?_)
    exact c_iret h hc rfl hr49 dX0_count_161
  refine r_if (fun he50 => ?_) (fun he50 => ?_)
  · refine r_tsIn h 6 162 ha1 he50 dX0_count_1 (by decide) (by decide) rfl rfl ?_
    refine c_aload_n (x := a0) h 0 dX0_count_162 rfl rfl ?_
    refine r_ck (fun ht51 => ?_)
    refine c_getR (fin := false) h hc [1] 3 (zc_lk1 h q208) ht51 (by decide) dX0_count_163 ?_
    refine c_ifnonnull (x := (μ a0 3)) h 173 dX0_count_166 rfl ?_ ?_
    · refine r_iconst h dX0_count_169 ?_
      refine r_goto h 180 dX0_count_170 rfl ?_
      exact c_iret h hc rfl (by decide) dX0_count_180
    · refine c_aload_n (x := a0) h 0 dX0_count_173 rfl rfl ?_
      refine c_getR (fin := false) h hc [1] 3 (zc_lk1 h q208) ht51 (by decide) dX0_count_174 ?_
      refine r_ck (fun ht52 => ?_)
      refine c_getI (fin := false) h hc [4] 6 (zc_lk3 hc (O := "TreePress$Document") (n := "deep") (ds := "I") (host := "TreePress") (by decide)) ht52 (by decide) dX0_count_177 (fun hr53 => ?_)
      exact c_iret h hc rfl hr53 dX0_count_180
  refine r_tsOut h 181 ha1 (by omega) dX0_count_1 rfl ?_
  refine r_bipush h dX0_count_181 (by decide) ?_
  exact c_iret h hc rfl (by decide) dX0_count_183
theorem dX10_init_0 : decode cX10_init 0 = .ok (.aload_n 0, 1) := by decide +kernel
theorem dX10_init_1 : decode cX10_init 1 = .ok (.invokespecial 3, 3) := by decide +kernel
theorem dX10_init_4 : decode cX10_init 4 = .ok (.aload_n 0, 1) := by decide +kernel
theorem dX10_init_5 : decode cX10_init 5 = .ok (.new 9, 3) := by decide +kernel
theorem dX10_init_8 : decode cX10_init 8 = .ok (.dup, 1) := by decide +kernel
theorem dX10_init_9 : decode cX10_init 9 = .ok (.iconst 1, 1) := by decide +kernel
theorem dX10_init_10 : decode cX10_init 10 = .ok (.invokespecial 11, 3) := by decide +kernel
theorem dX10_init_13 : decode cX10_init 13 = .ok (.putfield 14, 3) := by decide +kernel
theorem dX10_init_16 : decode cX10_init 16 = .ok (.aload_n 0, 1) := by decide +kernel
theorem dX10_init_17 : decode cX10_init 17 = .ok (.aload_n 1, 1) := by decide +kernel
theorem dX10_init_18 : decode cX10_init 18 = .ok (.putfield 20, 3) := by decide +kernel
theorem dX10_init_21 : decode cX10_init 21 = .ok (.aload_n 0, 1) := by decide +kernel
theorem dX10_init_22 : decode cX10_init 22 = .ok (.aload_n 2, 1) := by decide +kernel
theorem dX10_init_23 : decode cX10_init 23 = .ok (.putfield 24, 3) := by decide +kernel
theorem dX10_init_26 : decode cX10_init 26 = .ok (.aload_n 0, 1) := by decide +kernel
theorem dX10_init_27 : decode cX10_init 27 = .ok (.iload_n 3, 1) := by decide +kernel
theorem dX10_init_28 : decode cX10_init 28 = .ok (.putfield 27, 3) := by decide +kernel
theorem dX10_init_31 : decode cX10_init 31 = .ok (.return_, 1) := by decide +kernel
def c_X10_init (μ : MEM) (a0 a1 a2 a3 : Int) : Option zc_O := ck (zt [10] (μ a0 (-1)) = true) (ck (1 ≤ μ 0 1 ∧ (3 : Int) ≤ μ 0 2) (nu (mnew μ 21 0 3) (fun μ2 => bc (b_linitN μ2 (μ 0 0) 1) (fun _ μ4 => ck (zt [10] (μ4 a0 (-1)) = true) (nu (mup μ4 a0 5 (μ 0 0)) (fun μ6 => nu (mup μ6 a0 0 a1) (fun μ8 => nu (mup μ8 a0 1 a2) (fun μ10 => nu (mup μ10 a0 2 a3) (fun μ12 => some (0, 0, μ12))))))))))
theorem u_X10_init {G : zc_G} (μ : MEM) (a0 a1 a2 a3 : Int) (ha3 : inR a3) (o : zc_O) (hd : c_X10_init μ a0 a1 a2 a3 = some o) : zc_Met G yX10_init cX10_init 4 (Option.none : Option FieldType) 0 4 81 μ [zc_rv G a0, zc_rv G a1, zc_rv G a2, iv a3] o := by
  refine zc_intro hd (by decide) (by simp [lg_sl, zc_rv_cat, iv_cat, jv_cat]) (lv := [(0, zc_rv G a0), (1, zc_rv G a1), (2, zc_rv G a2), (3, iv a3)]) (by simp [lv_args, zc_rv_cat, iv_cat, jv_cat]) (fun C h hc => ?_)
  have h : zv_Ok C cX10_init "TreePress$Rule" := h
  have hc : zc_C C G μ 4 (Option.none : Option FieldType) 0 4 81 "<init>" [] := hc
  have hN : ∀ i, i < 4 → i < zv_n C := fun i q => by rw [hc.2.1]; exact q
  unfold c_X10_init
  refine c_aload_n (x := a0) h 0 dX10_init_0 rfl rfl ?_
  refine r_ck (fun ht1 => ?_)
  refine c_oinit h hc [10] ht1 (by decide) q806 q173 q174 (by omega) zc_s0 (by omega) dX10_init_1 ?_
  refine c_aload_n (x := a0) h 0 dX10_init_4 rfl rfl ?_
  refine c_new h hc 21 (N := 3) rfl (by decide) q807 q178 q135 dX10_init_5 (fun _ μ2 he3 => ?_)
  refine r_dup h dX10_init_8 (zc_rv_cat G _) ?_
  refine r_iconst h dX10_init_9 ?_
  refine c_callI (x := (μ 0 0)) h hc (As := [iv 1]) (fun o1 e1 => w_linitN _ (μ 0 0) 1 (by decide) o1 e1) [21] (zt_nw he3) (by decide) q808 q302 rfl q303 q135 (by omega) (by omega) (zc_sc (zc_rv_cat G _) (zc_sc (zc_rv_cat G _) zc_s0)) (by omega) (fun z hz => by cases hz) ⟨by decide, by decide⟩ (n := 1) (by decide +kernel) rfl rfl dX10_init_10 (fun _ μ4 _ => r_k0 ?_)
  refine r_ck (fun ht5 => ?_)
  refine c_putR (x := a0) (y := (μ 0 0)) h hc [10] 5 true (zc_lk1 h q823) ht5 (by decide) (Or.inr ⟨rfl, rfl, rfl⟩) (ty := (.object "java/util/ArrayList")) (by decide +kernel) (Or.inl ⟨_, rfl⟩) dX10_init_13 (fun μ6 he7 => ?_)
  refine c_aload_n (x := a0) h 0 dX10_init_16 rfl rfl ?_
  refine c_aload_n (x := a1) h 1 dX10_init_17 rfl rfl ?_
  refine c_putR (x := a0) (y := a1) h hc [10] 0 true (zc_lk1 h q809) (zt_mup he7 (by decide) ht5) (by decide) (Or.inr ⟨rfl, rfl, rfl⟩) (ty := (.array .byte)) (by decide +kernel) (Or.inr ⟨_, rfl⟩) dX10_init_18 (fun μ8 he9 => ?_)
  refine c_aload_n (x := a0) h 0 dX10_init_21 rfl rfl ?_
  refine c_aload_n (x := a2) h 2 dX10_init_22 rfl rfl ?_
  refine c_putR (x := a0) (y := a2) h hc [10] 1 true (zc_lk1 h q812) (zt_mup he9 (by decide) (zt_mup he7 (by decide) ht5)) (by decide) (Or.inr ⟨rfl, rfl, rfl⟩) (ty := (.array .byte)) (by decide +kernel) (Or.inr ⟨_, rfl⟩) dX10_init_23 (fun μ10 he11 => ?_)
  refine c_aload_n (x := a0) h 0 dX10_init_26 rfl rfl ?_
  refine r_iload_n h 3 dX10_init_27 rfl rfl ?_
  refine c_putI (x := a0) (y := a3) h hc [10] 2 true (zc_lk1 h q815) (zt_mup he11 (by decide) (zt_mup he9 (by decide) (zt_mup he7 (by decide) ht5))) (by decide) (Or.inr ⟨rfl, rfl, rfl⟩) ha3 dX10_init_28 (fun μ12 he13 => ?_)
  exact c_vret h hc rfl dX10_init_31
theorem dX10_isOf_0 : decode cX10_isOf 0 = .ok (.aload_n 0, 1) := by decide +kernel
theorem dX10_isOf_1 : decode cX10_isOf 1 = .ok (.getfield 31, 3) := by decide +kernel
theorem dX10_isOf_4 : decode cX10_isOf 4 = .ok (.ifCond .ne 5, 3) := by decide +kernel
theorem dX10_isOf_7 : decode cX10_isOf 7 = .ok (.iconst 1, 1) := by decide +kernel
theorem dX10_isOf_8 : decode cX10_isOf 8 = .ok (.ireturn, 1) := by decide +kernel
theorem dX10_isOf_9 : decode cX10_isOf 9 = .ok (.aload_n 0, 1) := by decide +kernel
theorem dX10_isOf_10 : decode cX10_isOf 10 = .ok (.getfield 31, 3) := by decide +kernel
theorem dX10_isOf_13 : decode cX10_isOf 13 = .ok (.iconst 1, 1) := by decide +kernel
theorem dX10_isOf_14 : decode cX10_isOf 14 = .ok (.if_icmp .ne 8, 3) := by decide +kernel
theorem dX10_isOf_17 : decode cX10_isOf 17 = .ok (.aload_n 1, 1) := by decide +kernel
theorem dX10_isOf_18 : decode cX10_isOf 18 = .ok (.invokestatic 34, 3) := by decide +kernel
theorem dX10_isOf_21 : decode cX10_isOf 21 = .ok (.ireturn, 1) := by decide +kernel
theorem dX10_isOf_22 : decode cX10_isOf 22 = .ok (.iconst 0, 1) := by decide +kernel
theorem dX10_isOf_23 : decode cX10_isOf 23 = .ok (.istore_n 2, 1) := by decide +kernel
theorem dX10_isOf_24 : decode cX10_isOf 24 = .ok (.iconst 0, 1) := by decide +kernel
theorem dX10_isOf_25 : decode cX10_isOf 25 = .ok (.istore_n 3, 1) := by decide +kernel
theorem dX10_isOf_26 : decode cX10_isOf 26 = .ok (.iload_n 3, 1) := by decide +kernel
theorem dX10_isOf_27 : decode cX10_isOf 27 = .ok (.aload_n 0, 1) := by decide +kernel
theorem dX10_isOf_28 : decode cX10_isOf 28 = .ok (.getfield 14, 3) := by decide +kernel
theorem dX10_isOf_31 : decode cX10_isOf 31 = .ok (.invokevirtual 38, 3) := by decide +kernel
theorem dX10_isOf_34 : decode cX10_isOf 34 = .ok (.if_icmp .ge 29, 3) := by decide +kernel
theorem dX10_isOf_37 : decode cX10_isOf 37 = .ok (.iload_n 2, 1) := by decide +kernel
theorem dX10_isOf_38 : decode cX10_isOf 38 = .ok (.ifCond .ne 25, 3) := by decide +kernel
theorem dX10_isOf_41 : decode cX10_isOf 41 = .ok (.aload_n 0, 1) := by decide +kernel
theorem dX10_isOf_42 : decode cX10_isOf 42 = .ok (.getfield 14, 3) := by decide +kernel
theorem dX10_isOf_45 : decode cX10_isOf 45 = .ok (.iload_n 3, 1) := by decide +kernel
theorem dX10_isOf_46 : decode cX10_isOf 46 = .ok (.invokevirtual 42, 3) := by decide +kernel
theorem dX10_isOf_49 : decode cX10_isOf 49 = .ok (.checkcast 46, 3) := by decide +kernel
theorem dX10_isOf_52 : decode cX10_isOf 52 = .ok (.aload_n 1, 1) := by decide +kernel
theorem dX10_isOf_53 : decode cX10_isOf 53 = .ok (.invokestatic 47, 3) := by decide +kernel
theorem dX10_isOf_56 : decode cX10_isOf 56 = .ok (.istore_n 2, 1) := by decide +kernel
theorem dX10_isOf_57 : decode cX10_isOf 57 = .ok (.iinc 3 1, 3) := by decide +kernel
theorem dX10_isOf_60 : decode cX10_isOf 60 = .ok (.goto (-34), 3) := by decide +kernel
theorem dX10_isOf_63 : decode cX10_isOf 63 = .ok (.iload_n 2, 1) := by decide +kernel
theorem dX10_isOf_64 : decode cX10_isOf 64 = .ok (.ireturn, 1) := by decide +kernel
def c_X10_isOf_26 : Nat → MEM → Int → Int → Int → Int → Option zc_O
  | 0, _, _, _, _, _ => none
  | n + 1, μ, x0, x1, x2, x3 => ck (zt [10] (μ x0 (-1)) = true) (ck (zt [40] (μ (μ x0 5) (-1)) = true) (bc (b_lsize μ (μ x0 5)) (fun r3 μ4 => if r3 ≤ x3 then (some (0, x2, μ4)) else (if x2 = 0 then (ck (zt [10] (μ4 x0 (-1)) = true) (ck (zt [40] (μ4 (μ4 x0 5) (-1)) = true) (bc (b_lget μ4 (μ4 x0 5) x3) (fun r8 μ9 => ck (zt [31] (μ9 r8 (-1)) = true) (bc (c_X0_isSame μ9 r8 x1) (fun r12 μ13 => ck (inR (x3 + 1)) (c_X10_isOf_26 n μ13 x0 x1 r12 (x3 + 1)))))))) else (some (0, x2, μ4))))))
theorem u_X10_isOf_26 {C : zv_Cx zc_O} {G : zc_G} {μ0 : MEM} (h : zv_Ok C cX10_isOf "TreePress$Rule") (hc : zc_C C G μ0 4 (Option.some FieldType.boolean) 3 3 64 "isOf" []) : ∀ (n : Nat) (μ : MEM) (x0 x1 x2 x3 : Int), isB x2 → inR x3 → VV C (c_X10_isOf_26 n μ x0 x1 x2 x3) μ [(0, zc_rv G x0), (1, zc_rv G x1), (2, iv x2), (3, iv x3)] [] 26 := by
  have hN : ∀ i, i < 4 → i < zv_n C := fun i q => by rw [hc.2.1]; exact q
  intro n
  induction n with
  | zero => intros; exact r_none
  | succ n ih =>
    intro μ x0 x1 x2 x3 hx2 hx3
    rw [c_X10_isOf_26]
    refine r_iload_n h 3 dX10_isOf_26 rfl rfl ?_
    refine c_aload_n (x := x0) h 0 dX10_isOf_27 rfl rfl ?_
    refine r_ck (fun ht1 => ?_)
    refine c_getR (fin := true) h hc [10] 5 (zc_lk1 h q823) ht1 (by decide) dX10_isOf_28 ?_
    refine r_ck (fun ht2 => ?_)
    refine c_callV (x := (μ x0 5)) h hc (As := []) (fun o1 e1 => w_lsize _ (μ x0 5) o1 e1) [40] ht2 (by decide) q1062 q343 (fun t ht => by cases List.mem_singleton.mp ht; exact q344) q345 q135 (by omega) (by omega) (zc_sc (iv_cat _) zc_s0) (by omega) (fun z hz => by cases hz) ⟨by decide, by decide⟩ (n := 0) (by decide +kernel) rfl rfl dX10_isOf_31 (fun r3 μ4 hr5 => r_k1 ?_)
    refine r_icmp_ge (x := x3) (y := r3) h hx3 hr5 63 dX10_isOf_34 rfl ?_ ?_
    · refine r_iload_n h 2 dX10_isOf_63 rfl rfl ?_
      exact c_zret h hc rfl hx2 dX10_isOf_64
    · refine r_iload_n h 2 dX10_isOf_37 rfl rfl ?_
      refine r_if_ne (x := x2) h hx2.r 63 dX10_isOf_38 rfl ?_ ?_
      · refine c_aload_n (x := x0) h 0 dX10_isOf_41 rfl rfl ?_
        refine r_ck (fun ht6 => ?_)
        refine c_getR (fin := true) h hc [10] 5 (zc_lk1 h q823) ht6 (by decide) dX10_isOf_42 ?_
        refine r_iload_n h 3 dX10_isOf_45 rfl rfl ?_
        refine r_ck (fun ht7 => ?_)
        refine c_callV (x := (μ4 x0 5)) h hc (As := [iv x3]) (fun o1 e1 => w_lget _ (μ4 x0 5) x3 hx3 o1 e1) [40] ht7 (by decide) q1063 q844 (fun t ht => by cases List.mem_singleton.mp ht; exact q845) q846 q135 (by omega) (by omega) zc_s0 (by omega) (fun z hz => by cases hz) ⟨by decide, by decide⟩ (n := 1) (by decide +kernel) rfl rfl dX10_isOf_46 (fun r8 μ9 hr10 => r_k4 ?_)
        refine r_ck (fun ht11 => ?_)
        refine c_cast h hc [31] q1064 ht11 (by decide) dX10_isOf_49 ?_
        refine c_aload_n (x := x1) h 1 dX10_isOf_52 rfl rfl ?_
        refine c_callSN h hc (As := [zc_rv G r8, zc_rv G x1]) (fun o1 e1 => u_X0_isSame _ r8 x1 o1 e1) (host := "TreePress") (by decide) q856 q857 q132 (by omega) (by omega) zc_s0 (by omega) (fun z hz => by cases hz) ⟨by decide, by decide⟩ (n := 2) (by decide +kernel) rfl rfl dX10_isOf_53 (fun r12 μ13 hr14 => r_k3 ?_)
        refine r_istore_n (i := 2) (lv' := [(2, iv r12), (0, zc_rv G x0), (1, zc_rv G x1), (3, iv x3)]) h dX10_isOf_56 rfl (hN _ (by decide)) (by simp [zc_rv_cat]) ?_
        refine r_iinc (lv' := [(3, iv (x3 + 1)), (2, iv r12), (0, zc_rv G x0), (1, zc_rv G x1)]) h 3 dX10_isOf_57 rfl (hN _ (by decide)) rfl ?_
        refine r_goto h 26 dX10_isOf_60 rfl ?_
        refine r_ck (fun hk15 => ?_)
        exact r_lv [2, 3, 1, 0] rfl (ih _ x0 x1 r12 (x3 + 1) hr14 hk15)
      · refine r_iload_n h 2 dX10_isOf_63 rfl rfl ?_
        exact c_zret h hc rfl hx2 dX10_isOf_64
def c_X10_isOf (μ : MEM) (a0 a1 : Int) : Option zc_O := ck (zt [10] (μ a0 (-1)) = true) (if (μ a0 3) = 0 then (some (0, 1, μ)) else (if (μ a0 3) = 1 then (bc (c_X0_isName μ a1) (fun r4 μ5 => some (0, r4, μ5))) else (c_X10_isOf_26 zF μ a0 a1 0 0)))
theorem u_X10_isOf {G : zc_G} (μ : MEM) (a0 a1 : Int) (o : zc_O) (hd : c_X10_isOf μ a0 a1 = some o) : zc_Met G yX10_isOf cX10_isOf 4 (Option.some FieldType.boolean) 3 3 64 μ [zc_rv G a0, zc_rv G a1] o := by
  refine zc_intro hd (by decide) (by simp [lg_sl, zc_rv_cat, iv_cat, jv_cat]) (lv := [(0, zc_rv G a0), (1, zc_rv G a1)]) (by simp [lv_args, zc_rv_cat, iv_cat, jv_cat]) (fun C h hc => ?_)
  have h : zv_Ok C cX10_isOf "TreePress$Rule" := h
  have hc : zc_C C G μ 4 (Option.some FieldType.boolean) 3 3 64 "isOf" [] := hc
  have hN : ∀ i, i < 4 → i < zv_n C := fun i q => by rw [hc.2.1]; exact q
  unfold c_X10_isOf
  refine c_aload_n (x := a0) h 0 dX10_isOf_0 rfl rfl ?_
  refine r_ck (fun ht1 => ?_)
  refine c_getI (fin := false) h hc [10] 3 (zc_lk1 h q818) ht1 (by decide) dX10_isOf_1 (fun hr2 => ?_)
  refine r_if_ne (x := (μ a0 3)) h hr2 9 dX10_isOf_4 rfl ?_ ?_
  · refine r_iconst h dX10_isOf_7 ?_
    exact c_zret h hc rfl (by decide) dX10_isOf_8
  · refine c_aload_n (x := a0) h 0 dX10_isOf_9 rfl rfl ?_
    refine c_getI (fin := false) h hc [10] 3 (zc_lk1 h q818) ht1 (by decide) dX10_isOf_10 (fun hr3 => ?_)
    refine r_iconst h dX10_isOf_13 ?_
    refine r_icmp_ne (x := (μ a0 3)) (y := 1) h hr3 (by decide) 22 dX10_isOf_14 rfl ?_ ?_
    · refine c_aload_n (x := a1) h 1 dX10_isOf_17 rfl rfl ?_
      refine c_callSN h hc (As := [zc_rv G a1]) (fun o1 e1 => u_X0_isName _ a1 o1 e1) (host := "TreePress") (by decide) q1059 q1060 q132 (by omega) (by omega) zc_s0 (by omega) (fun z hz => by cases hz) ⟨by decide, by decide⟩ (n := 1) (by decide +kernel) rfl rfl dX10_isOf_18 (fun r4 μ5 hr6 => r_k3 ?_)
      exact c_zret h hc rfl hr6 dX10_isOf_21
    · refine r_iconst h dX10_isOf_22 ?_
      refine r_istore_n (i := 2) (lv' := [(2, iv 0), (0, zc_rv G a0), (1, zc_rv G a1)]) h dX10_isOf_23 rfl (hN _ (by decide)) (by simp [zc_rv_cat]) ?_
      refine r_iconst h dX10_isOf_24 ?_
      refine r_istore_n (i := 3) (lv' := [(3, iv 0), (2, iv 0), (0, zc_rv G a0), (1, zc_rv G a1)]) h dX10_isOf_25 rfl (hN _ (by decide)) rfl ?_
      exact r_lv [2, 3, 1, 0] rfl (u_X10_isOf_26 h hc zF _ a0 a1 0 0 (by decide) (by decide))
theorem dX2_init_0 : decode cX2_init 0 = .ok (.aload_n 0, 1) := by decide +kernel
theorem dX2_init_1 : decode cX2_init 1 = .ok (.invokespecial 3, 3) := by decide +kernel
theorem dX2_init_4 : decode cX2_init 4 = .ok (.aload_n 0, 1) := by decide +kernel
theorem dX2_init_5 : decode cX2_init 5 = .ok (.iload_n 2, 1) := by decide +kernel
theorem dX2_init_6 : decode cX2_init 6 = .ok (.newarray .byte, 2) := by decide +kernel
theorem dX2_init_8 : decode cX2_init 8 = .ok (.putfield 9, 3) := by decide +kernel
theorem dX2_init_11 : decode cX2_init 11 = .ok (.aload_n 1, 1) := by decide +kernel
theorem dX2_init_12 : decode cX2_init 12 = .ok (.iconst 0, 1) := by decide +kernel
theorem dX2_init_13 : decode cX2_init 13 = .ok (.aload_n 0, 1) := by decide +kernel
theorem dX2_init_14 : decode cX2_init 14 = .ok (.getfield 9, 3) := by decide +kernel
theorem dX2_init_17 : decode cX2_init 17 = .ok (.iconst 0, 1) := by decide +kernel
theorem dX2_init_18 : decode cX2_init 18 = .ok (.iload_n 2, 1) := by decide +kernel
theorem dX2_init_19 : decode cX2_init 19 = .ok (.invokestatic 15, 3) := by decide +kernel
theorem dX2_init_22 : decode cX2_init 22 = .ok (.aload_n 0, 1) := by decide +kernel
theorem dX2_init_23 : decode cX2_init 23 = .ok (.iload_n 2, 1) := by decide +kernel
theorem dX2_init_24 : decode cX2_init 24 = .ok (.putfield 21, 3) := by decide +kernel
theorem dX2_init_27 : decode cX2_init 27 = .ok (.return_, 1) := by decide +kernel
def c_X2_init (μ : MEM) (a0 a1 a2 : Int) : Option zc_O := ck (zt [3, 15] (μ a0 (-1)) = true) (ck ((0 : Int) ≤ a2 ∧ a2 ≤ 1000000) (ck (1 ≤ μ 0 1 ∧ a2 ≤ μ 0 2) (nu (mnew μ 31 a2 a2) (fun μ2 => ck (zt [3, 15] (μ2 a0 (-1)) = true) (nu (mup μ2 a0 0 (μ 0 0)) (fun μ5 => ck (zt [31] (μ5 a1 (-1)) = true) (ck (zt [31] (μ5 (μ5 a0 0) (-1)) = true) (ck ((0 : Int) ≤ 0 ∧ (0 : Int) ≤ 0 ∧ (0 : Int) ≤ a2 ∧ 0 + a2 ≤ μ5 a1 (-2) ∧ 0 + a2 ≤ μ5 (μ5 a0 0) (-2)) (nu (mcpy μ5 a1 0 (μ5 a0 0) 0 a2) (fun μ9 => ck (zt [3, 15] (μ9 a0 (-1)) = true) (nu (mup μ9 a0 1 a2) (fun μ11 => some (0, 0, μ11)))))))))))))
theorem u_X2_init {G : zc_G} (μ : MEM) (a0 a1 a2 : Int) (ha2 : inR a2) (o : zc_O) (hd : c_X2_init μ a0 a1 a2 = some o) : zc_Met G yX2_init cX2_init 3 (Option.none : Option FieldType) 0 1 20 μ [zc_rv G a0, zc_rv G a1, iv a2] o := by
  refine zc_intro hd (by decide) (by simp [lg_sl, zc_rv_cat, iv_cat, jv_cat]) (lv := [(0, zc_rv G a0), (1, zc_rv G a1), (2, iv a2)]) (by simp [lv_args, zc_rv_cat, iv_cat, jv_cat]) (fun C h hc => ?_)
  have h : zv_Ok C cX2_init "TreePress$Reader" := h
  have hc : zc_C C G μ 3 (Option.none : Option FieldType) 0 1 20 "<init>" [] := hc
  have hN : ∀ i, i < 3 → i < zv_n C := fun i q => by rw [hc.2.1]; exact q
  unfold c_X2_init
  refine c_aload_n (x := a0) h 0 dX2_init_0 rfl rfl ?_
  refine r_ck (fun ht1 => ?_)
  refine c_oinit h hc [3, 15] ht1 (by decide) q281 q173 q174 (by omega) zc_s0 (by omega) dX2_init_1 ?_
  refine c_aload_n (x := a0) h 0 dX2_init_4 rfl rfl ?_
  refine r_iload_n h 2 dX2_init_5 rfl rfl ?_
  refine c_naB (x := a2) h hc rfl q203 ha2 dX2_init_6 (fun _ _ μ2 he3 => ?_)
  refine r_ck (fun ht4 => ?_)
  refine c_putR (x := a0) (y := (μ 0 0)) h hc [3, 15] 0 true (zc_lk1 h q451) ht4 (by decide) (Or.inr ⟨rfl, rfl, rfl⟩) (ty := (.array .byte)) (by decide +kernel) (Or.inr ⟨_, rfl⟩) dX2_init_8 (fun μ5 he6 => ?_)
  refine c_aload_n (x := a1) h 1 dX2_init_11 rfl rfl ?_
  refine r_iconst h dX2_init_12 ?_
  refine c_aload_n (x := a0) h 0 dX2_init_13 rfl rfl ?_
  refine c_getR (fin := true) h hc [3, 15] 0 (zc_lk1 h q451) (zt_mup he6 (by decide) ht4) (by decide) dX2_init_14 ?_
  refine r_iconst h dX2_init_17 ?_
  refine r_iload_n h 2 dX2_init_18 rfl rfl ?_
  refine r_ck (fun ht7 => ?_)
  refine r_ck (fun ht8 => ?_)
  refine c_cpB (x := a1) (y := (μ5 a0 0)) (sp := 0) (dp := 0) (n := a2) h hc q282 (by decide) (by decide) ha2 ht7 ht8 (by omega) (by show 7 + 11 ≤ _; omega) dX2_init_19 (fun μ9 _ => ?_)
  refine c_aload_n (x := a0) h 0 dX2_init_22 rfl rfl ?_
  refine r_iload_n h 2 dX2_init_23 rfl rfl ?_
  refine r_ck (fun ht10 => ?_)
  refine c_putI (x := a0) (y := a2) h hc [3, 15] 1 true (zc_lk1 h q452) ht10 (by decide) (Or.inr ⟨rfl, rfl, rfl⟩) ha2 dX2_init_24 (fun μ11 he12 => ?_)
  exact c_vret h hc rfl dX2_init_27
theorem dX15_init_0 : decode cX15_init 0 = .ok (.aload_n 0, 1) := by decide +kernel
theorem dX15_init_1 : decode cX15_init 1 = .ok (.aload_n 1, 1) := by decide +kernel
theorem dX15_init_2 : decode cX15_init 2 = .ok (.iload_n 2, 1) := by decide +kernel
theorem dX15_init_3 : decode cX15_init 3 = .ok (.invokespecial 3, 3) := by decide +kernel
theorem dX15_init_6 : decode cX15_init 6 = .ok (.aload_n 0, 1) := by decide +kernel
theorem dX15_init_7 : decode cX15_init 7 = .ok (.new 9, 3) := by decide +kernel
theorem dX15_init_10 : decode cX15_init 10 = .ok (.dup, 1) := by decide +kernel
theorem dX15_init_11 : decode cX15_init 11 = .ok (.invokespecial 11, 3) := by decide +kernel
theorem dX15_init_14 : decode cX15_init 14 = .ok (.putfield 14, 3) := by decide +kernel
theorem dX15_init_17 : decode cX15_init 17 = .ok (.return_, 1) := by decide +kernel
def c_X15_init (μ : MEM) (a0 a1 a2 : Int) : Option zc_O := ck (zt [15] (μ a0 (-1)) = true) (bc (c_X2_init μ a0 a1 a2) (fun _ μ2 => ck (1 ≤ μ2 0 1 ∧ (3 : Int) ≤ μ2 0 2) (nu (mnew μ2 21 0 3) (fun μ3 => bc (b_linit μ3 (μ2 0 0)) (fun _ μ5 => ck (zt [15] (μ5 a0 (-1)) = true) (nu (mup μ5 a0 3 (μ2 0 0)) (fun μ7 => some (0, 0, μ7))))))))
theorem u_X15_init {G : zc_G} (μ : MEM) (a0 a1 a2 : Int) (ha2 : inR a2) (o : zc_O) (hd : c_X15_init μ a0 a1 a2 = some o) : zc_Met G yX15_init cX15_init 3 (Option.none : Option FieldType) 0 4 80 μ [zc_rv G a0, zc_rv G a1, iv a2] o := by
  refine zc_intro hd (by decide) (by simp [lg_sl, zc_rv_cat, iv_cat, jv_cat]) (lv := [(0, zc_rv G a0), (1, zc_rv G a1), (2, iv a2)]) (by simp [lv_args, zc_rv_cat, iv_cat, jv_cat]) (fun C h hc => ?_)
  have h : zv_Ok C cX15_init "TreePress$PathReader" := h
  have hc : zc_C C G μ 3 (Option.none : Option FieldType) 0 4 80 "<init>" [] := hc
  have hN : ∀ i, i < 3 → i < zv_n C := fun i q => by rw [hc.2.1]; exact q
  unfold c_X15_init
  refine c_aload_n (x := a0) h 0 dX15_init_0 rfl rfl ?_
  refine c_aload_n (x := a1) h 1 dX15_init_1 rfl rfl ?_
  refine r_iload_n h 2 dX15_init_2 rfl rfl ?_
  refine r_ck (fun ht1 => ?_)
  refine c_callI (x := a0) h hc (As := [zc_rv G a1, iv a2]) (fun o1 e1 => u_X2_init _ a0 a1 a2 ha2 o1 e1) [15] ht1 (by decide) q1224 q279 rfl q280 q137 (by omega) (by omega) zc_s0 (by omega) (fun z hz => by cases hz) ⟨by decide, by decide⟩ (n := 2) (by decide +kernel) rfl rfl dX15_init_3 (fun _ μ2 _ => r_k0 ?_)
  refine c_aload_n (x := a0) h 0 dX15_init_6 rfl rfl ?_
  refine c_new h hc 21 (N := 3) rfl (by decide) q1225 q178 q135 dX15_init_7 (fun _ μ3 he4 => ?_)
  refine r_dup h dX15_init_10 (zc_rv_cat G _) ?_
  refine c_callI (x := (μ2 0 0)) h hc (As := []) (fun o1 e1 => w_linit _ (μ2 0 0) o1 e1) [21] (zt_nw he4) (by decide) q1226 q180 rfl q181 q135 (by omega) (by omega) (zc_sc (zc_rv_cat G _) (zc_sc (zc_rv_cat G _) zc_s0)) (by omega) (fun z hz => by cases hz) ⟨by decide, by decide⟩ (n := 0) (by decide +kernel) rfl rfl dX15_init_11 (fun _ μ5 _ => r_k0 ?_)
  refine r_ck (fun ht6 => ?_)
  refine c_putR (x := a0) (y := (μ2 0 0)) h hc [15] 3 true (zc_lk1 h q1227) ht6 (by decide) (Or.inr ⟨rfl, rfl, rfl⟩) (ty := (.object "java/util/ArrayList")) (by decide +kernel) (Or.inl ⟨_, rfl⟩) dX15_init_14 (fun μ7 he8 => ?_)
  exact c_vret h hc rfl dX15_init_17
theorem dX16_init_0 : decode cX16_init 0 = .ok (.aload_n 0, 1) := by decide +kernel
theorem dX16_init_1 : decode cX16_init 1 = .ok (.invokespecial 1, 3) := by decide +kernel
theorem dX16_init_4 : decode cX16_init 4 = .ok (.aload_n 0, 1) := by decide +kernel
theorem dX16_init_5 : decode cX16_init 5 = .ok (.new 7, 3) := by decide +kernel
theorem dX16_init_8 : decode cX16_init 8 = .ok (.dup, 1) := by decide +kernel
theorem dX16_init_9 : decode cX16_init 9 = .ok (.iconst 1, 1) := by decide +kernel
theorem dX16_init_10 : decode cX16_init 10 = .ok (.invokespecial 9, 3) := by decide +kernel
theorem dX16_init_13 : decode cX16_init 13 = .ok (.putfield 12, 3) := by decide +kernel
theorem dX16_init_16 : decode cX16_init 16 = .ok (.return_, 1) := by decide +kernel
def c_X16_init (μ : MEM) (a0 : Int) : Option zc_O := ck (zt [16] (μ a0 (-1)) = true) (ck (1 ≤ μ 0 1 ∧ (3 : Int) ≤ μ 0 2) (nu (mnew μ 21 0 3) (fun μ2 => bc (b_linitN μ2 (μ 0 0) 1) (fun _ μ4 => ck (zt [16] (μ4 a0 (-1)) = true) (nu (mup μ4 a0 3 (μ 0 0)) (fun μ6 => some (0, 0, μ6)))))))
theorem u_X16_init {G : zc_G} (μ : MEM) (a0 : Int) (o : zc_O) (hd : c_X16_init μ a0 = some o) : zc_Met G yX16_init cX16_init 1 (Option.none : Option FieldType) 0 4 81 μ [zc_rv G a0] o := by
  refine zc_intro hd (by decide) (by simp [lg_sl, zc_rv_cat, iv_cat, jv_cat]) (lv := [(0, zc_rv G a0)]) (by simp [lv_args, zc_rv_cat, iv_cat, jv_cat]) (fun C h hc => ?_)
  have h : zv_Ok C cX16_init "TreePress$Step" := h
  have hc : zc_C C G μ 1 (Option.none : Option FieldType) 0 4 81 "<init>" [] := hc
  have hN : ∀ i, i < 1 → i < zv_n C := fun i q => by rw [hc.2.1]; exact q
  unfold c_X16_init
  refine c_aload_n (x := a0) h 0 dX16_init_0 rfl rfl ?_
  refine r_ck (fun ht1 => ?_)
  refine c_oinit h hc [16] ht1 (by decide) q1272 q173 q174 (by omega) zc_s0 (by omega) dX16_init_1 ?_
  refine c_aload_n (x := a0) h 0 dX16_init_4 rfl rfl ?_
  refine c_new h hc 21 (N := 3) rfl (by decide) q1273 q178 q135 dX16_init_5 (fun _ μ2 he3 => ?_)
  refine r_dup h dX16_init_8 (zc_rv_cat G _) ?_
  refine r_iconst h dX16_init_9 ?_
  refine c_callI (x := (μ 0 0)) h hc (As := [iv 1]) (fun o1 e1 => w_linitN _ (μ 0 0) 1 (by decide) o1 e1) [21] (zt_nw he3) (by decide) q1274 q302 rfl q303 q135 (by omega) (by omega) (zc_sc (zc_rv_cat G _) (zc_sc (zc_rv_cat G _) zc_s0)) (by omega) (fun z hz => by cases hz) ⟨by decide, by decide⟩ (n := 1) (by decide +kernel) rfl rfl dX16_init_10 (fun _ μ4 _ => r_k0 ?_)
  refine r_ck (fun ht5 => ?_)
  refine c_putR (x := a0) (y := (μ 0 0)) h hc [16] 3 true (zc_lk1 h q1281) ht5 (by decide) (Or.inr ⟨rfl, rfl, rfl⟩) (ty := (.object "java/util/ArrayList")) (by decide +kernel) (Or.inl ⟨_, rfl⟩) dX16_init_13 (fun μ6 he7 => ?_)
  exact c_vret h hc rfl dX16_init_16
theorem dX17_init_0 : decode cX17_init 0 = .ok (.aload_n 0, 1) := by decide +kernel
theorem dX17_init_1 : decode cX17_init 1 = .ok (.invokespecial 1, 3) := by decide +kernel
theorem dX17_init_4 : decode cX17_init 4 = .ok (.return_, 1) := by decide +kernel
def c_X17_init (μ : MEM) (a0 : Int) : Option zc_O := ck (zt [17] (μ a0 (-1)) = true) (some (0, 0, μ))
theorem u_X17_init {G : zc_G} (μ : MEM) (a0 : Int) (o : zc_O) (hd : c_X17_init μ a0 = some o) : zc_Met G yX17_init cX17_init 1 (Option.none : Option FieldType) 0 1 20 μ [zc_rv G a0] o := by
  refine zc_intro hd (by decide) (by simp [lg_sl, zc_rv_cat, iv_cat, jv_cat]) (lv := [(0, zc_rv G a0)]) (by simp [lv_args, zc_rv_cat, iv_cat, jv_cat]) (fun C h hc => ?_)
  have h : zv_Ok C cX17_init "TreePress$Test" := h
  have hc : zc_C C G μ 1 (Option.none : Option FieldType) 0 1 20 "<init>" [] := hc
  have hN : ∀ i, i < 1 → i < zv_n C := fun i q => by rw [hc.2.1]; exact q
  unfold c_X17_init
  refine c_aload_n (x := a0) h 0 dX17_init_0 rfl rfl ?_
  refine r_ck (fun ht1 => ?_)
  refine c_oinit h hc [17] ht1 (by decide) q1313 q173 q174 (by omega) zc_s0 (by omega) dX17_init_1 ?_
  exact c_vret h hc rfl dX17_init_4
theorem dX15_quoted_0 : decode cX15_quoted 0 = .ok (.aload_n 0, 1) := by decide +kernel
theorem dX15_quoted_1 : decode cX15_quoted 1 = .ok (.invokevirtual 20, 3) := by decide +kernel
theorem dX15_quoted_4 : decode cX15_quoted 4 = .ok (.istore_n 1, 1) := by decide +kernel
theorem dX15_quoted_5 : decode cX15_quoted 5 = .ok (.iload_n 1, 1) := by decide +kernel
theorem dX15_quoted_6 : decode cX15_quoted 6 = .ok (.bipush 34, 2) := by decide +kernel
theorem dX15_quoted_8 : decode cX15_quoted 8 = .ok (.if_icmp .eq 22, 3) := by decide +kernel
theorem dX15_quoted_11 : decode cX15_quoted 11 = .ok (.iload_n 1, 1) := by decide +kernel
theorem dX15_quoted_12 : decode cX15_quoted 12 = .ok (.bipush 39, 2) := by decide +kernel
theorem dX15_quoted_14 : decode cX15_quoted 14 = .ok (.if_icmp .eq 16, 3) := by decide +kernel
theorem dX15_quoted_17 : decode cX15_quoted 17 = .ok (.new 47, 3) := by decide +kernel
theorem dX15_quoted_20 : decode cX15_quoted 20 = .ok (.dup, 1) := by decide +kernel
theorem dX15_quoted_21 : decode cX15_quoted 21 = .ok (.iconst (-1), 1) := by decide +kernel
theorem dX15_quoted_22 : decode cX15_quoted 22 = .ok (.aload_n 0, 1) := by decide +kernel
theorem dX15_quoted_23 : decode cX15_quoted 23 = .ok (.invokevirtual 49, 3) := by decide +kernel
theorem dX15_quoted_26 : decode cX15_quoted 26 = .ok (.invokespecial 52, 3) := by decide +kernel
theorem dX15_quoted_29 : decode cX15_quoted 29 = .ok (.athrow, 1) := by decide +kernel
theorem dX15_quoted_30 : decode cX15_quoted 30 = .ok (.aload_n 0, 1) := by decide +kernel
theorem dX15_quoted_31 : decode cX15_quoted 31 = .ok (.aload_n 0, 1) := by decide +kernel
theorem dX15_quoted_32 : decode cX15_quoted 32 = .ok (.invokevirtual 49, 3) := by decide +kernel
theorem dX15_quoted_35 : decode cX15_quoted 35 = .ok (.iconst 1, 1) := by decide +kernel
theorem dX15_quoted_36 : decode cX15_quoted 36 = .ok (.iadd, 1) := by decide +kernel
theorem dX15_quoted_37 : decode cX15_quoted 37 = .ok (.invokevirtual 108, 3) := by decide +kernel
theorem dX15_quoted_40 : decode cX15_quoted 40 = .ok (.aload_n 0, 1) := by decide +kernel
theorem dX15_quoted_41 : decode cX15_quoted 41 = .ok (.invokevirtual 49, 3) := by decide +kernel
theorem dX15_quoted_44 : decode cX15_quoted 44 = .ok (.istore_n 2, 1) := by decide +kernel
theorem dX15_quoted_45 : decode cX15_quoted 45 = .ok (.aload_n 0, 1) := by decide +kernel
theorem dX15_quoted_46 : decode cX15_quoted 46 = .ok (.invokevirtual 20, 3) := by decide +kernel
theorem dX15_quoted_49 : decode cX15_quoted 49 = .ok (.iload_n 1, 1) := by decide +kernel
theorem dX15_quoted_50 : decode cX15_quoted 50 = .ok (.if_icmp .eq 39, 3) := by decide +kernel
theorem dX15_quoted_53 : decode cX15_quoted 53 = .ok (.aload_n 0, 1) := by decide +kernel
theorem dX15_quoted_54 : decode cX15_quoted 54 = .ok (.invokevirtual 20, 3) := by decide +kernel
theorem dX15_quoted_57 : decode cX15_quoted 57 = .ok (.invokestatic 130, 3) := by decide +kernel
theorem dX15_quoted_60 : decode cX15_quoted 60 = .ok (.ifCond .ne 16, 3) := by decide +kernel
theorem dX15_quoted_63 : decode cX15_quoted 63 = .ok (.new 47, 3) := by decide +kernel
theorem dX15_quoted_66 : decode cX15_quoted 66 = .ok (.dup, 1) := by decide +kernel
theorem dX15_quoted_67 : decode cX15_quoted 67 = .ok (.iconst (-1), 1) := by decide +kernel
theorem dX15_quoted_68 : decode cX15_quoted 68 = .ok (.aload_n 0, 1) := by decide +kernel
theorem dX15_quoted_69 : decode cX15_quoted 69 = .ok (.invokevirtual 49, 3) := by decide +kernel
theorem dX15_quoted_72 : decode cX15_quoted 72 = .ok (.invokespecial 52, 3) := by decide +kernel
theorem dX15_quoted_75 : decode cX15_quoted 75 = .ok (.athrow, 1) := by decide +kernel
theorem dX15_quoted_76 : decode cX15_quoted 76 = .ok (.aload_n 0, 1) := by decide +kernel
theorem dX15_quoted_77 : decode cX15_quoted 77 = .ok (.aload_n 0, 1) := by decide +kernel
theorem dX15_quoted_78 : decode cX15_quoted 78 = .ok (.invokevirtual 49, 3) := by decide +kernel
theorem dX15_quoted_81 : decode cX15_quoted 81 = .ok (.iconst 1, 1) := by decide +kernel
theorem dX15_quoted_82 : decode cX15_quoted 82 = .ok (.iadd, 1) := by decide +kernel
theorem dX15_quoted_83 : decode cX15_quoted 83 = .ok (.invokevirtual 108, 3) := by decide +kernel
theorem dX15_quoted_86 : decode cX15_quoted 86 = .ok (.goto (-41), 3) := by decide +kernel
theorem dX15_quoted_89 : decode cX15_quoted 89 = .ok (.aload_n 0, 1) := by decide +kernel
theorem dX15_quoted_90 : decode cX15_quoted 90 = .ok (.iload_n 2, 1) := by decide +kernel
theorem dX15_quoted_91 : decode cX15_quoted 91 = .ok (.invokevirtual 133, 3) := by decide +kernel
theorem dX15_quoted_94 : decode cX15_quoted 94 = .ok (.astore_n 3, 1) := by decide +kernel
theorem dX15_quoted_95 : decode cX15_quoted 95 = .ok (.aload_n 0, 1) := by decide +kernel
theorem dX15_quoted_96 : decode cX15_quoted 96 = .ok (.aload_n 0, 1) := by decide +kernel
theorem dX15_quoted_97 : decode cX15_quoted 97 = .ok (.invokevirtual 49, 3) := by decide +kernel
theorem dX15_quoted_100 : decode cX15_quoted 100 = .ok (.iconst 1, 1) := by decide +kernel
theorem dX15_quoted_101 : decode cX15_quoted 101 = .ok (.iadd, 1) := by decide +kernel
theorem dX15_quoted_102 : decode cX15_quoted 102 = .ok (.invokevirtual 108, 3) := by decide +kernel
theorem dX15_quoted_105 : decode cX15_quoted 105 = .ok (.aload_n 3, 1) := by decide +kernel
theorem dX15_quoted_106 : decode cX15_quoted 106 = .ok (.areturn, 1) := by decide +kernel
def c_X15_quoted_45 : Nat → MEM → Int → Int → Int → Option zc_O
  | 0, _, _, _, _ => none
  | n + 1, μ, x0, x1, x2 => ck (zt [15] (μ x0 (-1)) = true) (bc (c_X2_here μ x0) (fun r2 μ3 => if r2 = x1 then (ck (zt [15] (μ3 x0 (-1)) = true) (bc (c_X2_cut μ3 x0 x2) (fun r6 μ7 => ck (zt [15] (μ7 x0 (-1)) = true) (bc (c_X2_place μ7 x0) (fun r10 μ11 => ck (inR (r10 + 1)) (ck (zt [15] (μ11 x0 (-1)) = true) (bc (c_X2_goTo μ11 x0 (r10 + 1)) (fun _ μ15 => some (0, r6, μ15))))))))) else (ck (zt [15] (μ3 x0 (-1)) = true) (bc (c_X2_here μ3 x0) (fun r17 μ18 => bc (c_X0_isChar μ18 r17) (fun r20 μ21 => if r20 = 0 then (ck (1 ≤ μ21 0 1 ∧ (8 : Int) ≤ μ21 0 2) (nu (mnew μ21 22 0 8) (fun μ23 => ck (zt [15] (μ23 x0 (-1)) = true) (bc (c_X2_place μ23 x0) (fun r26 μ27 => ck (zt [22] (μ27 (μ21 0 0) (-1)) = true) (bc (b_finit μ27 (μ21 0 0) (-1) r26) (fun _ μ30 => ck (0 < (μ21 0 0)) (some (1, (μ21 0 0), μ30))))))))) else (ck (zt [15] (μ21 x0 (-1)) = true) (bc (c_X2_place μ21 x0) (fun r32 μ33 => ck (inR (r32 + 1)) (ck (zt [15] (μ33 x0 (-1)) = true) (bc (c_X2_goTo μ33 x0 (r32 + 1)) (fun _ μ37 => c_X15_quoted_45 n μ37 x0 x1 x2))))))))))))
theorem u_X15_quoted_45 {C : zv_Cx zc_O} {G : zc_G} {μ0 : MEM} (h : zv_Ok C cX15_quoted "TreePress$PathReader") (hc : zc_C C G μ0 4 (Option.some (FieldType.array FieldType.byte)) 4 7 142 "quoted" []) : ∀ (n : Nat) (μ : MEM) (x0 x1 x2 : Int), inR x1 → inR x2 → VV C (c_X15_quoted_45 n μ x0 x1 x2) μ [(0, zc_rv G x0), (1, iv x1), (2, iv x2)] [] 45 := by
  have hN : ∀ i, i < 4 → i < zv_n C := fun i q => by rw [hc.2.1]; exact q
  intro n
  induction n with
  | zero => intros; exact r_none
  | succ n ih =>
    intro μ x0 x1 x2 hx1 hx2
    rw [c_X15_quoted_45]
    refine c_aload_n (x := x0) h 0 dX15_quoted_45 rfl rfl ?_
    refine r_ck (fun ht1 => ?_)
    refine c_callU (x := x0) (xm := ⟨"TreePress$PathReader", "here", "()I"⟩) (owner := "TreePress$Reader") h hc (As := []) (fun o1 e1 => u_X2_here _ x0 o1 e1) [15] ht1 (by decide) q1243 q1244 (va_Decl.of (h.2.2.2.2 _ q493) (h.2.2.2.2 _ q494)) ⟨by decide, by decide⟩ q493 (fun t ht => by cases List.mem_singleton.mp ht; exact q1245) q494 q137 (by omega) (by omega) zc_s0 (by omega) (fun z hz => by cases hz) (n := 0) (by decide +kernel) rfl rfl dX15_quoted_46 (fun r2 μ3 hr4 => r_k1 ?_)
    refine r_iload_n h 1 dX15_quoted_49 rfl rfl ?_
    refine r_icmp_eq (x := r2) (y := x1) h hr4 hx1 89 dX15_quoted_50 rfl ?_ ?_
    · refine c_aload_n (x := x0) h 0 dX15_quoted_89 rfl rfl ?_
      refine r_iload_n h 2 dX15_quoted_90 rfl rfl ?_
      refine r_ck (fun ht5 => ?_)
      refine c_callU (x := x0) (xm := ⟨"TreePress$PathReader", "cut", "(I)[B"⟩) (owner := "TreePress$Reader") h hc (As := [iv x2]) (fun o1 e1 => u_X2_cut _ x0 x2 hx2 o1 e1) [15] ht5 (by decide) q1345 q1346 (va_Decl.of (h.2.2.2.2 _ q683) (h.2.2.2.2 _ q687)) ⟨by decide, by decide⟩ q683 (fun t ht => by cases List.mem_singleton.mp ht; exact q1348) q687 q137 (by omega) (by omega) zc_s0 (by omega) (fun z hz => by cases hz) (n := 1) (by decide +kernel) rfl rfl dX15_quoted_91 (fun r6 μ7 hr8 => r_k4 ?_)
      refine c_astore_n (i := 3) (lv' := [(3, zc_rv G r6), (0, zc_rv G x0), (1, iv x1), (2, iv x2)]) h dX15_quoted_94 rfl (hN _ (by decide)) rfl ?_
      refine c_aload_n (x := x0) h 1 dX15_quoted_95 rfl rfl ?_
      refine c_aload_n (x := x0) h 1 dX15_quoted_96 rfl rfl ?_
      refine r_ck (fun ht9 => ?_)
      refine c_callU (x := x0) (xm := ⟨"TreePress$PathReader", "place", "()I"⟩) (owner := "TreePress$Reader") h hc (As := []) (fun o1 e1 => u_X2_place _ x0 o1 e1) [15] ht9 (by decide) q1258 q1259 (va_Decl.of (h.2.2.2.2 _ q487) (h.2.2.2.2 _ q488)) ⟨by decide, by decide⟩ q487 (fun t ht => by cases List.mem_singleton.mp ht; exact q1260) q488 q137 (by omega) (by omega) (zc_sc (zc_rv_cat G _) zc_s0) (by omega) (fun z hz => by cases hz) (n := 0) (by decide +kernel) rfl rfl dX15_quoted_97 (fun r10 μ11 hr12 => r_k1 ?_)
      refine r_iconst h dX15_quoted_100 ?_
      refine r_iadd h dX15_quoted_101 ?_
      refine r_ck (fun hk13 => ?_)
      refine r_ck (fun ht14 => ?_)
      refine c_callU (x := x0) (xm := ⟨"TreePress$PathReader", "goTo", "(I)V"⟩) (owner := "TreePress$Reader") h hc (As := [iv (r10 + 1)]) (fun o1 e1 => u_X2_goTo _ x0 (r10 + 1) hk13 o1 e1) [15] ht14 (by decide) q1335 q1336 (va_Decl.of (h.2.2.2.2 _ q502) (h.2.2.2.2 _ q503)) ⟨by decide, by decide⟩ q502 (fun t ht => by cases List.mem_singleton.mp ht; exact q1337) q503 q137 (by omega) (by omega) zc_s0 (by omega) (fun z hz => by cases hz) (n := 1) (by decide +kernel) rfl rfl dX15_quoted_102 (fun _ μ15 _ => r_k0 ?_)
      refine c_aload_n (x := r6) h 0 dX15_quoted_105 rfl rfl ?_
      exact c_aret h hc rfl (Or.inr ⟨_, rfl⟩) dX15_quoted_106
    · refine c_aload_n (x := x0) h 0 dX15_quoted_53 rfl rfl ?_
      refine r_ck (fun ht16 => ?_)
      refine c_callU (x := x0) (xm := ⟨"TreePress$PathReader", "here", "()I"⟩) (owner := "TreePress$Reader") h hc (As := []) (fun o1 e1 => u_X2_here _ x0 o1 e1) [15] ht16 (by decide) q1243 q1244 (va_Decl.of (h.2.2.2.2 _ q493) (h.2.2.2.2 _ q494)) ⟨by decide, by decide⟩ q493 (fun t ht => by cases List.mem_singleton.mp ht; exact q1245) q494 q137 (by omega) (by omega) zc_s0 (by omega) (fun z hz => by cases hz) (n := 0) (by decide +kernel) rfl rfl dX15_quoted_54 (fun r17 μ18 hr19 => r_k1 ?_)
      refine c_callSN h hc (As := [iv r17]) (fun o1 e1 => u_X0_isChar _ r17 hr19 o1 e1) (host := "TreePress") (by decide) q647 q648 q132 (by omega) (by omega) zc_s0 (by omega) (fun z hz => by cases hz) ⟨by decide, by decide⟩ (n := 1) (by decide +kernel) rfl rfl dX15_quoted_57 (fun r20 μ21 hr22 => r_k3 ?_)
      refine r_if_ne (x := r20) h hr22.r 76 dX15_quoted_60 rfl ?_ ?_
      · refine c_newF h hc q1264 q577 q153 dX15_quoted_63 (fun _ μ23 he24 => ?_)
        refine r_dup h dX15_quoted_66 (zc_rv_cat G _) ?_
        refine r_iconst h dX15_quoted_67 ?_
        refine c_aload_n (x := x0) h 0 dX15_quoted_68 rfl rfl ?_
        refine r_ck (fun ht25 => ?_)
        refine c_callU (x := x0) (xm := ⟨"TreePress$PathReader", "place", "()I"⟩) (owner := "TreePress$Reader") h hc (As := []) (fun o1 e1 => u_X2_place _ x0 o1 e1) [15] ht25 (by decide) q1258 q1259 (va_Decl.of (h.2.2.2.2 _ q487) (h.2.2.2.2 _ q488)) ⟨by decide, by decide⟩ q487 (fun t ht => by cases List.mem_singleton.mp ht; exact q1260) q488 q137 (by omega) (by omega) (zc_sc (iv_cat _) (zc_sc (zc_rv_cat G _) (zc_sc (zc_rv_cat G _) zc_s0))) (by omega) (fun z hz => by cases hz) (n := 0) (by decide +kernel) rfl rfl dX15_quoted_69 (fun r26 μ27 hr28 => r_k1 ?_)
        refine r_ck (fun ht29 => ?_)
        refine c_callI (x := (μ21 0 0)) h hc (As := [iv (-1), iv r26]) (fun o1 e1 => w_finit _ (μ21 0 0) (-1) r26 (by decide) hr28 o1 e1) [22] ht29 (by decide) q1265 q616 rfl q617 q153 (by omega) (by omega) (zc_sc (zc_rv_cat G _) zc_s0) (by omega) (fun z hz => by cases hz) ⟨by decide, by decide⟩ (n := 2) (by decide +kernel) rfl rfl dX15_quoted_72 (fun _ μ30 _ => r_k0 ?_)
        exact c_athrow h hc (fun z hz => by cases hz) dX15_quoted_75
      · refine c_aload_n (x := x0) h 0 dX15_quoted_76 rfl rfl ?_
        refine c_aload_n (x := x0) h 0 dX15_quoted_77 rfl rfl ?_
        refine r_ck (fun ht31 => ?_)
        refine c_callU (x := x0) (xm := ⟨"TreePress$PathReader", "place", "()I"⟩) (owner := "TreePress$Reader") h hc (As := []) (fun o1 e1 => u_X2_place _ x0 o1 e1) [15] ht31 (by decide) q1258 q1259 (va_Decl.of (h.2.2.2.2 _ q487) (h.2.2.2.2 _ q488)) ⟨by decide, by decide⟩ q487 (fun t ht => by cases List.mem_singleton.mp ht; exact q1260) q488 q137 (by omega) (by omega) (zc_sc (zc_rv_cat G _) zc_s0) (by omega) (fun z hz => by cases hz) (n := 0) (by decide +kernel) rfl rfl dX15_quoted_78 (fun r32 μ33 hr34 => r_k1 ?_)
        refine r_iconst h dX15_quoted_81 ?_
        refine r_iadd h dX15_quoted_82 ?_
        refine r_ck (fun hk35 => ?_)
        refine r_ck (fun ht36 => ?_)
        refine c_callU (x := x0) (xm := ⟨"TreePress$PathReader", "goTo", "(I)V"⟩) (owner := "TreePress$Reader") h hc (As := [iv (r32 + 1)]) (fun o1 e1 => u_X2_goTo _ x0 (r32 + 1) hk35 o1 e1) [15] ht36 (by decide) q1335 q1336 (va_Decl.of (h.2.2.2.2 _ q502) (h.2.2.2.2 _ q503)) ⟨by decide, by decide⟩ q502 (fun t ht => by cases List.mem_singleton.mp ht; exact q1337) q503 q137 (by omega) (by omega) zc_s0 (by omega) (fun z hz => by cases hz) (n := 1) (by decide +kernel) rfl rfl dX15_quoted_83 (fun _ μ37 _ => r_k0 ?_)
        refine r_goto h 45 dX15_quoted_86 rfl ?_
        exact r_lv [0, 1, 2] rfl (ih _ x0 x1 x2 hx1 hx2)
def c_X15_quoted_30 (μ : MEM) (x0 x1 : Int) : Option zc_O := ck (zt [15] (μ x0 (-1)) = true) (bc (c_X2_place μ x0) (fun r2 μ3 => ck (inR (r2 + 1)) (ck (zt [15] (μ3 x0 (-1)) = true) (bc (c_X2_goTo μ3 x0 (r2 + 1)) (fun _ μ7 => ck (zt [15] (μ7 x0 (-1)) = true) (bc (c_X2_place μ7 x0) (fun r9 μ10 => c_X15_quoted_45 zF μ10 x0 x1 r9)))))))
theorem u_X15_quoted_30 {C : zv_Cx zc_O} {G : zc_G} {μ0 : MEM} (h : zv_Ok C cX15_quoted "TreePress$PathReader") (hc : zc_C C G μ0 4 (Option.some (FieldType.array FieldType.byte)) 4 7 142 "quoted" []) (μ : MEM) (x0 x1 : Int) (hx1 : inR x1) : VV C (c_X15_quoted_30 μ x0 x1) μ [(0, zc_rv G x0), (1, iv x1)] [] 30 := by
  have hN : ∀ i, i < 4 → i < zv_n C := fun i q => by rw [hc.2.1]; exact q
  unfold c_X15_quoted_30
  refine c_aload_n (x := x0) h 0 dX15_quoted_30 rfl rfl ?_
  refine c_aload_n (x := x0) h 0 dX15_quoted_31 rfl rfl ?_
  refine r_ck (fun ht1 => ?_)
  refine c_callU (x := x0) (xm := ⟨"TreePress$PathReader", "place", "()I"⟩) (owner := "TreePress$Reader") h hc (As := []) (fun o1 e1 => u_X2_place _ x0 o1 e1) [15] ht1 (by decide) q1258 q1259 (va_Decl.of (h.2.2.2.2 _ q487) (h.2.2.2.2 _ q488)) ⟨by decide, by decide⟩ q487 (fun t ht => by cases List.mem_singleton.mp ht; exact q1260) q488 q137 (by omega) (by omega) (zc_sc (zc_rv_cat G _) zc_s0) (by omega) (fun z hz => by cases hz) (n := 0) (by decide +kernel) rfl rfl dX15_quoted_32 (fun r2 μ3 hr4 => r_k1 ?_)
  refine r_iconst h dX15_quoted_35 ?_
  refine r_iadd h dX15_quoted_36 ?_
  refine r_ck (fun hk5 => ?_)
  refine r_ck (fun ht6 => ?_)
  refine c_callU (x := x0) (xm := ⟨"TreePress$PathReader", "goTo", "(I)V"⟩) (owner := "TreePress$Reader") h hc (As := [iv (r2 + 1)]) (fun o1 e1 => u_X2_goTo _ x0 (r2 + 1) hk5 o1 e1) [15] ht6 (by decide) q1335 q1336 (va_Decl.of (h.2.2.2.2 _ q502) (h.2.2.2.2 _ q503)) ⟨by decide, by decide⟩ q502 (fun t ht => by cases List.mem_singleton.mp ht; exact q1337) q503 q137 (by omega) (by omega) zc_s0 (by omega) (fun z hz => by cases hz) (n := 1) (by decide +kernel) rfl rfl dX15_quoted_37 (fun _ μ7 _ => r_k0 ?_)
  refine c_aload_n (x := x0) h 0 dX15_quoted_40 rfl rfl ?_
  refine r_ck (fun ht8 => ?_)
  refine c_callU (x := x0) (xm := ⟨"TreePress$PathReader", "place", "()I"⟩) (owner := "TreePress$Reader") h hc (As := []) (fun o1 e1 => u_X2_place _ x0 o1 e1) [15] ht8 (by decide) q1258 q1259 (va_Decl.of (h.2.2.2.2 _ q487) (h.2.2.2.2 _ q488)) ⟨by decide, by decide⟩ q487 (fun t ht => by cases List.mem_singleton.mp ht; exact q1260) q488 q137 (by omega) (by omega) zc_s0 (by omega) (fun z hz => by cases hz) (n := 0) (by decide +kernel) rfl rfl dX15_quoted_41 (fun r9 μ10 hr11 => r_k1 ?_)
  refine r_istore_n (i := 2) (lv' := [(2, iv r9), (0, zc_rv G x0), (1, iv x1)]) h dX15_quoted_44 rfl (hN _ (by decide)) rfl ?_
  exact r_lv [1, 2, 0] rfl (u_X15_quoted_45 h hc zF _ x0 x1 r9 hx1 hr11)
def c_X15_quoted (μ : MEM) (a0 : Int) : Option zc_O := ck (zt [15] (μ a0 (-1)) = true) (bc (c_X2_here μ a0) (fun r2 μ3 => if r2 = 34 then (c_X15_quoted_30 μ3 a0 r2) else (if r2 = 39 then (c_X15_quoted_30 μ3 a0 r2) else (ck (1 ≤ μ3 0 1 ∧ (8 : Int) ≤ μ3 0 2) (nu (mnew μ3 22 0 8) (fun μ5 => ck (zt [15] (μ5 a0 (-1)) = true) (bc (c_X2_place μ5 a0) (fun r8 μ9 => ck (zt [22] (μ9 (μ3 0 0) (-1)) = true) (bc (b_finit μ9 (μ3 0 0) (-1) r8) (fun _ μ12 => ck (0 < (μ3 0 0)) (some (1, (μ3 0 0), μ12))))))))))))
theorem u_X15_quoted {G : zc_G} (μ : MEM) (a0 : Int) (o : zc_O) (hd : c_X15_quoted μ a0 = some o) : zc_Met G yX15_quoted cX15_quoted 4 (Option.some (FieldType.array FieldType.byte)) 4 7 142 μ [zc_rv G a0] o := by
  refine zc_intro hd (by decide) (by simp [lg_sl, zc_rv_cat, iv_cat, jv_cat]) (lv := [(0, zc_rv G a0)]) (by simp [lv_args, zc_rv_cat, iv_cat, jv_cat]) (fun C h hc => ?_)
  have h : zv_Ok C cX15_quoted "TreePress$PathReader" := h
  have hc : zc_C C G μ 4 (Option.some (FieldType.array FieldType.byte)) 4 7 142 "quoted" [] := hc
  have hN : ∀ i, i < 4 → i < zv_n C := fun i q => by rw [hc.2.1]; exact q
  unfold c_X15_quoted
  refine c_aload_n (x := a0) h 0 dX15_quoted_0 rfl rfl ?_
  refine r_ck (fun ht1 => ?_)
  refine c_callU (x := a0) (xm := ⟨"TreePress$PathReader", "here", "()I"⟩) (owner := "TreePress$Reader") h hc (As := []) (fun o1 e1 => u_X2_here _ a0 o1 e1) [15] ht1 (by decide) q1243 q1244 (va_Decl.of (h.2.2.2.2 _ q493) (h.2.2.2.2 _ q494)) ⟨by decide, by decide⟩ q493 (fun t ht => by cases List.mem_singleton.mp ht; exact q1245) q494 q137 (by omega) (by omega) zc_s0 (by omega) (fun z hz => by cases hz) (n := 0) (by decide +kernel) rfl rfl dX15_quoted_1 (fun r2 μ3 hr4 => r_k1 ?_)
  refine r_istore_n (i := 1) (lv' := [(1, iv r2), (0, zc_rv G a0)]) h dX15_quoted_4 rfl (hN _ (by decide)) (by simp [zc_rv_cat]) ?_
  refine r_iload_n h 0 dX15_quoted_5 rfl rfl ?_
  refine r_bipush h dX15_quoted_6 (by decide) ?_
  refine r_icmp_eq (x := r2) (y := 34) h hr4 (by decide) 30 dX15_quoted_8 rfl ?_ ?_
  · exact r_lv [1, 0] rfl (u_X15_quoted_30 h hc _ a0 r2 hr4)
  · refine r_iload_n h 0 dX15_quoted_11 rfl rfl ?_
    refine r_bipush h dX15_quoted_12 (by decide) ?_
    refine r_icmp_eq (x := r2) (y := 39) h hr4 (by decide) 30 dX15_quoted_14 rfl ?_ ?_
    · exact r_lv [1, 0] rfl (u_X15_quoted_30 h hc _ a0 r2 hr4)
    · refine c_newF h hc q1264 q577 q153 dX15_quoted_17 (fun _ μ5 he6 => ?_)
      refine r_dup h dX15_quoted_20 (zc_rv_cat G _) ?_
      refine r_iconst h dX15_quoted_21 ?_
      refine c_aload_n (x := a0) h 1 dX15_quoted_22 rfl rfl ?_
      refine r_ck (fun ht7 => ?_)
      refine c_callU (x := a0) (xm := ⟨"TreePress$PathReader", "place", "()I"⟩) (owner := "TreePress$Reader") h hc (As := []) (fun o1 e1 => u_X2_place _ a0 o1 e1) [15] ht7 (by decide) q1258 q1259 (va_Decl.of (h.2.2.2.2 _ q487) (h.2.2.2.2 _ q488)) ⟨by decide, by decide⟩ q487 (fun t ht => by cases List.mem_singleton.mp ht; exact q1260) q488 q137 (by omega) (by omega) (zc_sc (iv_cat _) (zc_sc (zc_rv_cat G _) (zc_sc (zc_rv_cat G _) zc_s0))) (by omega) (fun z hz => by cases hz) (n := 0) (by decide +kernel) rfl rfl dX15_quoted_23 (fun r8 μ9 hr10 => r_k1 ?_)
      refine r_ck (fun ht11 => ?_)
      refine c_callI (x := (μ3 0 0)) h hc (As := [iv (-1), iv r8]) (fun o1 e1 => w_finit _ (μ3 0 0) (-1) r8 (by decide) hr10 o1 e1) [22] ht11 (by decide) q1265 q616 rfl q617 q153 (by omega) (by omega) (zc_sc (zc_rv_cat G _) zc_s0) (by omega) (fun z hz => by cases hz) ⟨by decide, by decide⟩ (n := 2) (by decide +kernel) rfl rfl dX15_quoted_26 (fun _ μ12 _ => r_k0 ?_)
      exact c_athrow h hc (fun z hz => by cases hz) dX15_quoted_29
theorem dX15_test_0 : decode cX15_test 0 = .ok (.aload_n 1, 1) := by decide +kernel
theorem dX15_test_1 : decode cX15_test 1 = .ok (.getfield 97, 3) := by decide +kernel
theorem dX15_test_4 : decode cX15_test 4 = .ok (.invokevirtual 63, 3) := by decide +kernel
theorem dX15_test_7 : decode cX15_test 7 = .ok (.iconst 4, 1) := by decide +kernel
theorem dX15_test_8 : decode cX15_test 8 = .ok (.if_icmp .ne 17, 3) := by decide +kernel
theorem dX15_test_11 : decode cX15_test 11 = .ok (.new 47, 3) := by decide +kernel
theorem dX15_test_14 : decode cX15_test 14 = .ok (.dup, 1) := by decide +kernel
theorem dX15_test_15 : decode cX15_test 15 = .ok (.bipush (-3), 2) := by decide +kernel
theorem dX15_test_17 : decode cX15_test 17 = .ok (.aload_n 0, 1) := by decide +kernel
theorem dX15_test_18 : decode cX15_test 18 = .ok (.invokevirtual 49, 3) := by decide +kernel
theorem dX15_test_21 : decode cX15_test 21 = .ok (.invokespecial 52, 3) := by decide +kernel
theorem dX15_test_24 : decode cX15_test 24 = .ok (.athrow, 1) := by decide +kernel
theorem dX15_test_25 : decode cX15_test 25 = .ok (.aload_n 0, 1) := by decide +kernel
theorem dX15_test_26 : decode cX15_test 26 = .ok (.ldc 100, 2) := by decide +kernel
theorem dX15_test_28 : decode cX15_test 28 = .ok (.invokevirtual 36, 3) := by decide +kernel
theorem dX15_test_31 : decode cX15_test 31 = .ok (.new 102, 3) := by decide +kernel
theorem dX15_test_34 : decode cX15_test 34 = .ok (.dup, 1) := by decide +kernel
theorem dX15_test_35 : decode cX15_test 35 = .ok (.invokespecial 104, 3) := by decide +kernel
theorem dX15_test_38 : decode cX15_test 38 = .ok (.astore_n 2, 1) := by decide +kernel
theorem dX15_test_39 : decode cX15_test 39 = .ok (.aload_n 1, 1) := by decide +kernel
theorem dX15_test_40 : decode cX15_test 40 = .ok (.getfield 97, 3) := by decide +kernel
theorem dX15_test_43 : decode cX15_test 43 = .ok (.aload_n 2, 1) := by decide +kernel
theorem dX15_test_44 : decode cX15_test 44 = .ok (.invokevirtual 72, 3) := by decide +kernel
theorem dX15_test_47 : decode cX15_test 47 = .ok (.pop, 1) := by decide +kernel
theorem dX15_test_48 : decode cX15_test 48 = .ok (.aload_n 0, 1) := by decide +kernel
theorem dX15_test_49 : decode cX15_test 49 = .ok (.invokevirtual 20, 3) := by decide +kernel
theorem dX15_test_52 : decode cX15_test 52 = .ok (.istore_n 3, 1) := by decide +kernel
theorem dX15_test_53 : decode cX15_test 53 = .ok (.iload_n 3, 1) := by decide +kernel
theorem dX15_test_54 : decode cX15_test 54 = .ok (.bipush 48, 2) := by decide +kernel
theorem dX15_test_56 : decode cX15_test 56 = .ok (.if_icmp .lt 79, 3) := by decide +kernel
theorem dX15_test_59 : decode cX15_test 59 = .ok (.iload_n 3, 1) := by decide +kernel
theorem dX15_test_60 : decode cX15_test 60 = .ok (.bipush 57, 2) := by decide +kernel
theorem dX15_test_62 : decode cX15_test 62 = .ok (.if_icmp .gt 73, 3) := by decide +kernel
theorem dX15_test_65 : decode cX15_test 65 = .ok (.aload_n 2, 1) := by decide +kernel
theorem dX15_test_66 : decode cX15_test 66 = .ok (.iconst 0, 1) := by decide +kernel
theorem dX15_test_67 : decode cX15_test 67 = .ok (.putfield 105, 3) := by decide +kernel
theorem dX15_test_70 : decode cX15_test 70 = .ok (.iconst 0, 1) := by decide +kernel
theorem dX15_test_71 : decode cX15_test 71 = .ok (.istore 4, 2) := by decide +kernel
theorem dX15_test_73 : decode cX15_test 73 = .ok (.iload 4, 2) := by decide +kernel
theorem dX15_test_75 : decode cX15_test 75 = .ok (.iconst 4, 1) := by decide +kernel
theorem dX15_test_76 : decode cX15_test 76 = .ok (.if_icmp .ge 56, 3) := by decide +kernel
theorem dX15_test_79 : decode cX15_test 79 = .ok (.aload_n 0, 1) := by decide +kernel
theorem dX15_test_80 : decode cX15_test 80 = .ok (.invokevirtual 20, 3) := by decide +kernel
theorem dX15_test_83 : decode cX15_test 83 = .ok (.bipush 48, 2) := by decide +kernel
theorem dX15_test_85 : decode cX15_test 85 = .ok (.if_icmp .lt 47, 3) := by decide +kernel
theorem dX15_test_88 : decode cX15_test 88 = .ok (.aload_n 0, 1) := by decide +kernel
theorem dX15_test_89 : decode cX15_test 89 = .ok (.invokevirtual 20, 3) := by decide +kernel
theorem dX15_test_92 : decode cX15_test 92 = .ok (.bipush 57, 2) := by decide +kernel
theorem dX15_test_94 : decode cX15_test 94 = .ok (.if_icmp .gt 38, 3) := by decide +kernel
theorem dX15_test_97 : decode cX15_test 97 = .ok (.aload_n 2, 1) := by decide +kernel
theorem dX15_test_98 : decode cX15_test 98 = .ok (.bipush 10, 2) := by decide +kernel
theorem dX15_test_100 : decode cX15_test 100 = .ok (.aload_n 2, 1) := by decide +kernel
theorem dX15_test_101 : decode cX15_test 101 = .ok (.getfield 106, 3) := by decide +kernel
theorem dX15_test_104 : decode cX15_test 104 = .ok (.imul, 1) := by decide +kernel
theorem dX15_test_105 : decode cX15_test 105 = .ok (.aload_n 0, 1) := by decide +kernel
theorem dX15_test_106 : decode cX15_test 106 = .ok (.invokevirtual 20, 3) := by decide +kernel
theorem dX15_test_109 : decode cX15_test 109 = .ok (.iadd, 1) := by decide +kernel
theorem dX15_test_110 : decode cX15_test 110 = .ok (.bipush 48, 2) := by decide +kernel
theorem dX15_test_112 : decode cX15_test 112 = .ok (.isub, 1) := by decide +kernel
theorem dX15_test_113 : decode cX15_test 113 = .ok (.putfield 106, 3) := by decide +kernel
theorem dX15_test_116 : decode cX15_test 116 = .ok (.aload_n 0, 1) := by decide +kernel
theorem dX15_test_117 : decode cX15_test 117 = .ok (.aload_n 0, 1) := by decide +kernel
theorem dX15_test_118 : decode cX15_test 118 = .ok (.invokevirtual 49, 3) := by decide +kernel
theorem dX15_test_121 : decode cX15_test 121 = .ok (.iconst 1, 1) := by decide +kernel
theorem dX15_test_122 : decode cX15_test 122 = .ok (.iadd, 1) := by decide +kernel
theorem dX15_test_123 : decode cX15_test 123 = .ok (.invokevirtual 108, 3) := by decide +kernel
theorem dX15_test_126 : decode cX15_test 126 = .ok (.iinc 4 1, 3) := by decide +kernel
theorem dX15_test_129 : decode cX15_test 129 = .ok (.goto (-56), 3) := by decide +kernel
theorem dX15_test_132 : decode cX15_test 132 = .ok (.goto 95, 3) := by decide +kernel
theorem dX15_test_135 : decode cX15_test 135 = .ok (.aload_n 0, 1) := by decide +kernel
theorem dX15_test_136 : decode cX15_test 136 = .ok (.ldc 112, 2) := by decide +kernel
theorem dX15_test_138 : decode cX15_test 138 = .ok (.invokevirtual 44, 3) := by decide +kernel
theorem dX15_test_141 : decode cX15_test 141 = .ok (.ifCond .eq 11, 3) := by decide +kernel
theorem dX15_test_144 : decode cX15_test 144 = .ok (.aload_n 2, 1) := by decide +kernel
theorem dX15_test_145 : decode cX15_test 145 = .ok (.iconst 1, 1) := by decide +kernel
theorem dX15_test_146 : decode cX15_test 146 = .ok (.putfield 105, 3) := by decide +kernel
theorem dX15_test_149 : decode cX15_test 149 = .ok (.goto 78, 3) := by decide +kernel
theorem dX15_test_152 : decode cX15_test 152 = .ok (.iload_n 3, 1) := by decide +kernel
theorem dX15_test_153 : decode cX15_test 153 = .ok (.bipush 64, 2) := by decide +kernel
theorem dX15_test_155 : decode cX15_test 155 = .ok (.if_icmp .eq 10, 3) := by decide +kernel
theorem dX15_test_158 : decode cX15_test 158 = .ok (.iload_n 3, 1) := by decide +kernel
theorem dX15_test_159 : decode cX15_test 159 = .ok (.invokestatic 59, 3) := by decide +kernel
theorem dX15_test_162 : decode cX15_test 162 = .ok (.ifCond .eq 46, 3) := by decide +kernel
theorem dX15_test_165 : decode cX15_test 165 = .ok (.aload_n 2, 1) := by decide +kernel
theorem dX15_test_166 : decode cX15_test 166 = .ok (.iconst 2, 1) := by decide +kernel
theorem dX15_test_167 : decode cX15_test 167 = .ok (.putfield 105, 3) := by decide +kernel
theorem dX15_test_170 : decode cX15_test 170 = .ok (.aload_n 2, 1) := by decide +kernel
theorem dX15_test_171 : decode cX15_test 171 = .ok (.aload_n 0, 1) := by decide +kernel
theorem dX15_test_172 : decode cX15_test 172 = .ok (.ldc 57, 2) := by decide +kernel
theorem dX15_test_174 : decode cX15_test 174 = .ok (.invokevirtual 44, 3) := by decide +kernel
theorem dX15_test_177 : decode cX15_test 177 = .ok (.putfield 114, 3) := by decide +kernel
theorem dX15_test_180 : decode cX15_test 180 = .ok (.aload_n 2, 1) := by decide +kernel
theorem dX15_test_181 : decode cX15_test 181 = .ok (.aload_n 0, 1) := by decide +kernel
theorem dX15_test_182 : decode cX15_test 182 = .ok (.invokevirtual 86, 3) := by decide +kernel
theorem dX15_test_185 : decode cX15_test 185 = .ok (.putfield 117, 3) := by decide +kernel
theorem dX15_test_188 : decode cX15_test 188 = .ok (.aload_n 0, 1) := by decide +kernel
theorem dX15_test_189 : decode cX15_test 189 = .ok (.ldc 118, 2) := by decide +kernel
theorem dX15_test_191 : decode cX15_test 191 = .ok (.invokevirtual 44, 3) := by decide +kernel
theorem dX15_test_194 : decode cX15_test 194 = .ok (.ifCond .eq 33, 3) := by decide +kernel
theorem dX15_test_197 : decode cX15_test 197 = .ok (.aload_n 2, 1) := by decide +kernel
theorem dX15_test_198 : decode cX15_test 198 = .ok (.aload_n 0, 1) := by decide +kernel
theorem dX15_test_199 : decode cX15_test 199 = .ok (.invokevirtual 120, 3) := by decide +kernel
theorem dX15_test_202 : decode cX15_test 202 = .ok (.putfield 123, 3) := by decide +kernel
theorem dX15_test_205 : decode cX15_test 205 = .ok (.goto 22, 3) := by decide +kernel
theorem dX15_test_208 : decode cX15_test 208 = .ok (.aload_n 0, 1) := by decide +kernel
theorem dX15_test_209 : decode cX15_test 209 = .ok (.ldc 126, 2) := by decide +kernel
theorem dX15_test_211 : decode cX15_test 211 = .ok (.invokevirtual 36, 3) := by decide +kernel
theorem dX15_test_214 : decode cX15_test 214 = .ok (.aload_n 2, 1) := by decide +kernel
theorem dX15_test_215 : decode cX15_test 215 = .ok (.iconst 3, 1) := by decide +kernel
theorem dX15_test_216 : decode cX15_test 216 = .ok (.putfield 105, 3) := by decide +kernel
theorem dX15_test_219 : decode cX15_test 219 = .ok (.aload_n 2, 1) := by decide +kernel
theorem dX15_test_220 : decode cX15_test 220 = .ok (.aload_n 0, 1) := by decide +kernel
theorem dX15_test_221 : decode cX15_test 221 = .ok (.invokevirtual 120, 3) := by decide +kernel
theorem dX15_test_224 : decode cX15_test 224 = .ok (.putfield 123, 3) := by decide +kernel
theorem dX15_test_227 : decode cX15_test 227 = .ok (.aload_n 0, 1) := by decide +kernel
theorem dX15_test_228 : decode cX15_test 228 = .ok (.ldc 128, 2) := by decide +kernel
theorem dX15_test_230 : decode cX15_test 230 = .ok (.invokevirtual 36, 3) := by decide +kernel
theorem dX15_test_233 : decode cX15_test 233 = .ok (.return_, 1) := by decide +kernel
def c_X15_test_165 (μ : MEM) (x0 x2 : Int) : Option zc_O := ck (zt [17] (μ x2 (-1)) = true) (nu (mup μ x2 0 2) (fun μ2 => ck (zt [15] (μ2 x0 (-1)) = true) (bc (c_X2_takes μ2 x0 (-35)) (fun r5 μ6 => ck (zt [17] (μ6 x2 (-1)) = true) (nu (mup μ6 x2 2 r5) (fun μ9 => ck (zt [15] (μ9 x0 (-1)) = true) (bc (c_X2_name μ9 x0) (fun r12 μ13 => ck (zt [17] (μ13 x2 (-1)) = true) (nu (mup μ13 x2 3 r12) (fun μ16 => ck (zt [15] (μ16 x0 (-1)) = true) (bc (c_X2_takes μ16 x0 (-41)) (fun r19 μ20 => if r19 = 0 then (ck (zt [15] (μ20 x0 (-1)) = true) (bc (c_X2_must μ20 x0 (-43)) (fun _ μ23 => some (0, 0, μ23)))) else (ck (zt [15] (μ20 x0 (-1)) = true) (bc (c_X15_quoted μ20 x0) (fun r25 μ26 => ck (zt [17] (μ26 x2 (-1)) = true) (nu (mup μ26 x2 4 r25) (fun μ29 => ck (zt [15] (μ29 x0 (-1)) = true) (bc (c_X2_must μ29 x0 (-43)) (fun _ μ32 => some (0, 0, μ32))))))))))))))))))))
theorem u_X15_test_165 {C : zv_Cx zc_O} {G : zc_G} {μ0 : MEM} (h : zv_Ok C cX15_test "TreePress$PathReader") (hc : zc_C C G μ0 5 (Option.none : Option FieldType) 0 9 183 "test" []) (μ : MEM) (x0 x2 : Int) : VV C (c_X15_test_165 μ x0 x2) μ [(0, zc_rv G x0), (2, zc_rv G x2)] [] 165 := by
  have hN : ∀ i, i < 5 → i < zv_n C := fun i q => by rw [hc.2.1]; exact q
  unfold c_X15_test_165
  refine c_aload_n (x := x2) h 1 dX15_test_165 rfl rfl ?_
  refine r_iconst h dX15_test_166 ?_
  refine r_ck (fun ht1 => ?_)
  refine c_putI (x := x2) (y := 2) h hc [17] 0 false (zc_lk3 hc (O := "TreePress$Test") (n := "kind") (ds := "I") (host := "TreePress") (by decide)) ht1 (by decide) (Or.inl rfl) (by decide) dX15_test_167 (fun μ2 he3 => ?_)
  refine c_aload_n (x := x2) h 1 dX15_test_170 rfl rfl ?_
  refine c_aload_n (x := x0) h 0 dX15_test_171 rfl rfl ?_
  refine c_ldcs (tx := "@") h hc 35 (by decide) (-35) rfl (by decide) dX15_test_172 ?_
  refine r_ck (fun ht4 => ?_)
  refine c_callU (x := x0) (xm := ⟨"TreePress$PathReader", "takes", "(Ljava/lang/String;)Z"⟩) (owner := "TreePress$Reader") h hc (As := [zc_rv G (-35)]) (fun o1 e1 => u_X2_takes _ x0 (-35) o1 e1) [15] ht4 (by decide) q1295 q1296 (va_Decl.of (h.2.2.2.2 _ q570) (h.2.2.2.2 _ q574)) ⟨by decide, by decide⟩ q570 (fun t ht => by cases List.mem_singleton.mp ht; exact q1297) q574 q137 (by omega) (by omega) (zc_sc (zc_rv_cat G _) zc_s0) (by omega) (fun z hz => by cases hz) (n := 1) (by decide +kernel) rfl rfl dX15_test_174 (fun r5 μ6 hr7 => r_k3 ?_)
  refine r_ck (fun ht8 => ?_)
  refine c_putZ (x := x2) (y := r5) h hc [17] 2 false (zc_lk3 hc (O := "TreePress$Test") (n := "side") (ds := "Z") (host := "TreePress") (by decide)) ht8 (by decide) (Or.inl rfl) hr7 dX15_test_177 (fun μ9 he10 => ?_)
  refine c_aload_n (x := x2) h 1 dX15_test_180 rfl rfl ?_
  refine c_aload_n (x := x0) h 0 dX15_test_181 rfl rfl ?_
  refine r_ck (fun ht11 => ?_)
  refine c_callU (x := x0) (xm := ⟨"TreePress$PathReader", "name", "()[B"⟩) (owner := "TreePress$Reader") h hc (As := []) (fun o1 e1 => u_X2_name _ x0 o1 e1) [15] ht11 (by decide) q1300 q1301 (va_Decl.of (h.2.2.2.2 _ q666) (h.2.2.2.2 _ q667)) ⟨by decide, by decide⟩ q666 (fun t ht => by cases List.mem_singleton.mp ht; exact q1302) q667 q137 (by omega) (by omega) (zc_sc (zc_rv_cat G _) zc_s0) (by omega) (fun z hz => by cases hz) (n := 0) (by decide +kernel) rfl rfl dX15_test_182 (fun r12 μ13 hr14 => r_k4 ?_)
  refine r_ck (fun ht15 => ?_)
  refine c_putR (x := x2) (y := r12) h hc [17] 3 false (zc_lk3 hc (O := "TreePress$Test") (n := "name") (ds := "[B") (host := "TreePress") (by decide)) ht15 (by decide) (Or.inl rfl) (ty := (.array .byte)) (by decide +kernel) (Or.inr ⟨_, rfl⟩) dX15_test_185 (fun μ16 he17 => ?_)
  refine c_aload_n (x := x0) h 0 dX15_test_188 rfl rfl ?_
  refine c_ldcs (tx := "=") h hc 41 (by decide) (-41) rfl (by decide) dX15_test_189 ?_
  refine r_ck (fun ht18 => ?_)
  refine c_callU (x := x0) (xm := ⟨"TreePress$PathReader", "takes", "(Ljava/lang/String;)Z"⟩) (owner := "TreePress$Reader") h hc (As := [zc_rv G (-41)]) (fun o1 e1 => u_X2_takes _ x0 (-41) o1 e1) [15] ht18 (by decide) q1295 q1296 (va_Decl.of (h.2.2.2.2 _ q570) (h.2.2.2.2 _ q574)) ⟨by decide, by decide⟩ q570 (fun t ht => by cases List.mem_singleton.mp ht; exact q1297) q574 q137 (by omega) (by omega) zc_s0 (by omega) (fun z hz => by cases hz) (n := 1) (by decide +kernel) rfl rfl dX15_test_191 (fun r19 μ20 hr21 => r_k3 ?_)
  refine r_if_eq (x := r19) h hr21.r 227 dX15_test_194 rfl ?_ ?_
  · refine c_aload_n (x := x0) h 0 dX15_test_227 rfl rfl ?_
    refine c_ldcs (tx := "]") h hc 43 (by decide) (-43) rfl (by decide) dX15_test_228 ?_
    refine r_ck (fun ht22 => ?_)
    refine c_callU (x := x0) (xm := ⟨"TreePress$PathReader", "must", "(Ljava/lang/String;)V"⟩) (owner := "TreePress$Reader") h hc (As := [zc_rv G (-43)]) (fun o1 e1 => u_X2_must _ x0 (-43) o1 e1) [15] ht22 (by decide) q1251 q1252 (va_Decl.of (h.2.2.2.2 _ q567) (h.2.2.2.2 _ q568)) ⟨by decide, by decide⟩ q567 (fun t ht => by cases List.mem_singleton.mp ht; exact q1253) q568 q137 (by omega) (by omega) zc_s0 (by omega) (fun z hz => by cases hz) (n := 1) (by decide +kernel) rfl rfl dX15_test_230 (fun _ μ23 _ => r_k0 ?_)
    exact c_vret h hc rfl dX15_test_233
  · refine c_aload_n (x := x2) h 1 dX15_test_197 rfl rfl ?_
    refine c_aload_n (x := x0) h 0 dX15_test_198 rfl rfl ?_
    refine r_ck (fun ht24 => ?_)
    refine c_callV (x := x0) h hc (As := []) (fun o1 e1 => u_X15_quoted _ x0 o1 e1) [15] ht24 (by decide) q1340 q1342 (fun t ht => by cases List.mem_singleton.mp ht; exact qs44) q1343 q162 (by omega) (by omega) (zc_sc (zc_rv_cat G _) zc_s0) (by omega) (fun z hz => by cases hz) ⟨by decide, by decide⟩ (n := 0) (by decide +kernel) rfl rfl dX15_test_199 (fun r25 μ26 hr27 => r_k4 ?_)
    refine r_ck (fun ht28 => ?_)
    refine c_putR (x := x2) (y := r25) h hc [17] 4 false (zc_lk3 hc (O := "TreePress$Test") (n := "value") (ds := "[B") (host := "TreePress") (by decide)) ht28 (by decide) (Or.inl rfl) (ty := (.array .byte)) (by decide +kernel) (Or.inr ⟨_, rfl⟩) dX15_test_202 (fun μ29 he30 => ?_)
    refine r_goto h 227 dX15_test_205 rfl ?_
    refine c_aload_n (x := x0) h 0 dX15_test_227 rfl rfl ?_
    refine c_ldcs (tx := "]") h hc 43 (by decide) (-43) rfl (by decide) dX15_test_228 ?_
    refine r_ck (fun ht31 => ?_)
    refine c_callU (x := x0) (xm := ⟨"TreePress$PathReader", "must", "(Ljava/lang/String;)V"⟩) (owner := "TreePress$Reader") h hc (As := [zc_rv G (-43)]) (fun o1 e1 => u_X2_must _ x0 (-43) o1 e1) [15] ht31 (by decide) q1251 q1252 (va_Decl.of (h.2.2.2.2 _ q567) (h.2.2.2.2 _ q568)) ⟨by decide, by decide⟩ q567 (fun t ht => by cases List.mem_singleton.mp ht; exact q1253) q568 q137 (by omega) (by omega) zc_s0 (by omega) (fun z hz => by cases hz) (n := 1) (by decide +kernel) rfl rfl dX15_test_230 (fun _ μ32 _ => r_k0 ?_)
    exact c_vret h hc rfl dX15_test_233
def c_X15_test_135 (μ : MEM) (x0 x2 x3 : Int) : Option zc_O := ck (zt [15] (μ x0 (-1)) = true) (bc (c_X2_takes μ x0 (-40)) (fun r2 μ3 => if r2 = 0 then (if x3 = 64 then (c_X15_test_165 μ3 x0 x2) else (bc (c_X0_isFirst μ3 x3) (fun r5 μ6 => if r5 = 0 then (ck (zt [15] (μ6 x0 (-1)) = true) (bc (c_X2_must μ6 x0 (-42)) (fun _ μ9 => ck (zt [17] (μ9 x2 (-1)) = true) (nu (mup μ9 x2 0 3) (fun μ11 => ck (zt [15] (μ11 x0 (-1)) = true) (bc (c_X15_quoted μ11 x0) (fun r14 μ15 => ck (zt [17] (μ15 x2 (-1)) = true) (nu (mup μ15 x2 4 r14) (fun μ18 => ck (zt [15] (μ18 x0 (-1)) = true) (bc (c_X2_must μ18 x0 (-43)) (fun _ μ21 => some (0, 0, μ21)))))))))))) else (c_X15_test_165 μ6 x0 x2)))) else (ck (zt [17] (μ3 x2 (-1)) = true) (nu (mup μ3 x2 0 1) (fun μ23 => ck (zt [15] (μ23 x0 (-1)) = true) (bc (c_X2_must μ23 x0 (-43)) (fun _ μ26 => some (0, 0, μ26))))))))
theorem u_X15_test_135 {C : zv_Cx zc_O} {G : zc_G} {μ0 : MEM} (h : zv_Ok C cX15_test "TreePress$PathReader") (hc : zc_C C G μ0 5 (Option.none : Option FieldType) 0 9 183 "test" []) (μ : MEM) (x0 x2 x3 : Int) (hx3 : inR x3) : VV C (c_X15_test_135 μ x0 x2 x3) μ [(0, zc_rv G x0), (2, zc_rv G x2), (3, iv x3)] [] 135 := by
  have hN : ∀ i, i < 5 → i < zv_n C := fun i q => by rw [hc.2.1]; exact q
  unfold c_X15_test_135
  refine c_aload_n (x := x0) h 0 dX15_test_135 rfl rfl ?_
  refine c_ldcs (tx := "last()") h hc 40 (by decide) (-40) rfl (by decide) dX15_test_136 ?_
  refine r_ck (fun ht1 => ?_)
  refine c_callU (x := x0) (xm := ⟨"TreePress$PathReader", "takes", "(Ljava/lang/String;)Z"⟩) (owner := "TreePress$Reader") h hc (As := [zc_rv G (-40)]) (fun o1 e1 => u_X2_takes _ x0 (-40) o1 e1) [15] ht1 (by decide) q1295 q1296 (va_Decl.of (h.2.2.2.2 _ q570) (h.2.2.2.2 _ q574)) ⟨by decide, by decide⟩ q570 (fun t ht => by cases List.mem_singleton.mp ht; exact q1297) q574 q137 (by omega) (by omega) zc_s0 (by omega) (fun z hz => by cases hz) (n := 1) (by decide +kernel) rfl rfl dX15_test_138 (fun r2 μ3 hr4 => r_k3 ?_)
  refine r_if_eq (x := r2) h hr4.r 152 dX15_test_141 rfl ?_ ?_
  · refine r_iload_n h 2 dX15_test_152 rfl rfl ?_
    refine r_bipush h dX15_test_153 (by decide) ?_
    refine r_icmp_eq (x := x3) (y := 64) h hx3 (by decide) 165 dX15_test_155 rfl ?_ ?_
    · exact r_lv [0, 1] rfl (u_X15_test_165 h hc _ x0 x2)
    · refine r_iload_n h 2 dX15_test_158 rfl rfl ?_
      refine c_callSN h hc (As := [iv x3]) (fun o1 e1 => u_X0_isFirst _ x3 hx3 o1 e1) (host := "TreePress") (by decide) q670 q671 q132 (by omega) (by omega) zc_s0 (by omega) (fun z hz => by cases hz) ⟨by decide, by decide⟩ (n := 1) (by decide +kernel) rfl rfl dX15_test_159 (fun r5 μ6 hr7 => r_k3 ?_)
      refine r_if_eq (x := r5) h hr7.r 208 dX15_test_162 rfl ?_ ?_
      · refine c_aload_n (x := x0) h 0 dX15_test_208 rfl rfl ?_
        refine c_ldcs (tx := ".=") h hc 42 (by decide) (-42) rfl (by decide) dX15_test_209 ?_
        refine r_ck (fun ht8 => ?_)
        refine c_callU (x := x0) (xm := ⟨"TreePress$PathReader", "must", "(Ljava/lang/String;)V"⟩) (owner := "TreePress$Reader") h hc (As := [zc_rv G (-42)]) (fun o1 e1 => u_X2_must _ x0 (-42) o1 e1) [15] ht8 (by decide) q1251 q1252 (va_Decl.of (h.2.2.2.2 _ q567) (h.2.2.2.2 _ q568)) ⟨by decide, by decide⟩ q567 (fun t ht => by cases List.mem_singleton.mp ht; exact q1253) q568 q137 (by omega) (by omega) zc_s0 (by omega) (fun z hz => by cases hz) (n := 1) (by decide +kernel) rfl rfl dX15_test_211 (fun _ μ9 _ => r_k0 ?_)
        refine c_aload_n (x := x2) h 1 dX15_test_214 rfl rfl ?_
        refine r_iconst h dX15_test_215 ?_
        refine r_ck (fun ht10 => ?_)
        refine c_putI (x := x2) (y := 3) h hc [17] 0 false (zc_lk3 hc (O := "TreePress$Test") (n := "kind") (ds := "I") (host := "TreePress") (by decide)) ht10 (by decide) (Or.inl rfl) (by decide) dX15_test_216 (fun μ11 he12 => ?_)
        refine c_aload_n (x := x2) h 1 dX15_test_219 rfl rfl ?_
        refine c_aload_n (x := x0) h 0 dX15_test_220 rfl rfl ?_
        refine r_ck (fun ht13 => ?_)
        refine c_callV (x := x0) h hc (As := []) (fun o1 e1 => u_X15_quoted _ x0 o1 e1) [15] ht13 (by decide) q1340 q1342 (fun t ht => by cases List.mem_singleton.mp ht; exact qs44) q1343 q162 (by omega) (by omega) (zc_sc (zc_rv_cat G _) zc_s0) (by omega) (fun z hz => by cases hz) ⟨by decide, by decide⟩ (n := 0) (by decide +kernel) rfl rfl dX15_test_221 (fun r14 μ15 hr16 => r_k4 ?_)
        refine r_ck (fun ht17 => ?_)
        refine c_putR (x := x2) (y := r14) h hc [17] 4 false (zc_lk3 hc (O := "TreePress$Test") (n := "value") (ds := "[B") (host := "TreePress") (by decide)) ht17 (by decide) (Or.inl rfl) (ty := (.array .byte)) (by decide +kernel) (Or.inr ⟨_, rfl⟩) dX15_test_224 (fun μ18 he19 => ?_)
        refine c_aload_n (x := x0) h 0 dX15_test_227 rfl rfl ?_
        refine c_ldcs (tx := "]") h hc 43 (by decide) (-43) rfl (by decide) dX15_test_228 ?_
        refine r_ck (fun ht20 => ?_)
        refine c_callU (x := x0) (xm := ⟨"TreePress$PathReader", "must", "(Ljava/lang/String;)V"⟩) (owner := "TreePress$Reader") h hc (As := [zc_rv G (-43)]) (fun o1 e1 => u_X2_must _ x0 (-43) o1 e1) [15] ht20 (by decide) q1251 q1252 (va_Decl.of (h.2.2.2.2 _ q567) (h.2.2.2.2 _ q568)) ⟨by decide, by decide⟩ q567 (fun t ht => by cases List.mem_singleton.mp ht; exact q1253) q568 q137 (by omega) (by omega) zc_s0 (by omega) (fun z hz => by cases hz) (n := 1) (by decide +kernel) rfl rfl dX15_test_230 (fun _ μ21 _ => r_k0 ?_)
        exact c_vret h hc rfl dX15_test_233
      · exact r_lv [0, 1] rfl (u_X15_test_165 h hc _ x0 x2)
  · refine c_aload_n (x := x2) h 1 dX15_test_144 rfl rfl ?_
    refine r_iconst h dX15_test_145 ?_
    refine r_ck (fun ht22 => ?_)
    refine c_putI (x := x2) (y := 1) h hc [17] 0 false (zc_lk3 hc (O := "TreePress$Test") (n := "kind") (ds := "I") (host := "TreePress") (by decide)) ht22 (by decide) (Or.inl rfl) (by decide) dX15_test_146 (fun μ23 he24 => ?_)
    refine r_goto h 227 dX15_test_149 rfl ?_
    refine c_aload_n (x := x0) h 0 dX15_test_227 rfl rfl ?_
    refine c_ldcs (tx := "]") h hc 43 (by decide) (-43) rfl (by decide) dX15_test_228 ?_
    refine r_ck (fun ht25 => ?_)
    refine c_callU (x := x0) (xm := ⟨"TreePress$PathReader", "must", "(Ljava/lang/String;)V"⟩) (owner := "TreePress$Reader") h hc (As := [zc_rv G (-43)]) (fun o1 e1 => u_X2_must _ x0 (-43) o1 e1) [15] ht25 (by decide) q1251 q1252 (va_Decl.of (h.2.2.2.2 _ q567) (h.2.2.2.2 _ q568)) ⟨by decide, by decide⟩ q567 (fun t ht => by cases List.mem_singleton.mp ht; exact q1253) q568 q137 (by omega) (by omega) zc_s0 (by omega) (fun z hz => by cases hz) (n := 1) (by decide +kernel) rfl rfl dX15_test_230 (fun _ μ26 _ => r_k0 ?_)
    exact c_vret h hc rfl dX15_test_233
def c_X15_test_73 : Nat → MEM → Int → Int → Int → Option zc_O
  | 0, _, _, _, _ => none
  | n + 1, μ, x0, x2, x4 => if 4 ≤ x4 then (ck (zt [15] (μ x0 (-1)) = true) (bc (c_X2_must μ x0 (-43)) (fun _ μ2 => some (0, 0, μ2)))) else (ck (zt [15] (μ x0 (-1)) = true) (bc (c_X2_here μ x0) (fun r4 μ5 => if r4 < 48 then (ck (zt [15] (μ5 x0 (-1)) = true) (bc (c_X2_must μ5 x0 (-43)) (fun _ μ8 => some (0, 0, μ8)))) else (ck (zt [15] (μ5 x0 (-1)) = true) (bc (c_X2_here μ5 x0) (fun r10 μ11 => if 57 < r10 then (ck (zt [15] (μ11 x0 (-1)) = true) (bc (c_X2_must μ11 x0 (-43)) (fun _ μ14 => some (0, 0, μ14)))) else (ck (zt [17] (μ11 x2 (-1)) = true) (ck (zt [15] (μ11 x0 (-1)) = true) (bc (c_X2_here μ11 x0) (fun r18 μ19 => ck (inR (((10 * (μ11 x2 1)) + r18) - 48)) (ck (zt [17] (μ19 x2 (-1)) = true) (nu (mup μ19 x2 1 (((10 * (μ11 x2 1)) + r18) - 48)) (fun μ23 => ck (zt [15] (μ23 x0 (-1)) = true) (bc (c_X2_place μ23 x0) (fun r26 μ27 => ck (inR (r26 + 1)) (ck (zt [15] (μ27 x0 (-1)) = true) (bc (c_X2_goTo μ27 x0 (r26 + 1)) (fun _ μ31 => ck (inR (x4 + 1)) (c_X15_test_73 n μ31 x0 x2 (x4 + 1))))))))))))))))))))
theorem u_X15_test_73 {C : zv_Cx zc_O} {G : zc_G} {μ0 : MEM} (h : zv_Ok C cX15_test "TreePress$PathReader") (hc : zc_C C G μ0 5 (Option.none : Option FieldType) 0 9 183 "test" []) : ∀ (n : Nat) (μ : MEM) (x0 x2 x4 : Int), inR x4 → VV C (c_X15_test_73 n μ x0 x2 x4) μ [(0, zc_rv G x0), (2, zc_rv G x2), (4, iv x4)] [] 73 := by
  have hN : ∀ i, i < 5 → i < zv_n C := fun i q => by rw [hc.2.1]; exact q
  intro n
  induction n with
  | zero => intros; exact r_none
  | succ n ih =>
    intro μ x0 x2 x4 hx4
    rw [c_X15_test_73]
    refine r_iload h 2 dX15_test_73 rfl ?_
    refine r_iconst h dX15_test_75 ?_
    refine r_icmp_ge (x := x4) (y := 4) h hx4 (by decide) 132 dX15_test_76 rfl ?_ ?_
    · refine r_goto h 227 dX15_test_132 rfl ?_
      refine c_aload_n (x := x0) h 0 dX15_test_227 rfl rfl ?_
      refine c_ldcs (tx := "]") h hc 43 (by decide) (-43) rfl (by decide) dX15_test_228 ?_
      refine r_ck (fun ht1 => ?_)
      refine c_callU (x := x0) (xm := ⟨"TreePress$PathReader", "must", "(Ljava/lang/String;)V"⟩) (owner := "TreePress$Reader") h hc (As := [zc_rv G (-43)]) (fun o1 e1 => u_X2_must _ x0 (-43) o1 e1) [15] ht1 (by decide) q1251 q1252 (va_Decl.of (h.2.2.2.2 _ q567) (h.2.2.2.2 _ q568)) ⟨by decide, by decide⟩ q567 (fun t ht => by cases List.mem_singleton.mp ht; exact q1253) q568 q137 (by omega) (by omega) zc_s0 (by omega) (fun z hz => by cases hz) (n := 1) (by decide +kernel) rfl rfl dX15_test_230 (fun _ μ2 _ => r_k0 ?_)
      exact c_vret h hc rfl dX15_test_233
    · refine c_aload_n (x := x0) h 0 dX15_test_79 rfl rfl ?_
      refine r_ck (fun ht3 => ?_)
      refine c_callU (x := x0) (xm := ⟨"TreePress$PathReader", "here", "()I"⟩) (owner := "TreePress$Reader") h hc (As := []) (fun o1 e1 => u_X2_here _ x0 o1 e1) [15] ht3 (by decide) q1243 q1244 (va_Decl.of (h.2.2.2.2 _ q493) (h.2.2.2.2 _ q494)) ⟨by decide, by decide⟩ q493 (fun t ht => by cases List.mem_singleton.mp ht; exact q1245) q494 q137 (by omega) (by omega) zc_s0 (by omega) (fun z hz => by cases hz) (n := 0) (by decide +kernel) rfl rfl dX15_test_80 (fun r4 μ5 hr6 => r_k1 ?_)
      refine r_bipush h dX15_test_83 (by decide) ?_
      refine r_icmp_lt (x := r4) (y := 48) h hr6 (by decide) 132 dX15_test_85 rfl ?_ ?_
      · refine r_goto h 227 dX15_test_132 rfl ?_
        refine c_aload_n (x := x0) h 0 dX15_test_227 rfl rfl ?_
        refine c_ldcs (tx := "]") h hc 43 (by decide) (-43) rfl (by decide) dX15_test_228 ?_
        refine r_ck (fun ht7 => ?_)
        refine c_callU (x := x0) (xm := ⟨"TreePress$PathReader", "must", "(Ljava/lang/String;)V"⟩) (owner := "TreePress$Reader") h hc (As := [zc_rv G (-43)]) (fun o1 e1 => u_X2_must _ x0 (-43) o1 e1) [15] ht7 (by decide) q1251 q1252 (va_Decl.of (h.2.2.2.2 _ q567) (h.2.2.2.2 _ q568)) ⟨by decide, by decide⟩ q567 (fun t ht => by cases List.mem_singleton.mp ht; exact q1253) q568 q137 (by omega) (by omega) zc_s0 (by omega) (fun z hz => by cases hz) (n := 1) (by decide +kernel) rfl rfl dX15_test_230 (fun _ μ8 _ => r_k0 ?_)
        exact c_vret h hc rfl dX15_test_233
      · refine c_aload_n (x := x0) h 0 dX15_test_88 rfl rfl ?_
        refine r_ck (fun ht9 => ?_)
        refine c_callU (x := x0) (xm := ⟨"TreePress$PathReader", "here", "()I"⟩) (owner := "TreePress$Reader") h hc (As := []) (fun o1 e1 => u_X2_here _ x0 o1 e1) [15] ht9 (by decide) q1243 q1244 (va_Decl.of (h.2.2.2.2 _ q493) (h.2.2.2.2 _ q494)) ⟨by decide, by decide⟩ q493 (fun t ht => by cases List.mem_singleton.mp ht; exact q1245) q494 q137 (by omega) (by omega) zc_s0 (by omega) (fun z hz => by cases hz) (n := 0) (by decide +kernel) rfl rfl dX15_test_89 (fun r10 μ11 hr12 => r_k1 ?_)
        refine r_bipush h dX15_test_92 (by decide) ?_
        refine r_icmp_gt (x := r10) (y := 57) h hr12 (by decide) 132 dX15_test_94 rfl ?_ ?_
        · refine r_goto h 227 dX15_test_132 rfl ?_
          refine c_aload_n (x := x0) h 0 dX15_test_227 rfl rfl ?_
          refine c_ldcs (tx := "]") h hc 43 (by decide) (-43) rfl (by decide) dX15_test_228 ?_
          refine r_ck (fun ht13 => ?_)
          refine c_callU (x := x0) (xm := ⟨"TreePress$PathReader", "must", "(Ljava/lang/String;)V"⟩) (owner := "TreePress$Reader") h hc (As := [zc_rv G (-43)]) (fun o1 e1 => u_X2_must _ x0 (-43) o1 e1) [15] ht13 (by decide) q1251 q1252 (va_Decl.of (h.2.2.2.2 _ q567) (h.2.2.2.2 _ q568)) ⟨by decide, by decide⟩ q567 (fun t ht => by cases List.mem_singleton.mp ht; exact q1253) q568 q137 (by omega) (by omega) zc_s0 (by omega) (fun z hz => by cases hz) (n := 1) (by decide +kernel) rfl rfl dX15_test_230 (fun _ μ14 _ => r_k0 ?_)
          exact c_vret h hc rfl dX15_test_233
        · refine c_aload_n (x := x2) h 1 dX15_test_97 rfl rfl ?_
          refine r_bipush h dX15_test_98 (by decide) ?_
          refine c_aload_n (x := x2) h 1 dX15_test_100 rfl rfl ?_
          refine r_ck (fun ht15 => ?_)
          refine c_getI (fin := false) h hc [17] 1 (zc_lk3 hc (O := "TreePress$Test") (n := "place") (ds := "I") (host := "TreePress") (by decide)) ht15 (by decide) dX15_test_101 (fun hr16 => ?_)
          refine r_imul h dX15_test_104 ?_
          refine c_aload_n (x := x0) h 0 dX15_test_105 rfl rfl ?_
          refine r_ck (fun ht17 => ?_)
          refine c_callU (x := x0) (xm := ⟨"TreePress$PathReader", "here", "()I"⟩) (owner := "TreePress$Reader") h hc (As := []) (fun o1 e1 => u_X2_here _ x0 o1 e1) [15] ht17 (by decide) q1243 q1244 (va_Decl.of (h.2.2.2.2 _ q493) (h.2.2.2.2 _ q494)) ⟨by decide, by decide⟩ q493 (fun t ht => by cases List.mem_singleton.mp ht; exact q1245) q494 q137 (by omega) (by omega) (zc_sc (iv_cat _) (zc_sc (zc_rv_cat G _) zc_s0)) (by omega) (fun z hz => by cases hz) (n := 0) (by decide +kernel) rfl rfl dX15_test_106 (fun r18 μ19 hr20 => r_k1 ?_)
          refine r_iadd h dX15_test_109 ?_
          refine r_bipush h dX15_test_110 (by decide) ?_
          refine r_isub h dX15_test_112 ?_
          refine r_ck (fun hk21 => ?_)
          refine r_ck (fun ht22 => ?_)
          refine c_putI (x := x2) (y := (((10 * (μ11 x2 1)) + r18) - 48)) h hc [17] 1 false (zc_lk3 hc (O := "TreePress$Test") (n := "place") (ds := "I") (host := "TreePress") (by decide)) ht22 (by decide) (Or.inl rfl) hk21 dX15_test_113 (fun μ23 he24 => ?_)
          refine c_aload_n (x := x0) h 0 dX15_test_116 rfl rfl ?_
          refine c_aload_n (x := x0) h 0 dX15_test_117 rfl rfl ?_
          refine r_ck (fun ht25 => ?_)
          refine c_callU (x := x0) (xm := ⟨"TreePress$PathReader", "place", "()I"⟩) (owner := "TreePress$Reader") h hc (As := []) (fun o1 e1 => u_X2_place _ x0 o1 e1) [15] ht25 (by decide) q1258 q1259 (va_Decl.of (h.2.2.2.2 _ q487) (h.2.2.2.2 _ q488)) ⟨by decide, by decide⟩ q487 (fun t ht => by cases List.mem_singleton.mp ht; exact q1260) q488 q137 (by omega) (by omega) (zc_sc (zc_rv_cat G _) zc_s0) (by omega) (fun z hz => by cases hz) (n := 0) (by decide +kernel) rfl rfl dX15_test_118 (fun r26 μ27 hr28 => r_k1 ?_)
          refine r_iconst h dX15_test_121 ?_
          refine r_iadd h dX15_test_122 ?_
          refine r_ck (fun hk29 => ?_)
          refine r_ck (fun ht30 => ?_)
          refine c_callU (x := x0) (xm := ⟨"TreePress$PathReader", "goTo", "(I)V"⟩) (owner := "TreePress$Reader") h hc (As := [iv (r26 + 1)]) (fun o1 e1 => u_X2_goTo _ x0 (r26 + 1) hk29 o1 e1) [15] ht30 (by decide) q1335 q1336 (va_Decl.of (h.2.2.2.2 _ q502) (h.2.2.2.2 _ q503)) ⟨by decide, by decide⟩ q502 (fun t ht => by cases List.mem_singleton.mp ht; exact q1337) q503 q137 (by omega) (by omega) zc_s0 (by omega) (fun z hz => by cases hz) (n := 1) (by decide +kernel) rfl rfl dX15_test_123 (fun _ μ31 _ => r_k0 ?_)
          refine r_iinc (lv' := [(4, iv (x4 + 1)), (0, zc_rv G x0), (2, zc_rv G x2)]) h 2 dX15_test_126 rfl (hN _ (by decide)) rfl ?_
          refine r_goto h 73 dX15_test_129 rfl ?_
          refine r_ck (fun hk32 => ?_)
          exact r_lv [1, 2, 0] rfl (ih _ x0 x2 (x4 + 1) hk32)
def c_X15_test (μ : MEM) (a0 a1 : Int) : Option zc_O := ck (zt [16] (μ a1 (-1)) = true) (ck (zt [40] (μ (μ a1 3) (-1)) = true) (bc (b_lsize μ (μ a1 3)) (fun r3 μ4 => if r3 = 4 then (ck (1 ≤ μ4 0 1 ∧ (8 : Int) ≤ μ4 0 2) (nu (mnew μ4 22 0 8) (fun μ6 => ck (zt [15] (μ6 a0 (-1)) = true) (bc (c_X2_place μ6 a0) (fun r9 μ10 => ck (zt [22] (μ10 (μ4 0 0) (-1)) = true) (bc (b_finit μ10 (μ4 0 0) (-3) r9) (fun _ μ13 => ck (0 < (μ4 0 0)) (some (1, (μ4 0 0), μ13))))))))) else (ck (zt [15] (μ4 a0 (-1)) = true) (bc (c_X2_must μ4 a0 (-39)) (fun _ μ15 => ck (1 ≤ μ15 0 1 ∧ (5 : Int) ≤ μ15 0 2) (nu (mnew μ15 17 0 5) (fun μ16 => bc (c_X17_init μ16 (μ15 0 0)) (fun _ μ18 => ck (zt [16] (μ18 a1 (-1)) = true) (ck (zt [40] (μ18 (μ18 a1 3) (-1)) = true) (bc (b_ladd μ18 (μ18 a1 3) (μ15 0 0)) (fun r21 μ22 => ck (zt [15] (μ22 a0 (-1)) = true) (bc (c_X2_here μ22 a0) (fun r25 μ26 => if r25 < 48 then (c_X15_test_135 μ26 a0 (μ15 0 0) r25) else (if 57 < r25 then (c_X15_test_135 μ26 a0 (μ15 0 0) r25) else (ck (zt [17] (μ26 (μ15 0 0) (-1)) = true) (nu (mup μ26 (μ15 0 0) 0 0) (fun μ29 => c_X15_test_73 zF μ29 a0 (μ15 0 0) 0))))))))))))))))))
theorem u_X15_test {G : zc_G} (μ : MEM) (a0 a1 : Int) (o : zc_O) (hd : c_X15_test μ a0 a1 = some o) : zc_Met G yX15_test cX15_test 5 (Option.none : Option FieldType) 0 9 183 μ [zc_rv G a0, zc_rv G a1] o := by
  refine zc_intro hd (by decide) (by simp [lg_sl, zc_rv_cat, iv_cat, jv_cat]) (lv := [(0, zc_rv G a0), (1, zc_rv G a1)]) (by simp [lv_args, zc_rv_cat, iv_cat, jv_cat]) (fun C h hc => ?_)
  have h : zv_Ok C cX15_test "TreePress$PathReader" := h
  have hc : zc_C C G μ 5 (Option.none : Option FieldType) 0 9 183 "test" [] := hc
  have hN : ∀ i, i < 5 → i < zv_n C := fun i q => by rw [hc.2.1]; exact q
  unfold c_X15_test
  refine c_aload_n (x := a1) h 1 dX15_test_0 rfl rfl ?_
  refine r_ck (fun ht1 => ?_)
  refine c_getR (fin := true) h hc [16] 3 (zc_lk3 hc (O := "TreePress$Step") (n := "tests") (ds := "Ljava/util/ArrayList;") (host := "TreePress") (by decide)) ht1 (by decide) dX15_test_1 ?_
  refine r_ck (fun ht2 => ?_)
  refine c_callV (x := (μ a1 3)) h hc (As := []) (fun o1 e1 => w_lsize _ (μ a1 3) o1 e1) [40] ht2 (by decide) q1266 q343 (fun t ht => by cases List.mem_singleton.mp ht; exact q344) q345 q135 (by omega) (by omega) zc_s0 (by omega) (fun z hz => by cases hz) ⟨by decide, by decide⟩ (n := 0) (by decide +kernel) rfl rfl dX15_test_4 (fun r3 μ4 hr5 => r_k1 ?_)
  refine r_iconst h dX15_test_7 ?_
  refine r_icmp_ne (x := r3) (y := 4) h hr5 (by decide) 25 dX15_test_8 rfl ?_ ?_
  · refine c_newF h hc q1264 q577 q153 dX15_test_11 (fun _ μ6 he7 => ?_)
    refine r_dup h dX15_test_14 (zc_rv_cat G _) ?_
    refine r_bipush h dX15_test_15 (by decide) ?_
    refine c_aload_n (x := a0) h 0 dX15_test_17 rfl rfl ?_
    refine r_ck (fun ht8 => ?_)
    refine c_callU (x := a0) (xm := ⟨"TreePress$PathReader", "place", "()I"⟩) (owner := "TreePress$Reader") h hc (As := []) (fun o1 e1 => u_X2_place _ a0 o1 e1) [15] ht8 (by decide) q1258 q1259 (va_Decl.of (h.2.2.2.2 _ q487) (h.2.2.2.2 _ q488)) ⟨by decide, by decide⟩ q487 (fun t ht => by cases List.mem_singleton.mp ht; exact q1260) q488 q137 (by omega) (by omega) (zc_sc (iv_cat _) (zc_sc (zc_rv_cat G _) (zc_sc (zc_rv_cat G _) zc_s0))) (by omega) (fun z hz => by cases hz) (n := 0) (by decide +kernel) rfl rfl dX15_test_18 (fun r9 μ10 hr11 => r_k1 ?_)
    refine r_ck (fun ht12 => ?_)
    refine c_callI (x := (μ4 0 0)) h hc (As := [iv (-3), iv r9]) (fun o1 e1 => w_finit _ (μ4 0 0) (-3) r9 (by decide) hr11 o1 e1) [22] ht12 (by decide) q1265 q616 rfl q617 q153 (by omega) (by omega) (zc_sc (zc_rv_cat G _) zc_s0) (by omega) (fun z hz => by cases hz) ⟨by decide, by decide⟩ (n := 2) (by decide +kernel) rfl rfl dX15_test_21 (fun _ μ13 _ => r_k0 ?_)
    exact c_athrow h hc (fun z hz => by cases hz) dX15_test_24
  · refine c_aload_n (x := a0) h 0 dX15_test_25 rfl rfl ?_
    refine c_ldcs (tx := "[") h hc 39 (by decide) (-39) rfl (by decide) dX15_test_26 ?_
    refine r_ck (fun ht14 => ?_)
    refine c_callU (x := a0) (xm := ⟨"TreePress$PathReader", "must", "(Ljava/lang/String;)V"⟩) (owner := "TreePress$Reader") h hc (As := [zc_rv G (-39)]) (fun o1 e1 => u_X2_must _ a0 (-39) o1 e1) [15] ht14 (by decide) q1251 q1252 (va_Decl.of (h.2.2.2.2 _ q567) (h.2.2.2.2 _ q568)) ⟨by decide, by decide⟩ q567 (fun t ht => by cases List.mem_singleton.mp ht; exact q1253) q568 q137 (by omega) (by omega) zc_s0 (by omega) (fun z hz => by cases hz) (n := 1) (by decide +kernel) rfl rfl dX15_test_28 (fun _ μ15 _ => r_k0 ?_)
    refine c_new h hc 17 (N := 5) rfl (by decide) q1308 q1309 q164 dX15_test_31 (fun _ μ16 he17 => ?_)
    refine r_dup h dX15_test_34 (zc_rv_cat G _) ?_
    refine c_callIN (x := (μ15 0 0)) h hc (As := []) (fun o1 e1 => u_X17_init _ (μ15 0 0) o1 e1) [17] (zt_nw he17) (by decide) (host := "TreePress") (by decide) q1311 rfl q1312 q164 (by omega) (by omega) (zc_sc (zc_rv_cat G _) zc_s0) (by omega) (fun z hz => by cases hz) ⟨by decide, by decide⟩ (n := 0) (by decide +kernel) rfl rfl dX15_test_35 (fun _ μ18 _ => r_k0 ?_)
    refine c_astore_n (i := 2) (lv' := [(2, zc_rv G (μ15 0 0)), (0, zc_rv G a0), (1, zc_rv G a1)]) h dX15_test_38 rfl (hN _ (by decide)) (by simp [zc_rv_cat]) ?_
    refine c_aload_n (x := a1) h 2 dX15_test_39 rfl rfl ?_
    refine r_ck (fun ht19 => ?_)
    refine c_getR (fin := true) h hc [16] 3 (zc_lk3 hc (O := "TreePress$Step") (n := "tests") (ds := "Ljava/util/ArrayList;") (host := "TreePress") (by decide)) ht19 (by decide) dX15_test_40 ?_
    refine c_aload_n (x := (μ15 0 0)) h 0 dX15_test_43 rfl rfl ?_
    refine r_ck (fun ht20 => ?_)
    refine c_callV (x := (μ18 a1 3)) h hc (As := [zc_rv G (μ15 0 0)]) (fun o1 e1 => w_ladd _ (μ18 a1 3) (μ15 0 0) o1 e1) [40] ht20 (by decide) q1293 q347 (fun t ht => by cases List.mem_singleton.mp ht; exact q348) q349 q135 (by omega) (by omega) zc_s0 (by omega) (fun z hz => by cases hz) ⟨by decide, by decide⟩ (n := 1) (by decide +kernel) rfl rfl dX15_test_44 (fun r21 μ22 hr23 => r_k3 ?_)
    refine r_pop h dX15_test_47 (iv_cat _) ?_
    refine c_aload_n (x := a0) h 1 dX15_test_48 rfl rfl ?_
    refine r_ck (fun ht24 => ?_)
    refine c_callU (x := a0) (xm := ⟨"TreePress$PathReader", "here", "()I"⟩) (owner := "TreePress$Reader") h hc (As := []) (fun o1 e1 => u_X2_here _ a0 o1 e1) [15] ht24 (by decide) q1243 q1244 (va_Decl.of (h.2.2.2.2 _ q493) (h.2.2.2.2 _ q494)) ⟨by decide, by decide⟩ q493 (fun t ht => by cases List.mem_singleton.mp ht; exact q1245) q494 q137 (by omega) (by omega) zc_s0 (by omega) (fun z hz => by cases hz) (n := 0) (by decide +kernel) rfl rfl dX15_test_49 (fun r25 μ26 hr27 => r_k1 ?_)
    refine r_istore_n (i := 3) (lv' := [(3, iv r25), (2, zc_rv G (μ15 0 0)), (0, zc_rv G a0), (1, zc_rv G a1)]) h dX15_test_52 rfl (hN _ (by decide)) (by simp [zc_rv_cat]) ?_
    refine r_iload_n h 0 dX15_test_53 rfl rfl ?_
    refine r_bipush h dX15_test_54 (by decide) ?_
    refine r_icmp_lt (x := r25) (y := 48) h hr27 (by decide) 135 dX15_test_56 rfl ?_ ?_
    · exact r_lv [2, 1, 0] rfl (u_X15_test_135 h hc _ a0 (μ15 0 0) r25 hr27)
    · refine r_iload_n h 0 dX15_test_59 rfl rfl ?_
      refine r_bipush h dX15_test_60 (by decide) ?_
      refine r_icmp_gt (x := r25) (y := 57) h hr27 (by decide) 135 dX15_test_62 rfl ?_ ?_
      · exact r_lv [2, 1, 0] rfl (u_X15_test_135 h hc _ a0 (μ15 0 0) r25 hr27)
      · refine c_aload_n (x := (μ15 0 0)) h 1 dX15_test_65 rfl rfl ?_
        refine r_iconst h dX15_test_66 ?_
        refine r_ck (fun ht28 => ?_)
        refine c_putI (x := (μ15 0 0)) (y := 0) h hc [17] 0 false (zc_lk3 hc (O := "TreePress$Test") (n := "kind") (ds := "I") (host := "TreePress") (by decide)) ht28 (by decide) (Or.inl rfl) (by decide) dX15_test_67 (fun μ29 he30 => ?_)
        refine r_iconst h dX15_test_70 ?_
        refine r_istore (lv' := [(4, iv 0), (3, iv r25), (2, zc_rv G (μ15 0 0)), (0, zc_rv G a0), (1, zc_rv G a1)]) h dX15_test_71 (hN _ (by decide)) rfl ?_
        exact r_lv [3, 2, 0] rfl (u_X15_test_73 h hc zF _ a0 (μ15 0 0) 0 (by decide))
theorem dX15_step_0 : decode cX15_step 0 = .ok (.aload_n 0, 1) := by decide +kernel
theorem dX15_step_1 : decode cX15_step 1 = .ok (.invokevirtual 49, 3) := by decide +kernel
theorem dX15_step_4 : decode cX15_step 4 = .ok (.istore_n 2, 1) := by decide +kernel
theorem dX15_step_5 : decode cX15_step 5 = .ok (.aload_n 0, 1) := by decide +kernel
theorem dX15_step_6 : decode cX15_step 6 = .ok (.ldc 55, 2) := by decide +kernel
theorem dX15_step_8 : decode cX15_step 8 = .ok (.invokevirtual 30, 3) := by decide +kernel
theorem dX15_step_11 : decode cX15_step 11 = .ok (.ifCond .ne 31, 3) := by decide +kernel
theorem dX15_step_14 : decode cX15_step 14 = .ok (.aload_n 0, 1) := by decide +kernel
theorem dX15_step_15 : decode cX15_step 15 = .ok (.ldc 57, 2) := by decide +kernel
theorem dX15_step_17 : decode cX15_step 17 = .ok (.invokevirtual 30, 3) := by decide +kernel
theorem dX15_step_20 : decode cX15_step 20 = .ok (.ifCond .ne 22, 3) := by decide +kernel
theorem dX15_step_23 : decode cX15_step 23 = .ok (.aload_n 0, 1) := by decide +kernel
theorem dX15_step_24 : decode cX15_step 24 = .ok (.invokevirtual 20, 3) := by decide +kernel
theorem dX15_step_27 : decode cX15_step 27 = .ok (.bipush 42, 2) := by decide +kernel
theorem dX15_step_29 : decode cX15_step 29 = .ok (.if_icmp .eq 13, 3) := by decide +kernel
theorem dX15_step_32 : decode cX15_step 32 = .ok (.aload_n 0, 1) := by decide +kernel
theorem dX15_step_33 : decode cX15_step 33 = .ok (.invokevirtual 20, 3) := by decide +kernel
theorem dX15_step_36 : decode cX15_step 36 = .ok (.invokestatic 59, 3) := by decide +kernel
theorem dX15_step_39 : decode cX15_step 39 = .ok (.ifCond .eq 7, 3) := by decide +kernel
theorem dX15_step_42 : decode cX15_step 42 = .ok (.iconst 1, 1) := by decide +kernel
theorem dX15_step_43 : decode cX15_step 43 = .ok (.goto 4, 3) := by decide +kernel
theorem dX15_step_46 : decode cX15_step 46 = .ok (.iconst 0, 1) := by decide +kernel
theorem dX15_step_47 : decode cX15_step 47 = .ok (.istore_n 3, 1) := by decide +kernel
theorem dX15_step_48 : decode cX15_step 48 = .ok (.iload_n 3, 1) := by decide +kernel
theorem dX15_step_49 : decode cX15_step 49 = .ok (.ifCond .ne 13, 3) := by decide +kernel
theorem dX15_step_52 : decode cX15_step 52 = .ok (.new 47, 3) := by decide +kernel
theorem dX15_step_55 : decode cX15_step 55 = .ok (.dup, 1) := by decide +kernel
theorem dX15_step_56 : decode cX15_step 56 = .ok (.iconst (-1), 1) := by decide +kernel
theorem dX15_step_57 : decode cX15_step 57 = .ok (.iload_n 2, 1) := by decide +kernel
theorem dX15_step_58 : decode cX15_step 58 = .ok (.invokespecial 52, 3) := by decide +kernel
theorem dX15_step_61 : decode cX15_step 61 = .ok (.athrow, 1) := by decide +kernel
theorem dX15_step_62 : decode cX15_step 62 = .ok (.aload_n 0, 1) := by decide +kernel
theorem dX15_step_63 : decode cX15_step 63 = .ok (.getfield 14, 3) := by decide +kernel
theorem dX15_step_66 : decode cX15_step 66 = .ok (.invokevirtual 63, 3) := by decide +kernel
theorem dX15_step_69 : decode cX15_step 69 = .ok (.bipush 12, 2) := by decide +kernel
theorem dX15_step_71 : decode cX15_step 71 = .ok (.if_icmp .ne 14, 3) := by decide +kernel
theorem dX15_step_74 : decode cX15_step 74 = .ok (.new 47, 3) := by decide +kernel
theorem dX15_step_77 : decode cX15_step 77 = .ok (.dup, 1) := by decide +kernel
theorem dX15_step_78 : decode cX15_step 78 = .ok (.bipush (-3), 2) := by decide +kernel
theorem dX15_step_80 : decode cX15_step 80 = .ok (.iload_n 2, 1) := by decide +kernel
theorem dX15_step_81 : decode cX15_step 81 = .ok (.invokespecial 52, 3) := by decide +kernel
theorem dX15_step_84 : decode cX15_step 84 = .ok (.athrow, 1) := by decide +kernel
theorem dX15_step_85 : decode cX15_step 85 = .ok (.new 66, 3) := by decide +kernel
theorem dX15_step_88 : decode cX15_step 88 = .ok (.dup, 1) := by decide +kernel
theorem dX15_step_89 : decode cX15_step 89 = .ok (.invokespecial 68, 3) := by decide +kernel
theorem dX15_step_92 : decode cX15_step 92 = .ok (.astore 4, 2) := by decide +kernel
theorem dX15_step_94 : decode cX15_step 94 = .ok (.aload 4, 2) := by decide +kernel
theorem dX15_step_96 : decode cX15_step 96 = .ok (.iload_n 1, 1) := by decide +kernel
theorem dX15_step_97 : decode cX15_step 97 = .ok (.putfield 69, 3) := by decide +kernel
theorem dX15_step_100 : decode cX15_step 100 = .ok (.aload_n 0, 1) := by decide +kernel
theorem dX15_step_101 : decode cX15_step 101 = .ok (.getfield 14, 3) := by decide +kernel
theorem dX15_step_104 : decode cX15_step 104 = .ok (.aload 4, 2) := by decide +kernel
theorem dX15_step_106 : decode cX15_step 106 = .ok (.invokevirtual 72, 3) := by decide +kernel
theorem dX15_step_109 : decode cX15_step 109 = .ok (.pop, 1) := by decide +kernel
theorem dX15_step_110 : decode cX15_step 110 = .ok (.aload_n 0, 1) := by decide +kernel
theorem dX15_step_111 : decode cX15_step 111 = .ok (.ldc 76, 2) := by decide +kernel
theorem dX15_step_113 : decode cX15_step 113 = .ok (.invokevirtual 44, 3) := by decide +kernel
theorem dX15_step_116 : decode cX15_step 116 = .ok (.ifCond .eq 10, 3) := by decide +kernel
theorem dX15_step_119 : decode cX15_step 119 = .ok (.aload 4, 2) := by decide +kernel
theorem dX15_step_121 : decode cX15_step 121 = .ok (.iconst 1, 1) := by decide +kernel
theorem dX15_step_122 : decode cX15_step 122 = .ok (.putfield 78, 3) := by decide +kernel
theorem dX15_step_125 : decode cX15_step 125 = .ok (.return_, 1) := by decide +kernel
theorem dX15_step_126 : decode cX15_step 126 = .ok (.aload_n 0, 1) := by decide +kernel
theorem dX15_step_127 : decode cX15_step 127 = .ok (.ldc 55, 2) := by decide +kernel
theorem dX15_step_129 : decode cX15_step 129 = .ok (.invokevirtual 44, 3) := by decide +kernel
theorem dX15_step_132 : decode cX15_step 132 = .ok (.ifCond .eq 10, 3) := by decide +kernel
theorem dX15_step_135 : decode cX15_step 135 = .ok (.aload 4, 2) := by decide +kernel
theorem dX15_step_137 : decode cX15_step 137 = .ok (.iconst 0, 1) := by decide +kernel
theorem dX15_step_138 : decode cX15_step 138 = .ok (.putfield 78, 3) := by decide +kernel
theorem dX15_step_141 : decode cX15_step 141 = .ok (.return_, 1) := by decide +kernel
theorem dX15_step_142 : decode cX15_step 142 = .ok (.aload_n 0, 1) := by decide +kernel
theorem dX15_step_143 : decode cX15_step 143 = .ok (.ldc 82, 2) := by decide +kernel
theorem dX15_step_145 : decode cX15_step 145 = .ok (.invokevirtual 44, 3) := by decide +kernel
theorem dX15_step_148 : decode cX15_step 148 = .ok (.ifCond .eq 12, 3) := by decide +kernel
theorem dX15_step_151 : decode cX15_step 151 = .ok (.aload 4, 2) := by decide +kernel
theorem dX15_step_153 : decode cX15_step 153 = .ok (.iconst 2, 1) := by decide +kernel
theorem dX15_step_154 : decode cX15_step 154 = .ok (.putfield 78, 3) := by decide +kernel
theorem dX15_step_157 : decode cX15_step 157 = .ok (.goto 40, 3) := by decide +kernel
theorem dX15_step_160 : decode cX15_step 160 = .ok (.aload 4, 2) := by decide +kernel
theorem dX15_step_162 : decode cX15_step 162 = .ok (.aload_n 0, 1) := by decide +kernel
theorem dX15_step_163 : decode cX15_step 163 = .ok (.ldc 57, 2) := by decide +kernel
theorem dX15_step_165 : decode cX15_step 165 = .ok (.invokevirtual 44, 3) := by decide +kernel
theorem dX15_step_168 : decode cX15_step 168 = .ok (.ifCond .eq 7, 3) := by decide +kernel
theorem dX15_step_171 : decode cX15_step 171 = .ok (.iconst 4, 1) := by decide +kernel
theorem dX15_step_172 : decode cX15_step 172 = .ok (.goto 4, 3) := by decide +kernel
theorem dX15_step_175 : decode cX15_step 175 = .ok (.iconst 3, 1) := by decide +kernel
theorem dX15_step_176 : decode cX15_step 176 = .ok (.putfield 78, 3) := by decide +kernel
theorem dX15_step_179 : decode cX15_step 179 = .ok (.aload_n 0, 1) := by decide +kernel
theorem dX15_step_180 : decode cX15_step 180 = .ok (.ldc 84, 2) := by decide +kernel
theorem dX15_step_182 : decode cX15_step 182 = .ok (.invokevirtual 44, 3) := by decide +kernel
theorem dX15_step_185 : decode cX15_step 185 = .ok (.ifCond .ne 12, 3) := by decide +kernel
theorem dX15_step_188 : decode cX15_step 188 = .ok (.aload 4, 2) := by decide +kernel
theorem dX15_step_190 : decode cX15_step 190 = .ok (.aload_n 0, 1) := by decide +kernel
theorem dX15_step_191 : decode cX15_step 191 = .ok (.invokevirtual 86, 3) := by decide +kernel
theorem dX15_step_194 : decode cX15_step 194 = .ok (.putfield 90, 3) := by decide +kernel
theorem dX15_step_197 : decode cX15_step 197 = .ok (.aload_n 0, 1) := by decide +kernel
theorem dX15_step_198 : decode cX15_step 198 = .ok (.invokevirtual 20, 3) := by decide +kernel
theorem dX15_step_201 : decode cX15_step 201 = .ok (.bipush 91, 2) := by decide +kernel
theorem dX15_step_203 : decode cX15_step 203 = .ok (.if_icmp .ne 12, 3) := by decide +kernel
theorem dX15_step_206 : decode cX15_step 206 = .ok (.aload_n 0, 1) := by decide +kernel
theorem dX15_step_207 : decode cX15_step 207 = .ok (.aload 4, 2) := by decide +kernel
theorem dX15_step_209 : decode cX15_step 209 = .ok (.invokevirtual 93, 3) := by decide +kernel
theorem dX15_step_212 : decode cX15_step 212 = .ok (.goto (-15), 3) := by decide +kernel
theorem dX15_step_215 : decode cX15_step 215 = .ok (.return_, 1) := by decide +kernel
def c_X15_step_197 : Nat → MEM → Int → Int → Option zc_O
  | 0, _, _, _ => none
  | n + 1, μ, x0, x4 => ck (zt [15] (μ x0 (-1)) = true) (bc (c_X2_here μ x0) (fun r2 μ3 => if r2 = 91 then (ck (zt [15] (μ3 x0 (-1)) = true) (bc (c_X15_test μ3 x0 x4) (fun _ μ6 => c_X15_step_197 n μ6 x0 x4))) else (some (0, 0, μ3))))
theorem u_X15_step_197 {C : zv_Cx zc_O} {G : zc_G} {μ0 : MEM} (h : zv_Ok C cX15_step "TreePress$PathReader") (hc : zc_C C G μ0 5 (Option.none : Option FieldType) 0 10 207 "step" []) : ∀ (n : Nat) (μ : MEM) (x0 x4 : Int), VV C (c_X15_step_197 n μ x0 x4) μ [(0, zc_rv G x0), (4, zc_rv G x4)] [] 197 := by
  have hN : ∀ i, i < 5 → i < zv_n C := fun i q => by rw [hc.2.1]; exact q
  intro n
  induction n with
  | zero => intros; exact r_none
  | succ n ih =>
    intro μ x0 x4 
    rw [c_X15_step_197]
    refine c_aload_n (x := x0) h 0 dX15_step_197 rfl rfl ?_
    refine r_ck (fun ht1 => ?_)
    refine c_callU (x := x0) (xm := ⟨"TreePress$PathReader", "here", "()I"⟩) (owner := "TreePress$Reader") h hc (As := []) (fun o1 e1 => u_X2_here _ x0 o1 e1) [15] ht1 (by decide) q1243 q1244 (va_Decl.of (h.2.2.2.2 _ q493) (h.2.2.2.2 _ q494)) ⟨by decide, by decide⟩ q493 (fun t ht => by cases List.mem_singleton.mp ht; exact q1245) q494 q137 (by omega) (by omega) zc_s0 (by omega) (fun z hz => by cases hz) (n := 0) (by decide +kernel) rfl rfl dX15_step_198 (fun r2 μ3 hr4 => r_k1 ?_)
    refine r_bipush h dX15_step_201 (by decide) ?_
    refine r_icmp_ne (x := r2) (y := 91) h hr4 (by decide) 215 dX15_step_203 rfl ?_ ?_
    · refine c_aload_n (x := x0) h 0 dX15_step_206 rfl rfl ?_
      refine c_aload (x := x4) h 1 dX15_step_207 rfl ?_
      refine r_ck (fun ht5 => ?_)
      refine c_callV (x := x0) h hc (As := [zc_rv G x4]) (fun o1 e1 => u_X15_test _ x0 x4 o1 e1) [15] ht5 (by decide) q1303 q1305 (fun t ht => by cases List.mem_singleton.mp ht; exact qs43) q1306 q162 (by omega) (by omega) zc_s0 (by omega) (fun z hz => by cases hz) ⟨by decide, by decide⟩ (n := 1) (by decide +kernel) rfl rfl dX15_step_209 (fun _ μ6 _ => r_k0 ?_)
      refine r_goto h 197 dX15_step_212 rfl ?_
      exact r_lv [0, 1] rfl (ih _ x0 x4)
    · exact c_vret h hc rfl dX15_step_215
def c_X15_step_176 (μ : MEM) (x0 x4 s0 s1 : Int) : Option zc_O := ck (zt [16] (μ s0 (-1)) = true) (nu (mup μ s0 0 s1) (fun μ2 => ck (zt [15] (μ2 x0 (-1)) = true) (bc (c_X2_takes μ2 x0 (-38)) (fun r5 μ6 => if r5 = 0 then (ck (zt [15] (μ6 x0 (-1)) = true) (bc (c_X2_name μ6 x0) (fun r9 μ10 => ck (zt [16] (μ10 x4 (-1)) = true) (nu (mup μ10 x4 2 r9) (fun μ13 => c_X15_step_197 zF μ13 x0 x4))))) else (c_X15_step_197 zF μ6 x0 x4)))))
theorem u_X15_step_176 {C : zv_Cx zc_O} {G : zc_G} {μ0 : MEM} (h : zv_Ok C cX15_step "TreePress$PathReader") (hc : zc_C C G μ0 5 (Option.none : Option FieldType) 0 10 207 "step" []) (μ : MEM) (x0 x4 s0 s1 : Int) (hs1 : inR s1) : VV C (c_X15_step_176 μ x0 x4 s0 s1) μ [(0, zc_rv G x0), (4, zc_rv G x4)] [iv s1, zc_rv G s0] 176 := by
  have hN : ∀ i, i < 5 → i < zv_n C := fun i q => by rw [hc.2.1]; exact q
  unfold c_X15_step_176
  refine r_ck (fun ht1 => ?_)
  refine c_putI (x := s0) (y := s1) h hc [16] 0 false (zc_lk3 hc (O := "TreePress$Step") (n := "kind") (ds := "I") (host := "TreePress") (by decide)) ht1 (by decide) (Or.inl rfl) hs1 dX15_step_176 (fun μ2 he3 => ?_)
  refine c_aload_n (x := x0) h 0 dX15_step_179 rfl rfl ?_
  refine c_ldcs (tx := "*") h hc 38 (by decide) (-38) rfl (by decide) dX15_step_180 ?_
  refine r_ck (fun ht4 => ?_)
  refine c_callU (x := x0) (xm := ⟨"TreePress$PathReader", "takes", "(Ljava/lang/String;)Z"⟩) (owner := "TreePress$Reader") h hc (As := [zc_rv G (-38)]) (fun o1 e1 => u_X2_takes _ x0 (-38) o1 e1) [15] ht4 (by decide) q1295 q1296 (va_Decl.of (h.2.2.2.2 _ q570) (h.2.2.2.2 _ q574)) ⟨by decide, by decide⟩ q570 (fun t ht => by cases List.mem_singleton.mp ht; exact q1297) q574 q137 (by omega) (by omega) zc_s0 (by omega) (fun z hz => by cases hz) (n := 1) (by decide +kernel) rfl rfl dX15_step_182 (fun r5 μ6 hr7 => r_k3 ?_)
  refine r_if_ne (x := r5) h hr7.r 197 dX15_step_185 rfl ?_ ?_
  · refine c_aload (x := x4) h 1 dX15_step_188 rfl ?_
    refine c_aload_n (x := x0) h 0 dX15_step_190 rfl rfl ?_
    refine r_ck (fun ht8 => ?_)
    refine c_callU (x := x0) (xm := ⟨"TreePress$PathReader", "name", "()[B"⟩) (owner := "TreePress$Reader") h hc (As := []) (fun o1 e1 => u_X2_name _ x0 o1 e1) [15] ht8 (by decide) q1300 q1301 (va_Decl.of (h.2.2.2.2 _ q666) (h.2.2.2.2 _ q667)) ⟨by decide, by decide⟩ q666 (fun t ht => by cases List.mem_singleton.mp ht; exact q1302) q667 q137 (by omega) (by omega) (zc_sc (zc_rv_cat G _) zc_s0) (by omega) (fun z hz => by cases hz) (n := 0) (by decide +kernel) rfl rfl dX15_step_191 (fun r9 μ10 hr11 => r_k4 ?_)
    refine r_ck (fun ht12 => ?_)
    refine c_putR (x := x4) (y := r9) h hc [16] 2 false (zc_lk3 hc (O := "TreePress$Step") (n := "name") (ds := "[B") (host := "TreePress") (by decide)) ht12 (by decide) (Or.inl rfl) (ty := (.array .byte)) (by decide +kernel) (Or.inr ⟨_, rfl⟩) dX15_step_194 (fun μ13 he14 => ?_)
    exact r_lv [0, 1] rfl (u_X15_step_197 h hc zF _ x0 x4)
  · exact r_lv [0, 1] rfl (u_X15_step_197 h hc zF _ x0 x4)
def c_X15_step_47 (μ : MEM) (x0 x1 x2 s0 : Int) : Option zc_O := if s0 = 0 then (ck (1 ≤ μ 0 1 ∧ (8 : Int) ≤ μ 0 2) (nu (mnew μ 22 0 8) (fun μ1 => bc (b_finit μ1 (μ 0 0) (-1) x2) (fun _ μ3 => ck (0 < (μ 0 0)) (some (1, (μ 0 0), μ3)))))) else (ck (zt [15] (μ x0 (-1)) = true) (ck (zt [40] (μ (μ x0 3) (-1)) = true) (bc (b_lsize μ (μ x0 3)) (fun r6 μ7 => if r6 = 12 then (ck (1 ≤ μ7 0 1 ∧ (8 : Int) ≤ μ7 0 2) (nu (mnew μ7 22 0 8) (fun μ9 => bc (b_finit μ9 (μ7 0 0) (-3) x2) (fun _ μ11 => ck (0 < (μ7 0 0)) (some (1, (μ7 0 0), μ11)))))) else (ck (1 ≤ μ7 0 1 ∧ (4 : Int) ≤ μ7 0 2) (nu (mnew μ7 16 0 4) (fun μ12 => bc (c_X16_init μ12 (μ7 0 0)) (fun _ μ14 => ck (zt [16] (μ14 (μ7 0 0) (-1)) = true) (nu (mup μ14 (μ7 0 0) 1 x1) (fun μ16 => ck (zt [15] (μ16 x0 (-1)) = true) (ck (zt [40] (μ16 (μ16 x0 3) (-1)) = true) (bc (b_ladd μ16 (μ16 x0 3) (μ7 0 0)) (fun r20 μ21 => ck (zt [15] (μ21 x0 (-1)) = true) (bc (c_X2_takes μ21 x0 (-36)) (fun r24 μ25 => if r24 = 0 then (ck (zt [15] (μ25 x0 (-1)) = true) (bc (c_X2_takes μ25 x0 (-34)) (fun r28 μ29 => if r28 = 0 then (ck (zt [15] (μ29 x0 (-1)) = true) (bc (c_X2_takes μ29 x0 (-37)) (fun r32 μ33 => if r32 = 0 then (ck (zt [15] (μ33 x0 (-1)) = true) (bc (c_X2_takes μ33 x0 (-35)) (fun r36 μ37 => if r36 = 0 then (c_X15_step_176 μ37 x0 (μ7 0 0) (μ7 0 0) 3) else (c_X15_step_176 μ37 x0 (μ7 0 0) (μ7 0 0) 4)))) else (ck (zt [16] (μ33 (μ7 0 0) (-1)) = true) (nu (mup μ33 (μ7 0 0) 0 2) (fun μ40 => c_X15_step_197 zF μ40 x0 (μ7 0 0))))))) else (ck (zt [16] (μ29 (μ7 0 0) (-1)) = true) (nu (mup μ29 (μ7 0 0) 0 0) (fun μ43 => some (0, 0, μ43))))))) else (ck (zt [16] (μ25 (μ7 0 0) (-1)) = true) (nu (mup μ25 (μ7 0 0) 0 1) (fun μ46 => some (0, 0, μ46)))))))))))))))))))
theorem u_X15_step_47 {C : zv_Cx zc_O} {G : zc_G} {μ0 : MEM} (h : zv_Ok C cX15_step "TreePress$PathReader") (hc : zc_C C G μ0 5 (Option.none : Option FieldType) 0 10 207 "step" []) (μ : MEM) (x0 x1 x2 s0 : Int) (hx1 : isB x1) (hx2 : inR x2) (hs0 : isB s0) : VV C (c_X15_step_47 μ x0 x1 x2 s0) μ [(0, zc_rv G x0), (1, iv x1), (2, iv x2)] [iv s0] 47 := by
  have hN : ∀ i, i < 5 → i < zv_n C := fun i q => by rw [hc.2.1]; exact q
  unfold c_X15_step_47
  refine r_istore_n (i := 3) (lv' := [(3, iv s0), (0, zc_rv G x0), (1, iv x1), (2, iv x2)]) h dX15_step_47 rfl (hN _ (by decide)) rfl ?_
  refine r_iload_n h 0 dX15_step_48 rfl rfl ?_
  refine r_if_ne (x := s0) h hs0.r 62 dX15_step_49 rfl ?_ ?_
  · refine c_newF h hc q1264 q577 q153 dX15_step_52 (fun _ μ1 he2 => ?_)
    refine r_dup h dX15_step_55 (zc_rv_cat G _) ?_
    refine r_iconst h dX15_step_56 ?_
    refine r_iload_n h 3 dX15_step_57 rfl rfl ?_
    refine c_callI (x := (μ 0 0)) h hc (As := [iv (-1), iv x2]) (fun o1 e1 => w_finit _ (μ 0 0) (-1) x2 (by decide) hx2 o1 e1) [22] (zt_nw he2) (by decide) q1265 q616 rfl q617 q153 (by omega) (by omega) (zc_sc (zc_rv_cat G _) zc_s0) (by omega) (fun z hz => by cases hz) ⟨by decide, by decide⟩ (n := 2) (by decide +kernel) rfl rfl dX15_step_58 (fun _ μ3 _ => r_k0 ?_)
    exact c_athrow h hc (fun z hz => by cases hz) dX15_step_61
  · refine c_aload_n (x := x0) h 1 dX15_step_62 rfl rfl ?_
    refine r_ck (fun ht4 => ?_)
    refine c_getR (fin := true) h hc [15] 3 (zc_lk1 h q1227) ht4 (by decide) dX15_step_63 ?_
    refine r_ck (fun ht5 => ?_)
    refine c_callV (x := (μ x0 3)) h hc (As := []) (fun o1 e1 => w_lsize _ (μ x0 3) o1 e1) [40] ht5 (by decide) q1266 q343 (fun t ht => by cases List.mem_singleton.mp ht; exact q344) q345 q135 (by omega) (by omega) zc_s0 (by omega) (fun z hz => by cases hz) ⟨by decide, by decide⟩ (n := 0) (by decide +kernel) rfl rfl dX15_step_66 (fun r6 μ7 hr8 => r_k1 ?_)
    refine r_bipush h dX15_step_69 (by decide) ?_
    refine r_icmp_ne (x := r6) (y := 12) h hr8 (by decide) 85 dX15_step_71 rfl ?_ ?_
    · refine c_newF h hc q1264 q577 q153 dX15_step_74 (fun _ μ9 he10 => ?_)
      refine r_dup h dX15_step_77 (zc_rv_cat G _) ?_
      refine r_bipush h dX15_step_78 (by decide) ?_
      refine r_iload_n h 3 dX15_step_80 rfl rfl ?_
      refine c_callI (x := (μ7 0 0)) h hc (As := [iv (-3), iv x2]) (fun o1 e1 => w_finit _ (μ7 0 0) (-3) x2 (by decide) hx2 o1 e1) [22] (zt_nw he10) (by decide) q1265 q616 rfl q617 q153 (by omega) (by omega) (zc_sc (zc_rv_cat G _) zc_s0) (by omega) (fun z hz => by cases hz) ⟨by decide, by decide⟩ (n := 2) (by decide +kernel) rfl rfl dX15_step_81 (fun _ μ11 _ => r_k0 ?_)
      exact c_athrow h hc (fun z hz => by cases hz) dX15_step_84
    · refine c_new h hc 16 (N := 4) rfl (by decide) q1267 q1268 q163 dX15_step_85 (fun _ μ12 he13 => ?_)
      refine r_dup h dX15_step_88 (zc_rv_cat G _) ?_
      refine c_callIN (x := (μ7 0 0)) h hc (As := []) (fun o1 e1 => u_X16_init _ (μ7 0 0) o1 e1) [16] (zt_nw he13) (by decide) (host := "TreePress") (by decide) q1270 rfl q1271 q163 (by omega) (by omega) (zc_sc (zc_rv_cat G _) zc_s0) (by omega) (fun z hz => by cases hz) ⟨by decide, by decide⟩ (n := 0) (by decide +kernel) rfl rfl dX15_step_89 (fun _ μ14 _ => r_k0 ?_)
      refine c_astore (lv' := [(4, zc_rv G (μ7 0 0)), (3, iv s0), (0, zc_rv G x0), (1, iv x1), (2, iv x2)]) h dX15_step_92 (hN _ (by decide)) rfl ?_
      refine c_aload (x := (μ7 0 0)) h 0 dX15_step_94 rfl ?_
      refine r_iload_n h 3 dX15_step_96 rfl rfl ?_
      refine r_ck (fun ht15 => ?_)
      refine c_putZ (x := (μ7 0 0)) (y := x1) h hc [16] 1 false (zc_lk3 hc (O := "TreePress$Step") (n := "deep") (ds := "Z") (host := "TreePress") (by decide)) ht15 (by decide) (Or.inl rfl) hx1 dX15_step_97 (fun μ16 he17 => ?_)
      refine c_aload_n (x := x0) h 2 dX15_step_100 rfl rfl ?_
      refine r_ck (fun ht18 => ?_)
      refine c_getR (fin := true) h hc [15] 3 (zc_lk1 h q1227) ht18 (by decide) dX15_step_101 ?_
      refine c_aload (x := (μ7 0 0)) h 0 dX15_step_104 rfl ?_
      refine r_ck (fun ht19 => ?_)
      refine c_callV (x := (μ16 x0 3)) h hc (As := [zc_rv G (μ7 0 0)]) (fun o1 e1 => w_ladd _ (μ16 x0 3) (μ7 0 0) o1 e1) [40] ht19 (by decide) q1293 q347 (fun t ht => by cases List.mem_singleton.mp ht; exact q348) q349 q135 (by omega) (by omega) zc_s0 (by omega) (fun z hz => by cases hz) ⟨by decide, by decide⟩ (n := 1) (by decide +kernel) rfl rfl dX15_step_106 (fun r20 μ21 hr22 => r_k3 ?_)
      refine r_pop h dX15_step_109 (iv_cat _) ?_
      refine c_aload_n (x := x0) h 2 dX15_step_110 rfl rfl ?_
      refine c_ldcs (tx := "..") h hc 36 (by decide) (-36) rfl (by decide) dX15_step_111 ?_
      refine r_ck (fun ht23 => ?_)
      refine c_callU (x := x0) (xm := ⟨"TreePress$PathReader", "takes", "(Ljava/lang/String;)Z"⟩) (owner := "TreePress$Reader") h hc (As := [zc_rv G (-36)]) (fun o1 e1 => u_X2_takes _ x0 (-36) o1 e1) [15] ht23 (by decide) q1295 q1296 (va_Decl.of (h.2.2.2.2 _ q570) (h.2.2.2.2 _ q574)) ⟨by decide, by decide⟩ q570 (fun t ht => by cases List.mem_singleton.mp ht; exact q1297) q574 q137 (by omega) (by omega) zc_s0 (by omega) (fun z hz => by cases hz) (n := 1) (by decide +kernel) rfl rfl dX15_step_113 (fun r24 μ25 hr26 => r_k3 ?_)
      refine r_if_eq (x := r24) h hr26.r 126 dX15_step_116 rfl ?_ ?_
      · refine c_aload_n (x := x0) h 2 dX15_step_126 rfl rfl ?_
        refine c_ldcs (tx := ".") h hc 34 (by decide) (-34) rfl (by decide) dX15_step_127 ?_
        refine r_ck (fun ht27 => ?_)
        refine c_callU (x := x0) (xm := ⟨"TreePress$PathReader", "takes", "(Ljava/lang/String;)Z"⟩) (owner := "TreePress$Reader") h hc (As := [zc_rv G (-34)]) (fun o1 e1 => u_X2_takes _ x0 (-34) o1 e1) [15] ht27 (by decide) q1295 q1296 (va_Decl.of (h.2.2.2.2 _ q570) (h.2.2.2.2 _ q574)) ⟨by decide, by decide⟩ q570 (fun t ht => by cases List.mem_singleton.mp ht; exact q1297) q574 q137 (by omega) (by omega) zc_s0 (by omega) (fun z hz => by cases hz) (n := 1) (by decide +kernel) rfl rfl dX15_step_129 (fun r28 μ29 hr30 => r_k3 ?_)
        refine r_if_eq (x := r28) h hr30.r 142 dX15_step_132 rfl ?_ ?_
        · refine c_aload_n (x := x0) h 2 dX15_step_142 rfl rfl ?_
          refine c_ldcs (tx := "text()") h hc 37 (by decide) (-37) rfl (by decide) dX15_step_143 ?_
          refine r_ck (fun ht31 => ?_)
          refine c_callU (x := x0) (xm := ⟨"TreePress$PathReader", "takes", "(Ljava/lang/String;)Z"⟩) (owner := "TreePress$Reader") h hc (As := [zc_rv G (-37)]) (fun o1 e1 => u_X2_takes _ x0 (-37) o1 e1) [15] ht31 (by decide) q1295 q1296 (va_Decl.of (h.2.2.2.2 _ q570) (h.2.2.2.2 _ q574)) ⟨by decide, by decide⟩ q570 (fun t ht => by cases List.mem_singleton.mp ht; exact q1297) q574 q137 (by omega) (by omega) zc_s0 (by omega) (fun z hz => by cases hz) (n := 1) (by decide +kernel) rfl rfl dX15_step_145 (fun r32 μ33 hr34 => r_k3 ?_)
          refine r_if_eq (x := r32) h hr34.r 160 dX15_step_148 rfl ?_ ?_
          · refine c_aload (x := (μ7 0 0)) h 0 dX15_step_160 rfl ?_
            refine c_aload_n (x := x0) h 2 dX15_step_162 rfl rfl ?_
            refine c_ldcs (tx := "@") h hc 35 (by decide) (-35) rfl (by decide) dX15_step_163 ?_
            refine r_ck (fun ht35 => ?_)
            refine c_callU (x := x0) (xm := ⟨"TreePress$PathReader", "takes", "(Ljava/lang/String;)Z"⟩) (owner := "TreePress$Reader") h hc (As := [zc_rv G (-35)]) (fun o1 e1 => u_X2_takes _ x0 (-35) o1 e1) [15] ht35 (by decide) q1295 q1296 (va_Decl.of (h.2.2.2.2 _ q570) (h.2.2.2.2 _ q574)) ⟨by decide, by decide⟩ q570 (fun t ht => by cases List.mem_singleton.mp ht; exact q1297) q574 q137 (by omega) (by omega) (zc_sc (zc_rv_cat G _) zc_s0) (by omega) (fun z hz => by cases hz) (n := 1) (by decide +kernel) rfl rfl dX15_step_165 (fun r36 μ37 hr38 => r_k3 ?_)
            refine r_if_eq (x := r36) h hr38.r 175 dX15_step_168 rfl ?_ ?_
            · refine r_iconst h dX15_step_175 ?_
              exact r_lv [2, 0] rfl (u_X15_step_176 h hc _ x0 (μ7 0 0) (μ7 0 0) 3 (by decide))
            · refine r_iconst h dX15_step_171 ?_
              refine r_goto h 176 dX15_step_172 rfl ?_
              exact r_lv [2, 0] rfl (u_X15_step_176 h hc _ x0 (μ7 0 0) (μ7 0 0) 4 (by decide))
          · refine c_aload (x := (μ7 0 0)) h 0 dX15_step_151 rfl ?_
            refine r_iconst h dX15_step_153 ?_
            refine r_ck (fun ht39 => ?_)
            refine c_putI (x := (μ7 0 0)) (y := 2) h hc [16] 0 false (zc_lk3 hc (O := "TreePress$Step") (n := "kind") (ds := "I") (host := "TreePress") (by decide)) ht39 (by decide) (Or.inl rfl) (by decide) dX15_step_154 (fun μ40 he41 => ?_)
            refine r_goto h 197 dX15_step_157 rfl ?_
            exact r_lv [2, 0] rfl (u_X15_step_197 h hc zF _ x0 (μ7 0 0))
        · refine c_aload (x := (μ7 0 0)) h 0 dX15_step_135 rfl ?_
          refine r_iconst h dX15_step_137 ?_
          refine r_ck (fun ht42 => ?_)
          refine c_putI (x := (μ7 0 0)) (y := 0) h hc [16] 0 false (zc_lk3 hc (O := "TreePress$Step") (n := "kind") (ds := "I") (host := "TreePress") (by decide)) ht42 (by decide) (Or.inl rfl) (by decide) dX15_step_138 (fun μ43 he44 => ?_)
          exact c_vret h hc rfl dX15_step_141
      · refine c_aload (x := (μ7 0 0)) h 0 dX15_step_119 rfl ?_
        refine r_iconst h dX15_step_121 ?_
        refine r_ck (fun ht45 => ?_)
        refine c_putI (x := (μ7 0 0)) (y := 1) h hc [16] 0 false (zc_lk3 hc (O := "TreePress$Step") (n := "kind") (ds := "I") (host := "TreePress") (by decide)) ht45 (by decide) (Or.inl rfl) (by decide) dX15_step_122 (fun μ46 he47 => ?_)
        exact c_vret h hc rfl dX15_step_125
def c_X15_step_42 (μ : MEM) (x0 x1 x2 : Int) : Option zc_O := c_X15_step_47 μ x0 x1 x2 1
theorem u_X15_step_42 {C : zv_Cx zc_O} {G : zc_G} {μ0 : MEM} (h : zv_Ok C cX15_step "TreePress$PathReader") (hc : zc_C C G μ0 5 (Option.none : Option FieldType) 0 10 207 "step" []) (μ : MEM) (x0 x1 x2 : Int) (hx1 : isB x1) (hx2 : inR x2) : VV C (c_X15_step_42 μ x0 x1 x2) μ [(0, zc_rv G x0), (1, iv x1), (2, iv x2)] [] 42 := by
  have hN : ∀ i, i < 5 → i < zv_n C := fun i q => by rw [hc.2.1]; exact q
  unfold c_X15_step_42
  refine r_iconst h dX15_step_42 ?_
  refine r_goto h 47 dX15_step_43 rfl ?_
  exact r_lv [0, 1, 2] rfl (u_X15_step_47 h hc _ x0 x1 x2 1 hx1 hx2 (by decide))
def c_X15_step (μ : MEM) (a0 a1 : Int) : Option zc_O := ck (zt [15] (μ a0 (-1)) = true) (bc (c_X2_place μ a0) (fun r2 μ3 => ck (zt [15] (μ3 a0 (-1)) = true) (bc (c_X2_isAt μ3 a0 (-34)) (fun r6 μ7 => if r6 = 0 then (ck (zt [15] (μ7 a0 (-1)) = true) (bc (c_X2_isAt μ7 a0 (-35)) (fun r10 μ11 => if r10 = 0 then (ck (zt [15] (μ11 a0 (-1)) = true) (bc (c_X2_here μ11 a0) (fun r14 μ15 => if r14 = 42 then (c_X15_step_42 μ15 a0 a1 r2) else (ck (zt [15] (μ15 a0 (-1)) = true) (bc (c_X2_here μ15 a0) (fun r18 μ19 => bc (c_X0_isFirst μ19 r18) (fun r21 μ22 => if r21 = 0 then (c_X15_step_47 μ22 a0 a1 r2 0) else (c_X15_step_42 μ22 a0 a1 r2)))))))) else (c_X15_step_42 μ11 a0 a1 r2)))) else (c_X15_step_42 μ7 a0 a1 r2)))))
theorem u_X15_step {G : zc_G} (μ : MEM) (a0 a1 : Int) (ha1 : isB a1) (o : zc_O) (hd : c_X15_step μ a0 a1 = some o) : zc_Met G yX15_step cX15_step 5 (Option.none : Option FieldType) 0 10 207 μ [zc_rv G a0, iv a1] o := by
  refine zc_intro hd (by decide) (by simp [lg_sl, zc_rv_cat, iv_cat, jv_cat]) (lv := [(0, zc_rv G a0), (1, iv a1)]) (by simp [lv_args, zc_rv_cat, iv_cat, jv_cat]) (fun C h hc => ?_)
  have h : zv_Ok C cX15_step "TreePress$PathReader" := h
  have hc : zc_C C G μ 5 (Option.none : Option FieldType) 0 10 207 "step" [] := hc
  have hN : ∀ i, i < 5 → i < zv_n C := fun i q => by rw [hc.2.1]; exact q
  unfold c_X15_step
  refine c_aload_n (x := a0) h 0 dX15_step_0 rfl rfl ?_
  refine r_ck (fun ht1 => ?_)
  refine c_callU (x := a0) (xm := ⟨"TreePress$PathReader", "place", "()I"⟩) (owner := "TreePress$Reader") h hc (As := []) (fun o1 e1 => u_X2_place _ a0 o1 e1) [15] ht1 (by decide) q1258 q1259 (va_Decl.of (h.2.2.2.2 _ q487) (h.2.2.2.2 _ q488)) ⟨by decide, by decide⟩ q487 (fun t ht => by cases List.mem_singleton.mp ht; exact q1260) q488 q137 (by omega) (by omega) zc_s0 (by omega) (fun z hz => by cases hz) (n := 0) (by decide +kernel) rfl rfl dX15_step_1 (fun r2 μ3 hr4 => r_k1 ?_)
  refine r_istore_n (i := 2) (lv' := [(2, iv r2), (0, zc_rv G a0), (1, iv a1)]) h dX15_step_4 rfl (hN _ (by decide)) rfl ?_
  refine c_aload_n (x := a0) h 1 dX15_step_5 rfl rfl ?_
  refine c_ldcs (tx := ".") h hc 34 (by decide) (-34) rfl (by decide) dX15_step_6 ?_
  refine r_ck (fun ht5 => ?_)
  refine c_callU (x := a0) (xm := ⟨"TreePress$PathReader", "isAt", "(Ljava/lang/String;)Z"⟩) (owner := "TreePress$Reader") h hc (As := [zc_rv G (-34)]) (fun o1 e1 => u_X2_isAt _ a0 (-34) o1 e1) [15] ht5 (by decide) q1247 q1248 (va_Decl.of (h.2.2.2.2 _ q509) (h.2.2.2.2 _ q510)) ⟨by decide, by decide⟩ q509 (fun t ht => by cases List.mem_singleton.mp ht; exact q1249) q510 q137 (by omega) (by omega) zc_s0 (by omega) (fun z hz => by cases hz) (n := 1) (by decide +kernel) rfl rfl dX15_step_8 (fun r6 μ7 hr8 => r_k3 ?_)
  refine r_if_ne (x := r6) h hr8.r 42 dX15_step_11 rfl ?_ ?_
  · refine c_aload_n (x := a0) h 1 dX15_step_14 rfl rfl ?_
    refine c_ldcs (tx := "@") h hc 35 (by decide) (-35) rfl (by decide) dX15_step_15 ?_
    refine r_ck (fun ht9 => ?_)
    refine c_callU (x := a0) (xm := ⟨"TreePress$PathReader", "isAt", "(Ljava/lang/String;)Z"⟩) (owner := "TreePress$Reader") h hc (As := [zc_rv G (-35)]) (fun o1 e1 => u_X2_isAt _ a0 (-35) o1 e1) [15] ht9 (by decide) q1247 q1248 (va_Decl.of (h.2.2.2.2 _ q509) (h.2.2.2.2 _ q510)) ⟨by decide, by decide⟩ q509 (fun t ht => by cases List.mem_singleton.mp ht; exact q1249) q510 q137 (by omega) (by omega) zc_s0 (by omega) (fun z hz => by cases hz) (n := 1) (by decide +kernel) rfl rfl dX15_step_17 (fun r10 μ11 hr12 => r_k3 ?_)
    refine r_if_ne (x := r10) h hr12.r 42 dX15_step_20 rfl ?_ ?_
    · refine c_aload_n (x := a0) h 1 dX15_step_23 rfl rfl ?_
      refine r_ck (fun ht13 => ?_)
      refine c_callU (x := a0) (xm := ⟨"TreePress$PathReader", "here", "()I"⟩) (owner := "TreePress$Reader") h hc (As := []) (fun o1 e1 => u_X2_here _ a0 o1 e1) [15] ht13 (by decide) q1243 q1244 (va_Decl.of (h.2.2.2.2 _ q493) (h.2.2.2.2 _ q494)) ⟨by decide, by decide⟩ q493 (fun t ht => by cases List.mem_singleton.mp ht; exact q1245) q494 q137 (by omega) (by omega) zc_s0 (by omega) (fun z hz => by cases hz) (n := 0) (by decide +kernel) rfl rfl dX15_step_24 (fun r14 μ15 hr16 => r_k1 ?_)
      refine r_bipush h dX15_step_27 (by decide) ?_
      refine r_icmp_eq (x := r14) (y := 42) h hr16 (by decide) 42 dX15_step_29 rfl ?_ ?_
      · exact r_lv [1, 2, 0] rfl (u_X15_step_42 h hc _ a0 a1 r2 ha1 hr4)
      · refine c_aload_n (x := a0) h 1 dX15_step_32 rfl rfl ?_
        refine r_ck (fun ht17 => ?_)
        refine c_callU (x := a0) (xm := ⟨"TreePress$PathReader", "here", "()I"⟩) (owner := "TreePress$Reader") h hc (As := []) (fun o1 e1 => u_X2_here _ a0 o1 e1) [15] ht17 (by decide) q1243 q1244 (va_Decl.of (h.2.2.2.2 _ q493) (h.2.2.2.2 _ q494)) ⟨by decide, by decide⟩ q493 (fun t ht => by cases List.mem_singleton.mp ht; exact q1245) q494 q137 (by omega) (by omega) zc_s0 (by omega) (fun z hz => by cases hz) (n := 0) (by decide +kernel) rfl rfl dX15_step_33 (fun r18 μ19 hr20 => r_k1 ?_)
        refine c_callSN h hc (As := [iv r18]) (fun o1 e1 => u_X0_isFirst _ r18 hr20 o1 e1) (host := "TreePress") (by decide) q670 q671 q132 (by omega) (by omega) zc_s0 (by omega) (fun z hz => by cases hz) ⟨by decide, by decide⟩ (n := 1) (by decide +kernel) rfl rfl dX15_step_36 (fun r21 μ22 hr23 => r_k3 ?_)
        refine r_if_eq (x := r21) h hr23.r 46 dX15_step_39 rfl ?_ ?_
        · refine r_iconst h dX15_step_46 ?_
          exact r_lv [1, 2, 0] rfl (u_X15_step_47 h hc _ a0 a1 r2 0 ha1 hr4 (by decide))
        · exact r_lv [1, 2, 0] rfl (u_X15_step_42 h hc _ a0 a1 r2 ha1 hr4)
    · exact r_lv [1, 2, 0] rfl (u_X15_step_42 h hc _ a0 a1 r2 ha1 hr4)
  · exact r_lv [1, 2, 0] rfl (u_X15_step_42 h hc _ a0 a1 r2 ha1 hr4)
