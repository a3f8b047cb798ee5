set_option maxRecDepth 100000
set_option maxHeartbeats 1000000
/-! methods of the class side: decode rows, denotations c_.., walks u_.. (written by wip/gen/cmain.py) -/
theorem dX0_feeds_0 : decode cX0_feeds 0 = .ok (.bipush 24, 2) := by decide +kernel
theorem dX0_feeds_2 : decode cX0_feeds 2 = .ok (.istore_n 2, 1) := by decide +kernel
theorem dX0_feeds_3 : decode cX0_feeds 3 = .ok (.iload_n 2, 1) := by decide +kernel
theorem dX0_feeds_4 : decode cX0_feeds 4 = .ok (.ifCond .lt 32, 3) := by decide +kernel
theorem dX0_feeds_7 : decode cX0_feeds 7 = .ok (.aload_n 0, 1) := by decide +kernel
theorem dX0_feeds_8 : decode cX0_feeds 8 = .ok (.getfield 19, 3) := by decide +kernel
theorem dX0_feeds_11 : decode cX0_feeds 11 = .ok (.aload_n 0, 1) := by decide +kernel
theorem dX0_feeds_12 : decode cX0_feeds 12 = .ok (.getfield 59, 3) := by decide +kernel
theorem dX0_feeds_15 : decode cX0_feeds 15 = .ok (.iload_n 1, 1) := by decide +kernel
theorem dX0_feeds_16 : decode cX0_feeds 16 = .ok (.iload_n 2, 1) := by decide +kernel
theorem dX0_feeds_17 : decode cX0_feeds 17 = .ok (.ishr, 1) := by decide +kernel
theorem dX0_feeds_18 : decode cX0_feeds 18 = .ok (.i2b, 1) := by decide +kernel
theorem dX0_feeds_19 : decode cX0_feeds 19 = .ok (.bastore, 1) := by decide +kernel
theorem dX0_feeds_20 : decode cX0_feeds 20 = .ok (.aload_n 0, 1) := by decide +kernel
theorem dX0_feeds_21 : decode cX0_feeds 21 = .ok (.dup, 1) := by decide +kernel
theorem dX0_feeds_22 : decode cX0_feeds 22 = .ok (.getfield 59, 3) := by decide +kernel
theorem dX0_feeds_25 : decode cX0_feeds 25 = .ok (.iconst 1, 1) := by decide +kernel
theorem dX0_feeds_26 : decode cX0_feeds 26 = .ok (.iadd, 1) := by decide +kernel
theorem dX0_feeds_27 : decode cX0_feeds 27 = .ok (.putfield 59, 3) := by decide +kernel
theorem dX0_feeds_30 : decode cX0_feeds 30 = .ok (.iinc 2 (-8), 3) := by decide +kernel
theorem dX0_feeds_33 : decode cX0_feeds 33 = .ok (.goto (-30), 3) := by decide +kernel
theorem dX0_feeds_36 : decode cX0_feeds 36 = .ok (.return_, 1) := by decide +kernel
def c_X0_feeds_3 : Nat → MEM → Int → Int → Int → Option zc_O
  | 0, _, _, _, _ => none
  | n + 1, μ, x0, x1, x2 => if x2 < 0 then (some (0, 0, μ)) else (ck (zt [1] (μ x0 (-1)) = true) (ck (zt [31] (μ (μ x0 0) (-1)) = true) (ck ((0 : Int) ≤ (μ x0 1) ∧ (μ x0 1) < μ (μ x0 0) (-2)) (nu (mup μ (μ x0 0) (μ x0 1) (i_b (i_shr x1 x2))) (fun μ4 => ck (inR ((μ4 x0 1) + 1)) (nu (mup μ4 x0 1 ((μ4 x0 1) + 1)) (fun μ9 => ck (inR (x2 + (-8))) (c_X0_feeds_3 n μ9 x0 x1 (x2 + (-8))))))))))
theorem u_X0_feeds_3 {C : zv_Cx zc_O} {G : zc_G} {μ0 : MEM} (h : zv_Ok C cX0_feeds "TreePress") (hc : zc_C C G μ0 3 (Option.none : Option FieldType) 0 0 0 "feeds" []) : ∀ (n : Nat) (μ : MEM) (x0 x1 x2 : Int), inR x1 → inR x2 → VV C (c_X0_feeds_3 n μ x0 x1 x2) μ [(0, zc_rv G x0), (1, iv x1), (2, iv x2)] [] 3 := by
  have hN : ∀ i, i < 3 → i < zv_n C := fun i q => by rw [hc.2.1]; exact q
  intro n
  induction n with
  | zero => intros; exact r_none
  | succ n ih =>
    intro μ x0 x1 x2 hx1 hx2
    rw [c_X0_feeds_3]
    refine r_iload_n h 2 dX0_feeds_3 rfl rfl ?_
    refine r_if_lt (x := x2) h hx2 36 dX0_feeds_4 rfl ?_ ?_
    · exact c_vret h hc rfl dX0_feeds_36
    · refine c_aload_n (x := x0) h 0 dX0_feeds_7 rfl rfl ?_
      refine r_ck (fun ht1 => ?_)
      refine c_getR (fin := true) h hc [1] 0 (zc_lk1 h q205) ht1 (by decide) dX0_feeds_8 ?_
      refine c_aload_n (x := x0) h 0 dX0_feeds_11 rfl rfl ?_
      refine c_getI (fin := false) h hc [1] 1 (zc_lk1 h q206) ht1 (by decide) dX0_feeds_12 (fun hr2 => ?_)
      refine r_iload_n h 1 dX0_feeds_15 rfl rfl ?_
      refine r_iload_n h 2 dX0_feeds_16 rfl rfl ?_
      refine r_ishr h dX0_feeds_17 ?_
      refine r_i2b h dX0_feeds_18 ?_
      refine r_ck (fun ht3 => ?_)
      refine c_stB (x := (μ x0 0)) (y := (μ x0 1)) (z := (i_b (i_shr x1 x2))) h hc ht3 (i_b_y _) dX0_feeds_19 (fun hb6 μ4 he5 => ?_)
      refine c_aload_n (x := x0) h 0 dX0_feeds_20 rfl rfl ?_
      refine r_dup h dX0_feeds_21 (zc_rv_cat G _) ?_
      refine c_getI (fin := false) h hc [1] 1 (zc_lk1 h q206) (zt_mup he5 hb6.1 ht1) (by decide) dX0_feeds_22 (fun hr7 => ?_)
      refine r_iconst h dX0_feeds_25 ?_
      refine r_iadd h dX0_feeds_26 ?_
      refine r_ck (fun hk8 => ?_)
      refine c_putI (x := x0) (y := ((μ4 x0 1) + 1)) h hc [1] 1 false (zc_lk1 h q206) (zt_mup he5 hb6.1 ht1) (by decide) (Or.inl rfl) hk8 dX0_feeds_27 (fun μ9 he10 => ?_)
      refine r_iinc (lv' := [(2, iv (x2 + (-8))), (0, zc_rv G x0), (1, iv x1)]) h 2 dX0_feeds_30 rfl (hN _ (by decide)) rfl ?_
      refine r_goto h 3 dX0_feeds_33 rfl ?_
      refine r_ck (fun hk11 => ?_)
      exact r_lv [1, 2, 0] rfl (ih _ x0 x1 (x2 + (-8)) hx1 hk11)
def c_X0_feeds (μ : MEM) (a0 a1 : Int) : Option zc_O := c_X0_feeds_3 zF μ a0 a1 24
theorem u_X0_feeds {G : zc_G} (μ : MEM) (a0 a1 : Int) (ha1 : inR a1) (o : zc_O) (hd : c_X0_feeds μ a0 a1 = some o) : zc_Met G yX0_feeds cX0_feeds 3 (Option.none : Option FieldType) 0 0 0 μ [zc_rv G a0, iv a1] o := by
  refine zc_intro hd (by decide) (by simp [lg_sl, zc_rv_cat, iv_cat, jv_cat]) (lv := [(0, zc_rv G a0), (1, iv a1)]) (by simp [lv_args, zc_rv_cat, iv_cat, jv_cat]) (fun C h hc => ?_)
  have h : zv_Ok C cX0_feeds "TreePress" := h
  have hc : zc_C C G μ 3 (Option.none : Option FieldType) 0 0 0 "feeds" [] := hc
  have hN : ∀ i, i < 3 → i < zv_n C := fun i q => by rw [hc.2.1]; exact q
  unfold c_X0_feeds
  refine r_bipush h dX0_feeds_0 (by decide) ?_
  refine r_istore_n (i := 2) (lv' := [(2, iv 24), (0, zc_rv G a0), (1, iv a1)]) h dX0_feeds_2 rfl (hN _ (by decide)) rfl ?_
  exact r_lv [1, 2, 0] rfl (u_X0_feeds_3 h hc zF _ a0 a1 24 ha1 (by decide))
theorem dX0_feed_0 : decode cX0_feed 0 = .ok (.aload_n 0, 1) := by decide +kernel
theorem dX0_feed_1 : decode cX0_feed 1 = .ok (.getfield 59, 3) := by decide +kernel
theorem dX0_feed_4 : decode cX0_feed 4 = .ok (.bipush 20, 2) := by decide +kernel
theorem dX0_feed_6 : decode cX0_feed 6 = .ok (.iadd, 1) := by decide +kernel
theorem dX0_feed_7 : decode cX0_feed 7 = .ok (.sipush 6000, 3) := by decide +kernel
theorem dX0_feed_10 : decode cX0_feed 10 = .ok (.if_icmp .le 5, 3) := by decide +kernel
theorem dX0_feed_13 : decode cX0_feed 13 = .ok (.iconst (-1), 1) := by decide +kernel
theorem dX0_feed_14 : decode cX0_feed 14 = .ok (.ireturn, 1) := by decide +kernel
theorem dX0_feed_15 : decode cX0_feed 15 = .ok (.aload_n 0, 1) := by decide +kernel
theorem dX0_feed_16 : decode cX0_feed 16 = .ok (.iload_n 1, 1) := by decide +kernel
theorem dX0_feed_17 : decode cX0_feed 17 = .ok (.invokevirtual 62, 3) := by decide +kernel
theorem dX0_feed_20 : decode cX0_feed 20 = .ok (.aload_n 0, 1) := by decide +kernel
theorem dX0_feed_21 : decode cX0_feed 21 = .ok (.iload_n 2, 1) := by decide +kernel
theorem dX0_feed_22 : decode cX0_feed 22 = .ok (.invokevirtual 62, 3) := by decide +kernel
theorem dX0_feed_25 : decode cX0_feed 25 = .ok (.aload_n 0, 1) := by decide +kernel
theorem dX0_feed_26 : decode cX0_feed 26 = .ok (.iload_n 3, 1) := by decide +kernel
theorem dX0_feed_27 : decode cX0_feed 27 = .ok (.invokevirtual 62, 3) := by decide +kernel
theorem dX0_feed_30 : decode cX0_feed 30 = .ok (.aload_n 0, 1) := by decide +kernel
theorem dX0_feed_31 : decode cX0_feed 31 = .ok (.iload 4, 2) := by decide +kernel
theorem dX0_feed_33 : decode cX0_feed 33 = .ok (.invokevirtual 62, 3) := by decide +kernel
theorem dX0_feed_36 : decode cX0_feed 36 = .ok (.aload_n 0, 1) := by decide +kernel
theorem dX0_feed_37 : decode cX0_feed 37 = .ok (.iload 5, 2) := by decide +kernel
theorem dX0_feed_39 : decode cX0_feed 39 = .ok (.invokevirtual 62, 3) := by decide +kernel
theorem dX0_feed_42 : decode cX0_feed 42 = .ok (.aload_n 0, 1) := by decide +kernel
theorem dX0_feed_43 : decode cX0_feed 43 = .ok (.getfield 59, 3) := by decide +kernel
theorem dX0_feed_46 : decode cX0_feed 46 = .ok (.ireturn, 1) := by decide +kernel
def c_X0_feed (μ : MEM) (a0 a1 a2 a3 a4 a5 : Int) : Option zc_O := ck (zt [1] (μ a0 (-1)) = true) (ck (inR ((μ a0 1) + 20)) (if ((μ a0 1) + 20) ≤ 6000 then (bc (c_X0_feeds μ a0 a1) (fun _ μ4 => ck (zt [1] (μ4 a0 (-1)) = true) (bc (c_X0_feeds μ4 a0 a2) (fun _ μ6 => ck (zt [1] (μ6 a0 (-1)) = true) (bc (c_X0_feeds μ6 a0 a3) (fun _ μ8 => ck (zt [1] (μ8 a0 (-1)) = true) (bc (c_X0_feeds μ8 a0 a4) (fun _ μ10 => ck (zt [1] (μ10 a0 (-1)) = true) (bc (c_X0_feeds μ10 a0 a5) (fun _ μ12 => ck (zt [1] (μ12 a0 (-1)) = true) (some (0, (μ12 a0 1), μ12)))))))))))) else (some (0, (-1), μ))))
theorem u_X0_feed {G : zc_G} (μ : MEM) (a0 a1 a2 a3 a4 a5 : Int) (ha1 : inR a1) (ha2 : inR a2) (ha3 : inR a3) (ha4 : inR a4) (ha5 : inR a5) (o : zc_O) (hd : c_X0_feed μ a0 a1 a2 a3 a4 a5 = some o) : zc_Met G yX0_feed cX0_feed 6 (Option.some FieldType.int) 1 1 22 μ [zc_rv G a0, iv a1, iv a2, iv a3, iv a4, iv a5] o := by
  refine zc_intro hd (by decide) (by simp [lg_sl, zc_rv_cat, iv_cat, jv_cat]) (lv := [(0, zc_rv G a0), (1, iv a1), (2, iv a2), (3, iv a3), (4, iv a4), (5, iv a5)]) (by simp [lv_args, zc_rv_cat, iv_cat, jv_cat]) (fun C h hc => ?_)
  have h : zv_Ok C cX0_feed "TreePress" := h
  have hc : zc_C C G μ 6 (Option.some FieldType.int) 1 1 22 "feed" [] := hc
  have hN : ∀ i, i < 6 → i < zv_n C := fun i q => by rw [hc.2.1]; exact q
  unfold c_X0_feed
  refine c_aload_n (x := a0) h 0 dX0_feed_0 rfl rfl ?_
  refine r_ck (fun ht1 => ?_)
  refine c_getI (fin := false) h hc [1] 1 (zc_lk1 h q206) ht1 (by decide) dX0_feed_1 (fun hr2 => ?_)
  refine r_bipush h dX0_feed_4 (by decide) ?_
  refine r_iadd h dX0_feed_6 ?_
  refine r_sipush h dX0_feed_7 (by decide) ?_
  refine r_ck (fun hk3 => ?_)
  refine r_icmp_le (x := ((μ a0 1) + 20)) (y := 6000) h hk3 (by decide) 15 dX0_feed_10 rfl ?_ ?_
  · refine c_aload_n (x := a0) h 0 dX0_feed_15 rfl rfl ?_
    refine r_iload_n h 1 dX0_feed_16 rfl rfl ?_
    refine c_callV (x := a0) h hc (As := [iv a1]) (fun o1 e1 => u_X0_feeds _ a0 a1 ha1 o1 e1) [1] ht1 (by decide) q264 q266 (fun t ht => by cases List.mem_singleton.mp ht; exact qs0) q267 q132 (by omega) (by omega) zc_s0 (by omega) (fun z hz => by cases hz) ⟨by decide, by decide⟩ (n := 1) (by decide +kernel) rfl rfl dX0_feed_17 (fun _ μ4 _ => r_k0 ?_)
    refine c_aload_n (x := a0) h 0 dX0_feed_20 rfl rfl ?_
    refine r_iload_n h 2 dX0_feed_21 rfl rfl ?_
    refine r_ck (fun ht5 => ?_)
    refine c_callV (x := a0) h hc (As := [iv a2]) (fun o1 e1 => u_X0_feeds _ a0 a2 ha2 o1 e1) [1] ht5 (by decide) q264 q266 (fun t ht => by cases List.mem_singleton.mp ht; exact qs0) q267 q132 (by omega) (by omega) zc_s0 (by omega) (fun z hz => by cases hz) ⟨by decide, by decide⟩ (n := 1) (by decide +kernel) rfl rfl dX0_feed_22 (fun _ μ6 _ => r_k0 ?_)
    refine c_aload_n (x := a0) h 0 dX0_feed_25 rfl rfl ?_
    refine r_iload_n h 3 dX0_feed_26 rfl rfl ?_
    refine r_ck (fun ht7 => ?_)
    refine c_callV (x := a0) h hc (As := [iv a3]) (fun o1 e1 => u_X0_feeds _ a0 a3 ha3 o1 e1) [1] ht7 (by decide) q264 q266 (fun t ht => by cases List.mem_singleton.mp ht; exact qs0) q267 q132 (by omega) (by omega) zc_s0 (by omega) (fun z hz => by cases hz) ⟨by decide, by decide⟩ (n := 1) (by decide +kernel) rfl rfl dX0_feed_27 (fun _ μ8 _ => r_k0 ?_)
    refine c_aload_n (x := a0) h 0 dX0_feed_30 rfl rfl ?_
    refine r_iload h 4 dX0_feed_31 rfl ?_
    refine r_ck (fun ht9 => ?_)
    refine c_callV (x := a0) h hc (As := [iv a4]) (fun o1 e1 => u_X0_feeds _ a0 a4 ha4 o1 e1) [1] ht9 (by decide) q264 q266 (fun t ht => by cases List.mem_singleton.mp ht; exact qs0) q267 q132 (by omega) (by omega) zc_s0 (by omega) (fun z hz => by cases hz) ⟨by decide, by decide⟩ (n := 1) (by decide +kernel) rfl rfl dX0_feed_33 (fun _ μ10 _ => r_k0 ?_)
    refine c_aload_n (x := a0) h 0 dX0_feed_36 rfl rfl ?_
    refine r_iload h 5 dX0_feed_37 rfl ?_
    refine r_ck (fun ht11 => ?_)
    refine c_callV (x := a0) h hc (As := [iv a5]) (fun o1 e1 => u_X0_feeds _ a0 a5 ha5 o1 e1) [1] ht11 (by decide) q264 q266 (fun t ht => by cases List.mem_singleton.mp ht; exact qs0) q267 q132 (by omega) (by omega) zc_s0 (by omega) (fun z hz => by cases hz) ⟨by decide, by decide⟩ (n := 1) (by decide +kernel) rfl rfl dX0_feed_39 (fun _ μ12 _ => r_k0 ?_)
    refine c_aload_n (x := a0) h 0 dX0_feed_42 rfl rfl ?_
    refine r_ck (fun ht13 => ?_)
    refine c_getI (fin := false) h hc [1] 1 (zc_lk1 h q206) ht13 (by decide) dX0_feed_43 (fun hr14 => ?_)
    exact c_iret h hc rfl hr14 dX0_feed_46
  · refine r_iconst h dX0_feed_13 ?_
    exact c_iret h hc rfl (by decide) dX0_feed_14
theorem dX0_isName_0 : decode cX0_isName 0 = .ok (.aload_n 0, 1) := by decide +kernel
theorem dX0_isName_1 : decode cX0_isName 1 = .ok (.arraylength, 1) := by decide +kernel
theorem dX0_isName_2 : decode cX0_isName 2 = .ok (.ifCond .le 23, 3) := by decide +kernel
theorem dX0_isName_5 : decode cX0_isName 5 = .ok (.aload_n 0, 1) := by decide +kernel
theorem dX0_isName_6 : decode cX0_isName 6 = .ok (.arraylength, 1) := by decide +kernel
theorem dX0_isName_7 : decode cX0_isName 7 = .ok (.bipush 20, 2) := by decide +kernel
theorem dX0_isName_9 : decode cX0_isName 9 = .ok (.if_icmp .gt 16, 3) := by decide +kernel
theorem dX0_isName_12 : decode cX0_isName 12 = .ok (.aload_n 0, 1) := by decide +kernel
theorem dX0_isName_13 : decode cX0_isName 13 = .ok (.iconst 0, 1) := by decide +kernel
theorem dX0_isName_14 : decode cX0_isName 14 = .ok (.baload, 1) := by decide +kernel
theorem dX0_isName_15 : decode cX0_isName 15 = .ok (.invokestatic 7, 3) := by decide +kernel
theorem dX0_isName_18 : decode cX0_isName 18 = .ok (.ifCond .eq 7, 3) := by decide +kernel
theorem dX0_isName_21 : decode cX0_isName 21 = .ok (.iconst 1, 1) := by decide +kernel
theorem dX0_isName_22 : decode cX0_isName 22 = .ok (.goto 4, 3) := by decide +kernel
theorem dX0_isName_25 : decode cX0_isName 25 = .ok (.iconst 0, 1) := by decide +kernel
theorem dX0_isName_26 : decode cX0_isName 26 = .ok (.istore_n 1, 1) := by decide +kernel
theorem dX0_isName_27 : decode cX0_isName 27 = .ok (.iconst 1, 1) := by decide +kernel
theorem dX0_isName_28 : decode cX0_isName 28 = .ok (.istore_n 2, 1) := by decide +kernel
theorem dX0_isName_29 : decode cX0_isName 29 = .ok (.iload_n 2, 1) := by decide +kernel
theorem dX0_isName_30 : decode cX0_isName 30 = .ok (.aload_n 0, 1) := by decide +kernel
theorem dX0_isName_31 : decode cX0_isName 31 = .ok (.arraylength, 1) := by decide +kernel
theorem dX0_isName_32 : decode cX0_isName 32 = .ok (.if_icmp .ge 20, 3) := by decide +kernel
theorem dX0_isName_35 : decode cX0_isName 35 = .ok (.iload_n 1, 1) := by decide +kernel
theorem dX0_isName_36 : decode cX0_isName 36 = .ok (.ifCond .eq 16, 3) := by decide +kernel
theorem dX0_isName_39 : decode cX0_isName 39 = .ok (.aload_n 0, 1) := by decide +kernel
theorem dX0_isName_40 : decode cX0_isName 40 = .ok (.iload_n 2, 1) := by decide +kernel
theorem dX0_isName_41 : decode cX0_isName 41 = .ok (.baload, 1) := by decide +kernel
theorem dX0_isName_42 : decode cX0_isName 42 = .ok (.invokestatic 10, 3) := by decide +kernel
theorem dX0_isName_45 : decode cX0_isName 45 = .ok (.istore_n 1, 1) := by decide +kernel
theorem dX0_isName_46 : decode cX0_isName 46 = .ok (.iinc 2 1, 3) := by decide +kernel
theorem dX0_isName_49 : decode cX0_isName 49 = .ok (.goto (-20), 3) := by decide +kernel
theorem dX0_isName_52 : decode cX0_isName 52 = .ok (.iload_n 1, 1) := by decide +kernel
theorem dX0_isName_53 : decode cX0_isName 53 = .ok (.ireturn, 1) := by decide +kernel
def c_X0_isName_29 : Nat → MEM → Int → Int → Int → Option zc_O
  | 0, _, _, _, _ => none
  | n + 1, μ, x0, x1, x2 => ck (zt [30, 31] (μ x0 (-1)) = true) (if (μ x0 (-2)) ≤ x2 then (some (0, x1, μ)) else (if x1 = 0 then (some (0, x1, μ)) else (ck ((0 : Int) ≤ x2 ∧ x2 < μ x0 (-2)) (bc (c_X0_isToken μ (μ x0 x2)) (fun r4 μ5 => ck (inR (x2 + 1)) (c_X0_isName_29 n μ5 x0 r4 (x2 + 1)))))))
theorem u_X0_isName_29 {C : zv_Cx zc_O} {G : zc_G} {μ0 : MEM} (h : zv_Ok C cX0_isName "TreePress") (hc : zc_C C G μ0 3 (Option.some FieldType.boolean) 3 2 40 "isName" []) : ∀ (n : Nat) (μ : MEM) (x0 x1 x2 : Int), isB x1 → inR x2 → VV C (c_X0_isName_29 n μ x0 x1 x2) μ [(0, zc_rv G x0), (1, iv x1), (2, iv x2)] [] 29 := by
  have hN : ∀ i, i < 3 → i < zv_n C := fun i q => by rw [hc.2.1]; exact q
  intro n
  induction n with
  | zero => intros; exact r_none
  | succ n ih =>
    intro μ x0 x1 x2 hx1 hx2
    rw [c_X0_isName_29]
    refine r_iload_n h 2 dX0_isName_29 rfl rfl ?_
    refine c_aload_n (x := x0) h 0 dX0_isName_30 rfl rfl ?_
    refine r_ck (fun ht1 => ?_)
    refine c_alen h hc [30, 31] ht1 (by decide) dX0_isName_31 (fun hr2 => ?_)
    refine r_icmp_ge (x := x2) (y := (μ x0 (-2))) h hx2 hr2 52 dX0_isName_32 rfl ?_ ?_
    · refine r_iload_n h 1 dX0_isName_52 rfl rfl ?_
      exact c_zret h hc rfl hx1 dX0_isName_53
    · refine r_iload_n h 1 dX0_isName_35 rfl rfl ?_
      refine r_if_eq (x := x1) h hx1.r 52 dX0_isName_36 rfl ?_ ?_
      · refine r_iload_n h 1 dX0_isName_52 rfl rfl ?_
        exact c_zret h hc rfl hx1 dX0_isName_53
      · refine c_aload_n (x := x0) h 0 dX0_isName_39 rfl rfl ?_
        refine r_iload_n h 2 dX0_isName_40 rfl rfl ?_
        refine c_ldB h hc ht1 dX0_isName_41 (fun _ hr3 => ?_)
        refine c_callS h hc (As := [iv (μ x0 x2)]) (fun o1 e1 => u_X0_isToken _ (μ x0 x2) hr3.r o1 e1) q1061 q679 q680 q132 (by omega) (by omega) zc_s0 (by omega) (fun z hz => by cases hz) ⟨by decide, by decide⟩ (n := 1) (by decide +kernel) rfl rfl dX0_isName_42 (fun r4 μ5 hr6 => r_k3 ?_)
        refine r_istore_n (i := 1) (lv' := [(1, iv r4), (0, zc_rv G x0), (2, iv x2)]) h dX0_isName_45 rfl (hN _ (by decide)) (by simp [zc_rv_cat]) ?_
        refine r_iinc (lv' := [(2, iv (x2 + 1)), (1, iv r4), (0, zc_rv G x0)]) h 2 dX0_isName_46 rfl (hN _ (by decide)) rfl ?_
        refine r_goto h 29 dX0_isName_49 rfl ?_
        refine r_ck (fun hk7 => ?_)
        exact r_lv [2, 1, 0] rfl (ih _ x0 r4 (x2 + 1) hr6 hk7)
def c_X0_isName (μ : MEM) (a0 : Int) : Option zc_O := ck (zt [30, 31] (μ a0 (-1)) = true) (if (μ a0 (-2)) ≤ 0 then (c_X0_isName_29 zF μ a0 0 1) else (if 20 < (μ a0 (-2)) then (c_X0_isName_29 zF μ a0 0 1) else (ck ((0 : Int) ≤ 0 ∧ 0 < μ a0 (-2)) (bc (c_X0_isFirst μ (μ a0 0)) (fun r5 μ6 => if r5 = 0 then (c_X0_isName_29 zF μ6 a0 0 1) else (c_X0_isName_29 zF μ6 a0 1 1))))))
theorem u_X0_isName {G : zc_G} (μ : MEM) (a0 : Int) (o : zc_O) (hd : c_X0_isName μ a0 = some o) : zc_Met G yX0_isName cX0_isName 3 (Option.some FieldType.boolean) 3 2 40 μ [zc_rv G a0] o := by
  refine zc_intro hd (by decide) (by simp [lg_sl, zc_rv_cat, iv_cat, jv_cat]) (lv := [(0, zc_rv G a0)]) (by simp [lv_args, zc_rv_cat, iv_cat, jv_cat]) (fun C h hc => ?_)
  have h : zv_Ok C cX0_isName "TreePress" := h
  have hc : zc_C C G μ 3 (Option.some FieldType.boolean) 3 2 40 "isName" [] := hc
  have hN : ∀ i, i < 3 → i < zv_n C := fun i q => by rw [hc.2.1]; exact q
  unfold c_X0_isName
  refine c_aload_n (x := a0) h 0 dX0_isName_0 rfl rfl ?_
  refine r_ck (fun ht1 => ?_)
  refine c_alen h hc [30, 31] ht1 (by decide) dX0_isName_1 (fun hr2 => ?_)
  refine r_if_le (x := (μ a0 (-2))) h hr2 25 dX0_isName_2 rfl ?_ ?_
  · refine r_iconst h dX0_isName_25 ?_
    refine r_istore_n (i := 1) (lv' := [(1, iv 0), (0, zc_rv G a0)]) h dX0_isName_26 rfl (hN _ (by decide)) (by simp [zc_rv_cat]) ?_
    refine r_iconst h dX0_isName_27 ?_
    refine r_istore_n (i := 2) (lv' := [(2, iv 1), (1, iv 0), (0, zc_rv G a0)]) h dX0_isName_28 rfl (hN _ (by decide)) rfl ?_
    exact r_lv [2, 1, 0] rfl (u_X0_isName_29 h hc zF _ a0 0 1 (by decide) (by decide))
  · refine c_aload_n (x := a0) h 0 dX0_isName_5 rfl rfl ?_
    refine c_alen h hc [30, 31] ht1 (by decide) dX0_isName_6 (fun hr3 => ?_)
    refine r_bipush h dX0_isName_7 (by decide) ?_
    refine r_icmp_gt (x := (μ a0 (-2))) (y := 20) h hr3 (by decide) 25 dX0_isName_9 rfl ?_ ?_
    · refine r_iconst h dX0_isName_25 ?_
      refine r_istore_n (i := 1) (lv' := [(1, iv 0), (0, zc_rv G a0)]) h dX0_isName_26 rfl (hN _ (by decide)) (by simp [zc_rv_cat]) ?_
      refine r_iconst h dX0_isName_27 ?_
      refine r_istore_n (i := 2) (lv' := [(2, iv 1), (1, iv 0), (0, zc_rv G a0)]) h dX0_isName_28 rfl (hN _ (by decide)) rfl ?_
      exact r_lv [2, 1, 0] rfl (u_X0_isName_29 h hc zF _ a0 0 1 (by decide) (by decide))
    · refine c_aload_n (x := a0) h 0 dX0_isName_12 rfl rfl ?_
      refine r_iconst h dX0_isName_13 ?_
      refine c_ldB h hc ht1 dX0_isName_14 (fun _ hr4 => ?_)
      refine c_callS h hc (As := [iv (μ a0 0)]) (fun o1 e1 => u_X0_isFirst _ (μ a0 0) hr4.r o1 e1) q681 q670 q671 q132 (by omega) (by omega) zc_s0 (by omega) (fun z hz => by cases hz) ⟨by decide, by decide⟩ (n := 1) (by decide +kernel) rfl rfl dX0_isName_15 (fun r5 μ6 hr7 => r_k3 ?_)
      refine r_if_eq (x := r5) h hr7.r 25 dX0_isName_18 rfl ?_ ?_
      · refine r_iconst h dX0_isName_25 ?_
        refine r_istore_n (i := 1) (lv' := [(1, iv 0), (0, zc_rv G a0)]) h dX0_isName_26 rfl (hN _ (by decide)) (by simp [zc_rv_cat]) ?_
        refine r_iconst h dX0_isName_27 ?_
        refine r_istore_n (i := 2) (lv' := [(2, iv 1), (1, iv 0), (0, zc_rv G a0)]) h dX0_isName_28 rfl (hN _ (by decide)) rfl ?_
        exact r_lv [2, 1, 0] rfl (u_X0_isName_29 h hc zF _ a0 0 1 (by decide) (by decide))
      · refine r_iconst h dX0_isName_21 ?_
        refine r_goto h 26 dX0_isName_22 rfl ?_
        refine r_istore_n (i := 1) (lv' := [(1, iv 1), (0, zc_rv G a0)]) h dX0_isName_26 rfl (hN _ (by decide)) (by simp [zc_rv_cat]) ?_
        refine r_iconst h dX0_isName_27 ?_
        refine r_istore_n (i := 2) (lv' := [(2, iv 1), (1, iv 1), (0, zc_rv G a0)]) h dX0_isName_28 rfl (hN _ (by decide)) rfl ?_
        exact r_lv [2, 1, 0] rfl (u_X0_isName_29 h hc zF _ a0 1 1 (by decide) (by decide))
theorem dX0_place_0 : decode cX0_place 0 = .ok (.aload_n 0, 1) := by decide +kernel
theorem dX0_place_1 : decode cX0_place 1 = .ok (.getfield 23, 3) := by decide +kernel
theorem dX0_place_4 : decode cX0_place 4 = .ok (.ireturn, 1) := by decide +kernel
def c_X0_place (μ : MEM) (a0 : Int) : Option zc_O := ck (zt [1] (μ a0 (-1)) = true) (some (0, (μ a0 2), μ))
theorem u_X0_place {G : zc_G} (μ : MEM) (a0 : Int) (o : zc_O) (hd : c_X0_place μ a0 = some o) : zc_Met G yX0_place cX0_place 1 (Option.some FieldType.int) 1 0 0 μ [zc_rv G a0] o := by
  refine zc_intro hd (by decide) (by simp [lg_sl, zc_rv_cat, iv_cat, jv_cat]) (lv := [(0, zc_rv G a0)]) (by simp [lv_args, zc_rv_cat, iv_cat, jv_cat]) (fun C h hc => ?_)
  have h : zv_Ok C cX0_place "TreePress" := h
  have hc : zc_C C G μ 1 (Option.some FieldType.int) 1 0 0 "place" [] := hc
  have hN : ∀ i, i < 1 → i < zv_n C := fun i q => by rw [hc.2.1]; exact q
  unfold c_X0_place
  refine c_aload_n (x := a0) h 0 dX0_place_0 rfl rfl ?_
  refine r_ck (fun ht1 => ?_)
  refine c_getI (fin := false) h hc [1] 2 (zc_lk1 h q207) ht1 (by decide) dX0_place_1 (fun hr2 => ?_)
  exact c_iret h hc rfl hr2 dX0_place_4
theorem dX0_isIn_0 : decode cX0_isIn 0 = .ok (.iload_n 0, 1) := by decide +kernel
theorem dX0_isIn_1 : decode cX0_isIn 1 = .ok (.ifCond .lt 12, 3) := by decide +kernel
theorem dX0_isIn_4 : decode cX0_isIn 4 = .ok (.iload_n 0, 1) := by decide +kernel
theorem dX0_isIn_5 : decode cX0_isIn 5 = .ok (.iload_n 1, 1) := by decide +kernel
theorem dX0_isIn_6 : decode cX0_isIn 6 = .ok (.if_icmp .ge 7, 3) := by decide +kernel
theorem dX0_isIn_9 : decode cX0_isIn 9 = .ok (.iconst 1, 1) := by decide +kernel
theorem dX0_isIn_10 : decode cX0_isIn 10 = .ok (.goto 4, 3) := by decide +kernel
theorem dX0_isIn_13 : decode cX0_isIn 13 = .ok (.iconst 0, 1) := by decide +kernel
theorem dX0_isIn_14 : decode cX0_isIn 14 = .ok (.ireturn, 1) := by decide +kernel
def c_X0_isIn (μ : MEM) (a0 a1 : Int) : Option zc_O := if a0 < 0 then (some (0, 0, μ)) else (if a1 ≤ a0 then (some (0, 0, μ)) else (some (0, 1, μ)))
theorem u_X0_isIn {G : zc_G} (μ : MEM) (a0 a1 : Int) (ha0 : inR a0) (ha1 : inR a1) (o : zc_O) (hd : c_X0_isIn μ a0 a1 = some o) : zc_Met G yX0_isIn cX0_isIn 2 (Option.some FieldType.boolean) 3 0 0 μ [iv a0, iv a1] o := by
  refine zc_intro hd (by decide) (Nat.le_of_ble_eq_true rfl) rfl (fun C h hc => ?_)
  have h : zv_Ok C cX0_isIn "TreePress" := h
  have hc : zc_C C G μ 2 (Option.some FieldType.boolean) 3 0 0 "isIn" [] := hc
  have hN : ∀ i, i < 2 → i < zv_n C := fun i q => by rw [hc.2.1]; exact q
  unfold c_X0_isIn
  refine r_iload_n h 0 dX0_isIn_0 rfl rfl ?_
  refine r_if_lt (x := a0) h ha0 13 dX0_isIn_1 rfl ?_ ?_
  · refine r_iconst h dX0_isIn_13 ?_
    exact c_zret h hc rfl (by decide) dX0_isIn_14
  · refine r_iload_n h 0 dX0_isIn_4 rfl rfl ?_
    refine r_iload_n h 1 dX0_isIn_5 rfl rfl ?_
    refine r_icmp_ge (x := a0) (y := a1) h ha0 ha1 13 dX0_isIn_6 rfl ?_ ?_
    · refine r_iconst h dX0_isIn_13 ?_
      exact c_zret h hc rfl (by decide) dX0_isIn_14
    · refine r_iconst h dX0_isIn_9 ?_
      refine r_goto h 14 dX0_isIn_10 rfl ?_
      exact c_zret h hc rfl (by decide) dX0_isIn_14
theorem dX0_nodeOf_0 : decode cX0_nodeOf 0 = .ok (.aload_n 0, 1) := by decide +kernel
theorem dX0_nodeOf_1 : decode cX0_nodeOf 1 = .ok (.getfield 75, 3) := by decide +kernel
theorem dX0_nodeOf_4 : decode cX0_nodeOf 4 = .ok (.ifnull 37, 3) := by decide +kernel
theorem dX0_nodeOf_7 : decode cX0_nodeOf 7 = .ok (.iload_n 1, 1) := by decide +kernel
theorem dX0_nodeOf_8 : decode cX0_nodeOf 8 = .ok (.aload_n 0, 1) := by decide +kernel
theorem dX0_nodeOf_9 : decode cX0_nodeOf 9 = .ok (.getfield 75, 3) := by decide +kernel
theorem dX0_nodeOf_12 : decode cX0_nodeOf 12 = .ok (.getfield 85, 3) := by decide +kernel
theorem dX0_nodeOf_15 : decode cX0_nodeOf 15 = .ok (.invokevirtual 90, 3) := by decide +kernel
theorem dX0_nodeOf_18 : decode cX0_nodeOf 18 = .ok (.invokestatic 99, 3) := by decide +kernel
theorem dX0_nodeOf_21 : decode cX0_nodeOf 21 = .ok (.ifCond .eq 20, 3) := by decide +kernel
theorem dX0_nodeOf_24 : decode cX0_nodeOf 24 = .ok (.aload_n 0, 1) := by decide +kernel
theorem dX0_nodeOf_25 : decode cX0_nodeOf 25 = .ok (.getfield 75, 3) := by decide +kernel
theorem dX0_nodeOf_28 : decode cX0_nodeOf 28 = .ok (.getfield 85, 3) := by decide +kernel
theorem dX0_nodeOf_31 : decode cX0_nodeOf 31 = .ok (.iload_n 1, 1) := by decide +kernel
theorem dX0_nodeOf_32 : decode cX0_nodeOf 32 = .ok (.invokevirtual 103, 3) := by decide +kernel
theorem dX0_nodeOf_35 : decode cX0_nodeOf 35 = .ok (.checkcast 27, 3) := by decide +kernel
theorem dX0_nodeOf_38 : decode cX0_nodeOf 38 = .ok (.goto 4, 3) := by decide +kernel
theorem dX0_nodeOf_41 : decode cX0_nodeOf 41 = .ok (.aconst_null, 1) := by decide +kernel
theorem dX0_nodeOf_42 : decode cX0_nodeOf 42 = .ok (.areturn, 1) := by decide +kernel
def c_X0_nodeOf (μ : MEM) (a0 a1 : Int) : Option zc_O := ck (zt [1] (μ a0 (-1)) = true) (if (μ a0 3) = 0 then (some (0, 0, μ)) else (ck (zt [4] (μ (μ a0 3) (-1)) = true) (ck (zt [40] (μ (μ (μ a0 3) 1) (-1)) = true) (bc (b_lsize μ (μ (μ a0 3) 1)) (fun r4 μ5 => bc (c_X0_isIn μ5 a1 r4) (fun r7 μ8 => if r7 = 0 then (some (0, 0, μ8)) else (ck (zt [1] (μ8 a0 (-1)) = true) (ck (zt [4] (μ8 (μ8 a0 3) (-1)) = true) (ck (zt [40] (μ8 (μ8 (μ8 a0 3) 1) (-1)) = true) (bc (b_lget μ8 (μ8 (μ8 a0 3) 1) a1) (fun r13 μ14 => ck (zt [6, 11, 13, 14] (μ14 r13 (-1)) = true) (some (0, r13, μ14)))))))))))))
theorem u_X0_nodeOf {G : zc_G} (μ : MEM) (a0 a1 : Int) (ha1 : inR a1) (o : zc_O) (hd : c_X0_nodeOf μ a0 a1 = some o) : zc_Met G yX0_nodeOf cX0_nodeOf 2 (Option.some (FieldType.object "TreePress$Node")) 4 3 64 μ [zc_rv G a0, iv a1] o := by
  refine zc_intro hd (by decide) (by simp [lg_sl, zc_rv_cat, iv_cat, jv_cat]) (lv := [(0, zc_rv G a0), (1, iv a1)]) (by simp [lv_args, zc_rv_cat, iv_cat, jv_cat]) (fun C h hc => ?_)
  have h : zv_Ok C cX0_nodeOf "TreePress" := h
  have hc : zc_C C G μ 2 (Option.some (FieldType.object "TreePress$Node")) 4 3 64 "nodeOf" [] := hc
  have hN : ∀ i, i < 2 → i < zv_n C := fun i q => by rw [hc.2.1]; exact q
  unfold c_X0_nodeOf
  refine c_aload_n (x := a0) h 0 dX0_nodeOf_0 rfl rfl ?_
  refine r_ck (fun ht1 => ?_)
  refine c_getR (fin := false) h hc [1] 3 (zc_lk1 h q208) ht1 (by decide) dX0_nodeOf_1 ?_
  refine c_ifnull (x := (μ a0 3)) h 41 dX0_nodeOf_4 rfl ?_ ?_
  · refine c_null G h dX0_nodeOf_41 ?_
    exact c_aret h hc rfl (Or.inl ⟨_, rfl⟩) dX0_nodeOf_42
  · refine r_iload_n h 1 dX0_nodeOf_7 rfl rfl ?_
    refine c_aload_n (x := a0) h 0 dX0_nodeOf_8 rfl rfl ?_
    refine c_getR (fin := false) h hc [1] 3 (zc_lk1 h q208) ht1 (by decide) dX0_nodeOf_9 ?_
    refine r_ck (fun ht2 => ?_)
    refine c_getR (fin := true) h hc [4] 1 (zc_lk3 hc (O := "TreePress$Document") (n := "nodes") (ds := "Ljava/util/ArrayList;") (host := "TreePress") (by decide)) ht2 (by decide) dX0_nodeOf_12 ?_
    refine r_ck (fun ht3 => ?_)
    refine c_callV (x := (μ (μ a0 3) 1)) h hc (As := []) (fun o1 e1 => w_lsize _ (μ (μ a0 3) 1) o1 e1) [40] ht3 (by decide) q1130 q343 (fun t ht => by cases List.mem_singleton.mp ht; exact q344) q345 q135 (by omega) (by omega) (zc_sc (iv_cat _) zc_s0) (by omega) (fun z hz => by cases hz) ⟨by decide, by decide⟩ (n := 0) (by decide +kernel) rfl rfl dX0_nodeOf_15 (fun r4 μ5 hr6 => r_k1 ?_)
    refine c_callS h hc (As := [iv a1, iv r4]) (fun o1 e1 => u_X0_isIn _ a1 r4 ha1 hr6 o1 e1) q1143 q1144 q1145 q132 (by omega) (by omega) zc_s0 (by omega) (fun z hz => by cases hz) ⟨by decide, by decide⟩ (n := 2) (by decide +kernel) rfl rfl dX0_nodeOf_18 (fun r7 μ8 hr9 => r_k3 ?_)
    refine r_if_eq (x := r7) h hr9.r 41 dX0_nodeOf_21 rfl ?_ ?_
    · refine c_null G h dX0_nodeOf_41 ?_
      exact c_aret h hc rfl (Or.inl ⟨_, rfl⟩) dX0_nodeOf_42
    · refine c_aload_n (x := a0) h 0 dX0_nodeOf_24 rfl rfl ?_
      refine r_ck (fun ht10 => ?_)
      refine c_getR (fin := false) h hc [1] 3 (zc_lk1 h q208) ht10 (by decide) dX0_nodeOf_25 ?_
      refine r_ck (fun ht11 => ?_)
      refine c_getR (fin := true) h hc [4] 1 (zc_lk3 hc (O := "TreePress$Document") (n := "nodes") (ds := "Ljava/util/ArrayList;") (host := "TreePress") (by decide)) ht11 (by decide) dX0_nodeOf_28 ?_
      refine r_iload_n h 1 dX0_nodeOf_31 rfl rfl ?_
      refine r_ck (fun ht12 => ?_)
      refine c_callV (x := (μ8 (μ8 a0 3) 1)) h hc (As := [iv a1]) (fun o1 e1 => w_lget _ (μ8 (μ8 a0 3) 1) a1 ha1 o1 e1) [40] ht12 (by decide) q1146 q844 (fun t ht => by cases List.mem_singleton.mp ht; exact q845) q846 q135 (by omega) (by omega) zc_s0 (by omega) (fun z hz => by cases hz) ⟨by decide, by decide⟩ (n := 1) (by decide +kernel) rfl rfl dX0_nodeOf_32 (fun r13 μ14 hr15 => r_k4 ?_)
      refine r_ck (fun ht16 => ?_)
      refine c_cast h hc [6, 11, 13, 14] q175 ht16 (by decide) dX0_nodeOf_35 ?_
      refine r_goto h 42 dX0_nodeOf_38 rfl ?_
      exact c_aret h hc rfl (Or.inl ⟨_, rfl⟩) dX0_nodeOf_42
theorem dX0_node_0 : decode cX0_node 0 = .ok (.aload_n 0, 1) := by decide +kernel
theorem dX0_node_1 : decode cX0_node 1 = .ok (.iload_n 1, 1) := by decide +kernel
theorem dX0_node_2 : decode cX0_node 2 = .ok (.invokevirtual 107, 3) := by decide +kernel
theorem dX0_node_5 : decode cX0_node 5 = .ok (.astore_n 3, 1) := by decide +kernel
theorem dX0_node_6 : decode cX0_node 6 = .ok (.aload_n 3, 1) := by decide +kernel
theorem dX0_node_7 : decode cX0_node 7 = .ok (.ifnonnull 6, 3) := by decide +kernel
theorem dX0_node_10 : decode cX0_node 10 = .ok (.bipush (-9), 2) := by decide +kernel
theorem dX0_node_12 : decode cX0_node 12 = .ok (.ireturn, 1) := by decide +kernel
theorem dX0_node_13 : decode cX0_node 13 = .ok (.iload_n 2, 1) := by decide +kernel
theorem dX0_node_14 : decode cX0_node 14 = .ok (.tableswitch 114 0 6 #[42, 47, 66, 72, 77, 82, 87], 42) := by decide +kernel
theorem dX0_node_56 : decode cX0_node 56 = .ok (.aload_n 3, 1) := by decide +kernel
theorem dX0_node_57 : decode cX0_node 57 = .ok (.invokevirtual 111, 3) := by decide +kernel
theorem dX0_node_60 : decode cX0_node 60 = .ok (.ireturn, 1) := by decide +kernel
theorem dX0_node_61 : decode cX0_node 61 = .ok (.aload_n 3, 1) := by decide +kernel
theorem dX0_node_62 : decode cX0_node 62 = .ok (.getfield 113, 3) := by decide +kernel
theorem dX0_node_65 : decode cX0_node 65 = .ok (.ifnonnull 7, 3) := by decide +kernel
theorem dX0_node_68 : decode cX0_node 68 = .ok (.iconst (-1), 1) := by decide +kernel
theorem dX0_node_69 : decode cX0_node 69 = .ok (.goto 10, 3) := by decide +kernel
theorem dX0_node_72 : decode cX0_node 72 = .ok (.aload_n 3, 1) := by decide +kernel
theorem dX0_node_73 : decode cX0_node 73 = .ok (.getfield 113, 3) := by decide +kernel
theorem dX0_node_76 : decode cX0_node 76 = .ok (.getfield 117, 3) := by decide +kernel
theorem dX0_node_79 : decode cX0_node 79 = .ok (.ireturn, 1) := by decide +kernel
theorem dX0_node_80 : decode cX0_node 80 = .ok (.aload_n 3, 1) := by decide +kernel
theorem dX0_node_81 : decode cX0_node 81 = .ok (.invokevirtual 120, 3) := by decide +kernel
theorem dX0_node_84 : decode cX0_node 84 = .ok (.arraylength, 1) := by decide +kernel
theorem dX0_node_85 : decode cX0_node 85 = .ok (.ireturn, 1) := by decide +kernel
theorem dX0_node_86 : decode cX0_node 86 = .ok (.aload_n 3, 1) := by decide +kernel
theorem dX0_node_87 : decode cX0_node 87 = .ok (.invokevirtual 124, 3) := by decide +kernel
theorem dX0_node_90 : decode cX0_node 90 = .ok (.ireturn, 1) := by decide +kernel
theorem dX0_node_91 : decode cX0_node 91 = .ok (.aload_n 3, 1) := by decide +kernel
theorem dX0_node_92 : decode cX0_node 92 = .ok (.invokevirtual 125, 3) := by decide +kernel
theorem dX0_node_95 : decode cX0_node 95 = .ok (.ireturn, 1) := by decide +kernel
theorem dX0_node_96 : decode cX0_node 96 = .ok (.aload_n 3, 1) := by decide +kernel
theorem dX0_node_97 : decode cX0_node 97 = .ok (.invokevirtual 128, 3) := by decide +kernel
theorem dX0_node_100 : decode cX0_node 100 = .ok (.ireturn, 1) := by decide +kernel
theorem dX0_node_101 : decode cX0_node 101 = .ok (.aload_n 3, 1) := by decide +kernel
theorem dX0_node_102 : decode cX0_node 102 = .ok (.instanceof 131, 3) := by decide +kernel
theorem dX0_node_105 : decode cX0_node 105 = .ok (.ifCond .eq 21, 3) := by decide +kernel
theorem dX0_node_108 : decode cX0_node 108 = .ok (.aload_n 3, 1) := by decide +kernel
theorem dX0_node_109 : decode cX0_node 109 = .ok (.checkcast 131, 3) := by decide +kernel
theorem dX0_node_112 : decode cX0_node 112 = .ok (.astore 4, 2) := by decide +kernel
theorem dX0_node_114 : decode cX0_node 114 = .ok (.aload 4, 2) := by decide +kernel
theorem dX0_node_116 : decode cX0_node 116 = .ok (.getfield 133, 3) := by decide +kernel
theorem dX0_node_119 : decode cX0_node 119 = .ok (.ifCond .eq 7, 3) := by decide +kernel
theorem dX0_node_122 : decode cX0_node 122 = .ok (.iconst 1, 1) := by decide +kernel
theorem dX0_node_123 : decode cX0_node 123 = .ok (.goto 4, 3) := by decide +kernel
theorem dX0_node_126 : decode cX0_node 126 = .ok (.iconst 0, 1) := by decide +kernel
theorem dX0_node_127 : decode cX0_node 127 = .ok (.ireturn, 1) := by decide +kernel
theorem dX0_node_128 : decode cX0_node 128 = .ok (.bipush (-9), 2) := by decide +kernel
theorem dX0_node_130 : decode cX0_node 130 = .ok (.ireturn, 1) := by decide +kernel
def c_X0_node (μ : MEM) (a0 a1 a2 : Int) : Option zc_O := ck (zt [1] (μ a0 (-1)) = true) (bc (c_X0_nodeOf μ a0 a1) (fun r2 μ3 => if r2 = 0 then (some (0, (-9), μ3)) else (if a2 = 0 then (ck (zt [6, 11, 13, 14] (μ3 r2 (-1)) = true) (bc (dv_kind μ3 r2) (fun r7 μ8 => some (0, r7, μ8)))) else if a2 = 1 then (ck (zt [6, 11, 13, 14] (μ3 r2 (-1)) = true) (if (μ3 r2 1) = 0 then (some (0, (-1), μ3)) else (ck (zt [6, 11, 13, 14] (μ3 (μ3 r2 1) (-1)) = true) (some (0, (μ3 (μ3 r2 1) 0), μ3))))) else if a2 = 2 then (ck (zt [6, 11, 13, 14] (μ3 r2 (-1)) = true) (bc (dv_name μ3 r2) (fun r16 μ17 => ck (zt [30, 31] (μ17 r16 (-1)) = true) (some (0, (μ17 r16 (-2)), μ17))))) else if a2 = 3 then (ck (zt [6, 11, 13, 14] (μ3 r2 (-1)) = true) (bc (dv_size μ3 r2) (fun r23 μ24 => some (0, r23, μ24)))) else if a2 = 4 then (ck (zt [6, 11, 13, 14] (μ3 r2 (-1)) = true) (bc (dv_attributes μ3 r2) (fun r28 μ29 => some (0, r28, μ29)))) else if a2 = 5 then (ck (zt [6, 11, 13, 14] (μ3 r2 (-1)) = true) (bc (dv_within μ3 r2) (fun r33 μ34 => some (0, r33, μ34)))) else if a2 = 6 then (ck (zt [6, 11, 13, 14] (μ3 r2 (-1)) = true) (if (zi [13] (μ3 r2 (-1))) = 0 then (some (0, 0, μ3)) else (ck (zt [13] (μ3 r2 (-1)) = true) (if (μ3 r2 8) = 0 then (some (0, 0, μ3)) else (some (0, 1, μ3)))))) else (some (0, (-9), μ3)))))
theorem u_X0_node {G : zc_G} (μ : MEM) (a0 a1 a2 : Int) (ha1 : inR a1) (ha2 : inR a2) (o : zc_O) (hd : c_X0_node μ a0 a1 a2 = some o) : zc_Met G yX0_node cX0_node 5 (Option.some FieldType.int) 1 38 1446 μ [zc_rv G a0, iv a1, iv a2] o := by
  refine zc_intro hd (by decide) (by simp [lg_sl, zc_rv_cat, iv_cat, jv_cat]) (lv := [(0, zc_rv G a0), (1, iv a1), (2, iv a2)]) (by simp [lv_args, zc_rv_cat, iv_cat, jv_cat]) (fun C h hc => ?_)
  have h : zv_Ok C cX0_node "TreePress" := h
  have hc : zc_C C G μ 5 (Option.some FieldType.int) 1 38 1446 "node" [] := hc
  have hN : ∀ i, i < 5 → i < zv_n C := fun i q => by rw [hc.2.1]; exact q
  unfold c_X0_node
  refine c_aload_n (x := a0) h 0 dX0_node_0 rfl rfl ?_
  refine r_iload_n h 1 dX0_node_1 rfl rfl ?_
  refine r_ck (fun ht1 => ?_)
  refine c_callV (x := a0) h hc (As := [iv a1]) (fun o1 e1 => u_X0_nodeOf _ a0 a1 ha1 o1 e1) [1] ht1 (by decide) q1139 q1141 (fun t ht => by cases List.mem_singleton.mp ht; exact qs41) q1142 q132 (by omega) (by omega) zc_s0 (by omega) (fun z hz => by cases hz) ⟨by decide, by decide⟩ (n := 1) (by decide +kernel) rfl rfl dX0_node_2 (fun r2 μ3 hr4 => r_k4 ?_)
  refine c_astore_n (i := 3) (lv' := [(3, zc_rv G r2), (0, zc_rv G a0), (1, iv a1), (2, iv a2)]) h dX0_node_5 rfl (hN _ (by decide)) rfl ?_
  refine c_aload_n (x := r2) h 0 dX0_node_6 rfl rfl ?_
  refine c_ifnonnull (x := r2) h 13 dX0_node_7 rfl ?_ ?_
  · refine r_bipush h dX0_node_10 (by decide) ?_
    exact c_iret h hc rfl (by decide) dX0_node_12
  · refine r_iload_n h 3 dX0_node_13 rfl rfl ?_
    refine r_if (fun he5 => ?_) (fun he5 => ?_)
    · refine r_tsIn h 0 56 ha2 he5 dX0_node_14 (by decide) (by decide) rfl rfl ?_
      refine c_aload_n (x := r2) h 0 dX0_node_56 rfl rfl ?_
      refine r_ck (fun ht6 => ?_)
      refine cd_kind (x := r2)  h hc (hM := dm_kind) ht6 q1147 (by omega) (by omega) zc_s0 (by omega) (fun z hz => by cases hz) dX0_node_57 (fun r7 μ8 hr9 => r_k1 ?_)
      exact c_iret h hc rfl hr9 dX0_node_60
    refine r_if (fun he10 => ?_) (fun he10 => ?_)
    · refine r_tsIn h 1 61 ha2 he10 dX0_node_14 (by decide) (by decide) rfl rfl ?_
      refine c_aload_n (x := r2) h 0 dX0_node_61 rfl rfl ?_
      refine r_ck (fun ht11 => ?_)
      refine c_getR (fin := false) h hc [6, 11, 13, 14] 1 (zc_lk1 h q326) ht11 (by decide) dX0_node_62 ?_
      refine c_ifnonnull (x := (μ3 r2 1)) h 72 dX0_node_65 rfl ?_ ?_
      · refine r_iconst h dX0_node_68 ?_
        refine r_goto h 79 dX0_node_69 rfl ?_
        exact c_iret h hc rfl (by decide) dX0_node_79
      · refine c_aload_n (x := r2) h 0 dX0_node_72 rfl rfl ?_
        refine c_getR (fin := false) h hc [6, 11, 13, 14] 1 (zc_lk1 h q326) ht11 (by decide) dX0_node_73 ?_
        refine r_ck (fun ht12 => ?_)
        refine c_getI (fin := false) h hc [6, 11, 13, 14] 0 (zc_lk1 h q324) ht12 (by decide) dX0_node_76 (fun hr13 => ?_)
        exact c_iret h hc rfl hr13 dX0_node_79
    refine r_if (fun he14 => ?_) (fun he14 => ?_)
    · refine r_tsIn h 2 80 ha2 he14 dX0_node_14 (by decide) (by decide) rfl rfl ?_
      refine c_aload_n (x := r2) h 0 dX0_node_80 rfl rfl ?_
      refine r_ck (fun ht15 => ?_)
      refine cd_name (x := r2)  h hc (hM := dm_name) ht15 q1148 (by omega) (by omega) zc_s0 (by omega) (fun z hz => by cases hz) dX0_node_81 (fun r16 μ17 hr18 => r_k4 ?_)
      refine r_ck (fun ht19 => ?_)
      refine c_alen h hc [30, 31] ht19 (by decide) dX0_node_84 (fun hr20 => ?_)
      exact c_iret h hc rfl hr20 dX0_node_85
    refine r_if (fun he21 => ?_) (fun he21 => ?_)
    · refine r_tsIn h 3 86 ha2 he21 dX0_node_14 (by decide) (by decide) rfl rfl ?_
      refine c_aload_n (x := r2) h 0 dX0_node_86 rfl rfl ?_
      refine r_ck (fun ht22 => ?_)
      refine cd_size (x := r2)  h hc (hM := dm_size) ht22 q1149 (by omega) (by omega) zc_s0 (by omega) (fun z hz => by cases hz) dX0_node_87 (fun r23 μ24 hr25 => r_k1 ?_)
      exact c_iret h hc rfl hr25 dX0_node_90
    refine r_if (fun he26 => ?_) (fun he26 => ?_)
    · refine r_tsIn h 4 91 ha2 he26 dX0_node_14 (by decide) (by decide) rfl rfl ?_
      refine c_aload_n (x := r2) h 0 dX0_node_91 rfl rfl ?_
      refine r_ck (fun ht27 => ?_)
      refine cd_attributes (x := r2)  h hc (hM := dm_attributes) ht27 q1164 (by omega) (by omega) zc_s0 (by omega) (fun z hz => by cases hz) dX0_node_92 (fun r28 μ29 hr30 => r_k1 ?_)
      exact c_iret h hc rfl hr30 dX0_node_95
    refine r_if (fun he31 => ?_) (fun he31 => ?_)
    · refine r_tsIn h 5 96 ha2 he31 dX0_node_14 (by decide) (by decide) rfl rfl ?_
      refine c_aload_n (x := r2) h 0 dX0_node_96 rfl rfl ?_
      refine r_ck (fun ht32 => ?_)
      refine cd_within (x := r2)  h hc (hM := dm_within) ht32 q1174 (by omega) (by omega) zc_s0 (by omega) (fun z hz => by cases hz) dX0_node_97 (fun r33 μ34 hr35 => r_k1 ?_)
      exact c_iret h hc rfl hr35 dX0_node_100
    refine r_if (fun he36 => ?_) (fun he36 => ?_)
    · refine r_tsIn h 6 101 ha2 he36 dX0_node_14 (by decide) (by decide) rfl rfl ?_
      refine c_aload_n (x := r2) h 0 dX0_node_101 rfl rfl ?_
      refine r_ck (fun ht37 => ?_)
      refine c_inst h hc [6, 11, 13, 14] [13] q1184 ht37 (by decide) dX0_node_102 ?_
      refine r_if_eq (x := (zi [13] (μ3 r2 (-1)))) h ((zi_B _ _)).r 126 dX0_node_105 rfl ?_ ?_
      · refine r_iconst h dX0_node_126 ?_
        exact c_iret h hc rfl (by decide) dX0_node_127
      · refine c_aload_n (x := r2) h 0 dX0_node_108 rfl rfl ?_
        refine r_ck (fun ht38 => ?_)
        refine c_cast h hc [13] q1184 ht38 (by decide) dX0_node_109 ?_
        refine c_astore (lv' := [(4, zc_rv G r2), (3, zc_rv G r2), (0, zc_rv G a0), (1, iv a1), (2, iv a2)]) h dX0_node_112 (hN _ (by decide)) (by simp [zc_rv_cat]) ?_
        refine c_aload (x := r2) h 0 dX0_node_114 rfl ?_
        refine c_getZ (fin := true) h hc [13] 8 (zc_lk3 hc (O := "TreePress$Attribute") (n := "given") (ds := "Z") (host := "TreePress") (by decide)) ht38 (by decide) dX0_node_116 (fun hr39 => ?_)
        refine r_if_eq (x := (μ3 r2 8)) h hr39.r 126 dX0_node_119 rfl ?_ ?_
        · refine r_iconst h dX0_node_126 ?_
          exact c_iret h hc rfl (by decide) dX0_node_127
        · refine r_iconst h dX0_node_122 ?_
          refine r_goto h 127 dX0_node_123 rfl ?_
          exact c_iret h hc rfl (by decide) dX0_node_127
    refine r_tsOut h 128 ha2 (by omega) dX0_node_14 rfl ?_
    refine r_bipush h dX0_node_128 (by decide) ?_
    exact c_iret h hc rfl (by decide) dX0_node_130
theorem dX0_name_0 : decode cX0_name 0 = .ok (.aload_n 0, 1) := by decide +kernel
theorem dX0_name_1 : decode cX0_name 1 = .ok (.iload_n 1, 1) := by decide +kernel
theorem dX0_name_2 : decode cX0_name 2 = .ok (.invokevirtual 107, 3) := by decide +kernel
theorem dX0_name_5 : decode cX0_name 5 = .ok (.astore_n 3, 1) := by decide +kernel
theorem dX0_name_6 : decode cX0_name 6 = .ok (.aload_n 3, 1) := by decide +kernel
theorem dX0_name_7 : decode cX0_name 7 = .ok (.ifnull 24, 3) := by decide +kernel
theorem dX0_name_10 : decode cX0_name 10 = .ok (.iload_n 2, 1) := by decide +kernel
theorem dX0_name_11 : decode cX0_name 11 = .ok (.aload_n 3, 1) := by decide +kernel
theorem dX0_name_12 : decode cX0_name 12 = .ok (.invokevirtual 120, 3) := by decide +kernel
theorem dX0_name_15 : decode cX0_name 15 = .ok (.arraylength, 1) := by decide +kernel
theorem dX0_name_16 : decode cX0_name 16 = .ok (.invokestatic 99, 3) := by decide +kernel
theorem dX0_name_19 : decode cX0_name 19 = .ok (.ifCond .eq 12, 3) := by decide +kernel
theorem dX0_name_22 : decode cX0_name 22 = .ok (.aload_n 3, 1) := by decide +kernel
theorem dX0_name_23 : decode cX0_name 23 = .ok (.invokevirtual 120, 3) := by decide +kernel
theorem dX0_name_26 : decode cX0_name 26 = .ok (.iload_n 2, 1) := by decide +kernel
theorem dX0_name_27 : decode cX0_name 27 = .ok (.baload, 1) := by decide +kernel
theorem dX0_name_28 : decode cX0_name 28 = .ok (.goto 4, 3) := by decide +kernel
theorem dX0_name_31 : decode cX0_name 31 = .ok (.iconst (-1), 1) := by decide +kernel
theorem dX0_name_32 : decode cX0_name 32 = .ok (.ireturn, 1) := by decide +kernel
def c_X0_name (μ : MEM) (a0 a1 a2 : Int) : Option zc_O := ck (zt [1] (μ a0 (-1)) = true) (bc (c_X0_nodeOf μ a0 a1) (fun r2 μ3 => if r2 = 0 then (some (0, (-1), μ3)) else (ck (zt [6, 11, 13, 14] (μ3 r2 (-1)) = true) (bc (dv_name μ3 r2) (fun r6 μ7 => ck (zt [30, 31] (μ7 r6 (-1)) = true) (bc (c_X0_isIn μ7 a2 (μ7 r6 (-2))) (fun r11 μ12 => if r11 = 0 then (some (0, (-1), μ12)) else (ck (zt [6, 11, 13, 14] (μ12 r2 (-1)) = true) (bc (dv_name μ12 r2) (fun r15 μ16 => ck (zt [30, 31] (μ16 r15 (-1)) = true) (ck ((0 : Int) ≤ a2 ∧ a2 < μ16 r15 (-2)) (some (0, (μ16 r15 a2), μ16)))))))))))))
theorem u_X0_name {G : zc_G} (μ : MEM) (a0 a1 a2 : Int) (ha1 : inR a1) (ha2 : inR a2) (o : zc_O) (hd : c_X0_name μ a0 a1 a2 = some o) : zc_Met G yX0_name cX0_name 4 (Option.some FieldType.int) 1 4 85 μ [zc_rv G a0, iv a1, iv a2] o := by
  refine zc_intro hd (by decide) (by simp [lg_sl, zc_rv_cat, iv_cat, jv_cat]) (lv := [(0, zc_rv G a0), (1, iv a1), (2, iv a2)]) (by simp [lv_args, zc_rv_cat, iv_cat, jv_cat]) (fun C h hc => ?_)
  have h : zv_Ok C cX0_name "TreePress" := h
  have hc : zc_C C G μ 4 (Option.some FieldType.int) 1 4 85 "name" [] := hc
  have hN : ∀ i, i < 4 → i < zv_n C := fun i q => by rw [hc.2.1]; exact q
  unfold c_X0_name
  refine c_aload_n (x := a0) h 0 dX0_name_0 rfl rfl ?_
  refine r_iload_n h 1 dX0_name_1 rfl rfl ?_
  refine r_ck (fun ht1 => ?_)
  refine c_callV (x := a0) h hc (As := [iv a1]) (fun o1 e1 => u_X0_nodeOf _ a0 a1 ha1 o1 e1) [1] ht1 (by decide) q1139 q1141 (fun t ht => by cases List.mem_singleton.mp ht; exact qs41) q1142 q132 (by omega) (by omega) zc_s0 (by omega) (fun z hz => by cases hz) ⟨by decide, by decide⟩ (n := 1) (by decide +kernel) rfl rfl dX0_name_2 (fun r2 μ3 hr4 => r_k4 ?_)
  refine c_astore_n (i := 3) (lv' := [(3, zc_rv G r2), (0, zc_rv G a0), (1, iv a1), (2, iv a2)]) h dX0_name_5 rfl (hN _ (by decide)) rfl ?_
  refine c_aload_n (x := r2) h 0 dX0_name_6 rfl rfl ?_
  refine c_ifnull (x := r2) h 31 dX0_name_7 rfl ?_ ?_
  · refine r_iconst h dX0_name_31 ?_
    exact c_iret h hc rfl (by decide) dX0_name_32
  · refine r_iload_n h 3 dX0_name_10 rfl rfl ?_
    refine c_aload_n (x := r2) h 0 dX0_name_11 rfl rfl ?_
    refine r_ck (fun ht5 => ?_)
    refine cd_name (x := r2)  h hc (hM := dm_name) ht5 q1148 (by omega) (by omega) (zc_sc (iv_cat _) zc_s0) (by omega) (fun z hz => by cases hz) dX0_name_12 (fun r6 μ7 hr8 => r_k4 ?_)
    refine r_ck (fun ht9 => ?_)
    refine c_alen h hc [30, 31] ht9 (by decide) dX0_name_15 (fun hr10 => ?_)
    refine c_callS h hc (As := [iv a2, iv (μ7 r6 (-2))]) (fun o1 e1 => u_X0_isIn _ a2 (μ7 r6 (-2)) ha2 hr10 o1 e1) q1143 q1144 q1145 q132 (by omega) (by omega) zc_s0 (by omega) (fun z hz => by cases hz) ⟨by decide, by decide⟩ (n := 2) (by decide +kernel) rfl rfl dX0_name_16 (fun r11 μ12 hr13 => r_k3 ?_)
    refine r_if_eq (x := r11) h hr13.r 31 dX0_name_19 rfl ?_ ?_
    · refine r_iconst h dX0_name_31 ?_
      exact c_iret h hc rfl (by decide) dX0_name_32
    · refine c_aload_n (x := r2) h 0 dX0_name_22 rfl rfl ?_
      refine r_ck (fun ht14 => ?_)
      refine cd_name (x := r2)  h hc (hM := dm_name) ht14 q1148 (by omega) (by omega) zc_s0 (by omega) (fun z hz => by cases hz) dX0_name_23 (fun r15 μ16 hr17 => r_k4 ?_)
      refine r_iload_n h 3 dX0_name_26 rfl rfl ?_
      refine r_ck (fun ht18 => ?_)
      refine c_ldB h hc ht18 dX0_name_27 (fun _ hr19 => ?_)
      refine r_goto h 32 dX0_name_28 rfl ?_
      exact c_iret h hc rfl hr19.r dX0_name_32
theorem dX0_string_0 : decode cX0_string 0 = .ok (.aload_n 0, 1) := by decide +kernel
theorem dX0_string_1 : decode cX0_string 1 = .ok (.iload_n 1, 1) := by decide +kernel
theorem dX0_string_2 : decode cX0_string 2 = .ok (.invokevirtual 107, 3) := by decide +kernel
theorem dX0_string_5 : decode cX0_string 5 = .ok (.astore_n 3, 1) := by decide +kernel
theorem dX0_string_6 : decode cX0_string 6 = .ok (.aload_n 3, 1) := by decide +kernel
theorem dX0_string_7 : decode cX0_string 7 = .ok (.ifnull 22, 3) := by decide +kernel
theorem dX0_string_10 : decode cX0_string 10 = .ok (.iload_n 2, 1) := by decide +kernel
theorem dX0_string_11 : decode cX0_string 11 = .ok (.aload_n 3, 1) := by decide +kernel
theorem dX0_string_12 : decode cX0_string 12 = .ok (.invokevirtual 124, 3) := by decide +kernel
theorem dX0_string_15 : decode cX0_string 15 = .ok (.invokestatic 99, 3) := by decide +kernel
theorem dX0_string_18 : decode cX0_string 18 = .ok (.ifCond .eq 11, 3) := by decide +kernel
theorem dX0_string_21 : decode cX0_string 21 = .ok (.aload_n 3, 1) := by decide +kernel
theorem dX0_string_22 : decode cX0_string 22 = .ok (.iload_n 2, 1) := by decide +kernel
theorem dX0_string_23 : decode cX0_string 23 = .ok (.invokevirtual 137, 3) := by decide +kernel
theorem dX0_string_26 : decode cX0_string 26 = .ok (.goto 4, 3) := by decide +kernel
theorem dX0_string_29 : decode cX0_string 29 = .ok (.iconst (-1), 1) := by decide +kernel
theorem dX0_string_30 : decode cX0_string 30 = .ok (.ireturn, 1) := by decide +kernel
def c_X0_string (μ : MEM) (a0 a1 a2 : Int) : Option zc_O := ck (zt [1] (μ a0 (-1)) = true) (bc (c_X0_nodeOf μ a0 a1) (fun r2 μ3 => if r2 = 0 then (some (0, (-1), μ3)) else (ck (zt [6, 11, 13, 14] (μ3 r2 (-1)) = true) (bc (dv_size μ3 r2) (fun r6 μ7 => bc (c_X0_isIn μ7 a2 r6) (fun r9 μ10 => if r9 = 0 then (some (0, (-1), μ10)) else (ck (zt [6, 11, 13, 14] (μ10 r2 (-1)) = true) (bc (dv_at μ10 r2 a2) (fun r13 μ14 => some (0, r13, μ14))))))))))
theorem u_X0_string {G : zc_G} (μ : MEM) (a0 a1 a2 : Int) (ha1 : inR a1) (ha2 : inR a2) (o : zc_O) (hd : c_X0_string μ a0 a1 a2 = some o) : zc_Met G yX0_string cX0_string 4 (Option.some FieldType.int) 1 73 2829 μ [zc_rv G a0, iv a1, iv a2] o := by
  refine zc_intro hd (by decide) (by simp [lg_sl, zc_rv_cat, iv_cat, jv_cat]) (lv := [(0, zc_rv G a0), (1, iv a1), (2, iv a2)]) (by simp [lv_args, zc_rv_cat, iv_cat, jv_cat]) (fun C h hc => ?_)
  have h : zv_Ok C cX0_string "TreePress" := h
  have hc : zc_C C G μ 4 (Option.some FieldType.int) 1 73 2829 "string" [] := hc
  have hN : ∀ i, i < 4 → i < zv_n C := fun i q => by rw [hc.2.1]; exact q
  unfold c_X0_string
  refine c_aload_n (x := a0) h 0 dX0_string_0 rfl rfl ?_
  refine r_iload_n h 1 dX0_string_1 rfl rfl ?_
  refine r_ck (fun ht1 => ?_)
  refine c_callV (x := a0) h hc (As := [iv a1]) (fun o1 e1 => u_X0_nodeOf _ a0 a1 ha1 o1 e1) [1] ht1 (by decide) q1139 q1141 (fun t ht => by cases List.mem_singleton.mp ht; exact qs41) q1142 q132 (by omega) (by omega) zc_s0 (by omega) (fun z hz => by cases hz) ⟨by decide, by decide⟩ (n := 1) (by decide +kernel) rfl rfl dX0_string_2 (fun r2 μ3 hr4 => r_k4 ?_)
  refine c_astore_n (i := 3) (lv' := [(3, zc_rv G r2), (0, zc_rv G a0), (1, iv a1), (2, iv a2)]) h dX0_string_5 rfl (hN _ (by decide)) rfl ?_
  refine c_aload_n (x := r2) h 0 dX0_string_6 rfl rfl ?_
  refine c_ifnull (x := r2) h 29 dX0_string_7 rfl ?_ ?_
  · refine r_iconst h dX0_string_29 ?_
    exact c_iret h hc rfl (by decide) dX0_string_30
  · refine r_iload_n h 3 dX0_string_10 rfl rfl ?_
    refine c_aload_n (x := r2) h 0 dX0_string_11 rfl rfl ?_
    refine r_ck (fun ht5 => ?_)
    refine cd_size (x := r2)  h hc (hM := dm_size) ht5 q1149 (by omega) (by omega) (zc_sc (iv_cat _) zc_s0) (by omega) (fun z hz => by cases hz) dX0_string_12 (fun r6 μ7 hr8 => r_k1 ?_)
    refine c_callS h hc (As := [iv a2, iv r6]) (fun o1 e1 => u_X0_isIn _ a2 r6 ha2 hr8 o1 e1) q1143 q1144 q1145 q132 (by omega) (by omega) zc_s0 (by omega) (fun z hz => by cases hz) ⟨by decide, by decide⟩ (n := 2) (by decide +kernel) rfl rfl dX0_string_15 (fun r9 μ10 hr11 => r_k3 ?_)
    refine r_if_eq (x := r9) h hr11.r 29 dX0_string_18 rfl ?_ ?_
    · refine r_iconst h dX0_string_29 ?_
      exact c_iret h hc rfl (by decide) dX0_string_30
    · refine c_aload_n (x := r2) h 0 dX0_string_21 rfl rfl ?_
      refine r_iload_n h 3 dX0_string_22 rfl rfl ?_
      refine r_ck (fun ht12 => ?_)
      refine cd_at (x := r2) (a0 := a2) h hc (hM := dm_at) ha2 ht12 q1193 (by omega) (by omega) zc_s0 (by omega) (fun z hz => by cases hz) dX0_string_23 (fun r13 μ14 hr15 => r_k1 ?_)
      refine r_goto h 30 dX0_string_26 rfl ?_
      exact c_iret h hc rfl hr15 dX0_string_30
theorem dX0_findings_0 : decode cX0_findings 0 = .ok (.aload_n 0, 1) := by decide +kernel
theorem dX0_findings_1 : decode cX0_findings 1 = .ok (.getfield 75, 3) := by decide +kernel
theorem dX0_findings_4 : decode cX0_findings 4 = .ok (.ifnull 13, 3) := by decide +kernel
theorem dX0_findings_7 : decode cX0_findings 7 = .ok (.aload_n 0, 1) := by decide +kernel
theorem dX0_findings_8 : decode cX0_findings 8 = .ok (.getfield 75, 3) := by decide +kernel
theorem dX0_findings_11 : decode cX0_findings 11 = .ok (.getfield 141, 3) := by decide +kernel
theorem dX0_findings_14 : decode cX0_findings 14 = .ok (.ifnonnull 7, 3) := by decide +kernel
theorem dX0_findings_17 : decode cX0_findings 17 = .ok (.iconst (-1), 1) := by decide +kernel
theorem dX0_findings_18 : decode cX0_findings 18 = .ok (.goto 13, 3) := by decide +kernel
theorem dX0_findings_21 : decode cX0_findings 21 = .ok (.aload_n 0, 1) := by decide +kernel
theorem dX0_findings_22 : decode cX0_findings 22 = .ok (.getfield 75, 3) := by decide +kernel
theorem dX0_findings_25 : decode cX0_findings 25 = .ok (.getfield 144, 3) := by decide +kernel
theorem dX0_findings_28 : decode cX0_findings 28 = .ok (.invokevirtual 90, 3) := by decide +kernel
theorem dX0_findings_31 : decode cX0_findings 31 = .ok (.ireturn, 1) := by decide +kernel
def c_X0_findings (μ : MEM) (a0 : Int) : Option zc_O := ck (zt [1] (μ a0 (-1)) = true) (if (μ a0 3) = 0 then (some (0, (-1), μ)) else (ck (zt [4] (μ (μ a0 3) (-1)) = true) (if (μ (μ a0 3) 2) = 0 then (some (0, (-1), μ)) else (ck (zt [40] (μ (μ (μ a0 3) 5) (-1)) = true) (bc (b_lsize μ (μ (μ a0 3) 5)) (fun r4 μ5 => some (0, r4, μ5)))))))
theorem u_X0_findings {G : zc_G} (μ : MEM) (a0 : Int) (o : zc_O) (hd : c_X0_findings μ a0 = some o) : zc_Met G yX0_findings cX0_findings 1 (Option.some FieldType.int) 1 1 20 μ [zc_rv G a0] o := by
  refine zc_intro hd (by decide) (by simp [lg_sl, zc_rv_cat, iv_cat, jv_cat]) (lv := [(0, zc_rv G a0)]) (by simp [lv_args, zc_rv_cat, iv_cat, jv_cat]) (fun C h hc => ?_)
  have h : zv_Ok C cX0_findings "TreePress" := h
  have hc : zc_C C G μ 1 (Option.some FieldType.int) 1 1 20 "findings" [] := hc
  have hN : ∀ i, i < 1 → i < zv_n C := fun i q => by rw [hc.2.1]; exact q
  unfold c_X0_findings
  refine c_aload_n (x := a0) h 0 dX0_findings_0 rfl rfl ?_
  refine r_ck (fun ht1 => ?_)
  refine c_getR (fin := false) h hc [1] 3 (zc_lk1 h q208) ht1 (by decide) dX0_findings_1 ?_
  refine c_ifnull (x := (μ a0 3)) h 17 dX0_findings_4 rfl ?_ ?_
  · refine r_iconst h dX0_findings_17 ?_
    refine r_goto h 31 dX0_findings_18 rfl ?_
    exact c_iret h hc rfl (by decide) dX0_findings_31
  · refine c_aload_n (x := a0) h 0 dX0_findings_7 rfl rfl ?_
    refine c_getR (fin := false) h hc [1] 3 (zc_lk1 h q208) ht1 (by decide) dX0_findings_8 ?_
    refine r_ck (fun ht2 => ?_)
    refine c_getR (fin := false) h hc [4] 2 (zc_lk3 hc (O := "TreePress$Document") (n := "type") (ds := "[B") (host := "TreePress") (by decide)) ht2 (by decide) dX0_findings_11 ?_
    refine c_ifnonnull (x := (μ (μ a0 3) 2)) h 21 dX0_findings_14 rfl ?_ ?_
    · refine r_iconst h dX0_findings_17 ?_
      refine r_goto h 31 dX0_findings_18 rfl ?_
      exact c_iret h hc rfl (by decide) dX0_findings_31
    · refine c_aload_n (x := a0) h 0 dX0_findings_21 rfl rfl ?_
      refine c_getR (fin := false) h hc [1] 3 (zc_lk1 h q208) ht1 (by decide) dX0_findings_22 ?_
      refine c_getR (fin := true) h hc [4] 5 (zc_lk3 hc (O := "TreePress$Document") (n := "findings") (ds := "Ljava/util/ArrayList;") (host := "TreePress") (by decide)) ht2 (by decide) dX0_findings_25 ?_
      refine r_ck (fun ht3 => ?_)
      refine c_callV (x := (μ (μ a0 3) 5)) h hc (As := []) (fun o1 e1 => w_lsize _ (μ (μ a0 3) 5) o1 e1) [40] ht3 (by decide) q1130 q343 (fun t ht => by cases List.mem_singleton.mp ht; exact q344) q345 q135 (by omega) (by omega) zc_s0 (by omega) (fun z hz => by cases hz) ⟨by decide, by decide⟩ (n := 0) (by decide +kernel) rfl rfl dX0_findings_28 (fun r4 μ5 hr6 => r_k1 ?_)
      exact c_iret h hc rfl hr6 dX0_findings_31
theorem dX0_finding_0 : decode cX0_finding 0 = .ok (.iload_n 1, 1) := by decide +kernel
theorem dX0_finding_1 : decode cX0_finding 1 = .ok (.aload_n 0, 1) := by decide +kernel
theorem dX0_finding_2 : decode cX0_finding 2 = .ok (.invokevirtual 147, 3) := by decide +kernel
theorem dX0_finding_5 : decode cX0_finding 5 = .ok (.invokestatic 99, 3) := by decide +kernel
theorem dX0_finding_8 : decode cX0_finding 8 = .ok (.ifCond .eq 30, 3) := by decide +kernel
theorem dX0_finding_11 : decode cX0_finding 11 = .ok (.iload_n 2, 1) := by decide +kernel
theorem dX0_finding_12 : decode cX0_finding 12 = .ok (.iconst 2, 1) := by decide +kernel
theorem dX0_finding_13 : decode cX0_finding 13 = .ok (.invokestatic 99, 3) := by decide +kernel
theorem dX0_finding_16 : decode cX0_finding 16 = .ok (.ifCond .eq 22, 3) := by decide +kernel
theorem dX0_finding_19 : decode cX0_finding 19 = .ok (.aload_n 0, 1) := by decide +kernel
theorem dX0_finding_20 : decode cX0_finding 20 = .ok (.getfield 75, 3) := by decide +kernel
theorem dX0_finding_23 : decode cX0_finding 23 = .ok (.getfield 144, 3) := by decide +kernel
theorem dX0_finding_26 : decode cX0_finding 26 = .ok (.iload_n 1, 1) := by decide +kernel
theorem dX0_finding_27 : decode cX0_finding 27 = .ok (.invokevirtual 103, 3) := by decide +kernel
theorem dX0_finding_30 : decode cX0_finding 30 = .ok (.checkcast 149, 3) := by decide +kernel
theorem dX0_finding_33 : decode cX0_finding 33 = .ok (.iload_n 2, 1) := by decide +kernel
theorem dX0_finding_34 : decode cX0_finding 34 = .ok (.iaload, 1) := by decide +kernel
theorem dX0_finding_35 : decode cX0_finding 35 = .ok (.goto 5, 3) := by decide +kernel
theorem dX0_finding_38 : decode cX0_finding 38 = .ok (.bipush (-9), 2) := by decide +kernel
theorem dX0_finding_40 : decode cX0_finding 40 = .ok (.ireturn, 1) := by decide +kernel
def c_X0_finding (μ : MEM) (a0 a1 a2 : Int) : Option zc_O := ck (zt [1] (μ a0 (-1)) = true) (bc (c_X0_findings μ a0) (fun r2 μ3 => bc (c_X0_isIn μ3 a1 r2) (fun r5 μ6 => if r5 = 0 then (some (0, (-9), μ6)) else (bc (c_X0_isIn μ6 a2 2) (fun r8 μ9 => if r8 = 0 then (some (0, (-9), μ9)) else (ck (zt [1] (μ9 a0 (-1)) = true) (ck (zt [4] (μ9 (μ9 a0 3) (-1)) = true) (ck (zt [40] (μ9 (μ9 (μ9 a0 3) 5) (-1)) = true) (bc (b_lget μ9 (μ9 (μ9 a0 3) 5) a1) (fun r14 μ15 => ck (zt [33] (μ15 r14 (-1)) = true) (ck ((0 : Int) ≤ a2 ∧ a2 < μ15 r14 (-2)) (some (0, (μ15 r14 a2), μ15)))))))))))))
theorem u_X0_finding {G : zc_G} (μ : MEM) (a0 a1 a2 : Int) (ha1 : inR a1) (ha2 : inR a2) (o : zc_O) (hd : c_X0_finding μ a0 a1 a2 = some o) : zc_Met G yX0_finding cX0_finding 3 (Option.some FieldType.int) 1 3 64 μ [zc_rv G a0, iv a1, iv a2] o := by
  refine zc_intro hd (by decide) (by simp [lg_sl, zc_rv_cat, iv_cat, jv_cat]) (lv := [(0, zc_rv G a0), (1, iv a1), (2, iv a2)]) (by simp [lv_args, zc_rv_cat, iv_cat, jv_cat]) (fun C h hc => ?_)
  have h : zv_Ok C cX0_finding "TreePress" := h
  have hc : zc_C C G μ 3 (Option.some FieldType.int) 1 3 64 "finding" [] := hc
  have hN : ∀ i, i < 3 → i < zv_n C := fun i q => by rw [hc.2.1]; exact q
  unfold c_X0_finding
  refine r_iload_n h 1 dX0_finding_0 rfl rfl ?_
  refine c_aload_n (x := a0) h 0 dX0_finding_1 rfl rfl ?_
  refine r_ck (fun ht1 => ?_)
  refine c_callV (x := a0) h hc (As := []) (fun o1 e1 => u_X0_findings _ a0 o1 e1) [1] ht1 (by decide) q1213 q1206 (fun t ht => by cases List.mem_singleton.mp ht; exact q1207) q1208 q132 (by omega) (by omega) (zc_sc (iv_cat _) zc_s0) (by omega) (fun z hz => by cases hz) ⟨by decide, by decide⟩ (n := 0) (by decide +kernel) rfl rfl dX0_finding_2 (fun r2 μ3 hr4 => r_k1 ?_)
  refine c_callS h hc (As := [iv a1, iv r2]) (fun o1 e1 => u_X0_isIn _ a1 r2 ha1 hr4 o1 e1) q1143 q1144 q1145 q132 (by omega) (by omega) zc_s0 (by omega) (fun z hz => by cases hz) ⟨by decide, by decide⟩ (n := 2) (by decide +kernel) rfl rfl dX0_finding_5 (fun r5 μ6 hr7 => r_k3 ?_)
  refine r_if_eq (x := r5) h hr7.r 38 dX0_finding_8 rfl ?_ ?_
  · refine r_bipush h dX0_finding_38 (by decide) ?_
    exact c_iret h hc rfl (by decide) dX0_finding_40
  · refine r_iload_n h 2 dX0_finding_11 rfl rfl ?_
    refine r_iconst h dX0_finding_12 ?_
    refine c_callS h hc (As := [iv a2, iv 2]) (fun o1 e1 => u_X0_isIn _ a2 2 ha2 (by decide) o1 e1) q1143 q1144 q1145 q132 (by omega) (by omega) zc_s0 (by omega) (fun z hz => by cases hz) ⟨by decide, by decide⟩ (n := 2) (by decide +kernel) rfl rfl dX0_finding_13 (fun r8 μ9 hr10 => r_k3 ?_)
    refine r_if_eq (x := r8) h hr10.r 38 dX0_finding_16 rfl ?_ ?_
    · refine r_bipush h dX0_finding_38 (by decide) ?_
      exact c_iret h hc rfl (by decide) dX0_finding_40
    · refine c_aload_n (x := a0) h 0 dX0_finding_19 rfl rfl ?_
      refine r_ck (fun ht11 => ?_)
      refine c_getR (fin := false) h hc [1] 3 (zc_lk1 h q208) ht11 (by decide) dX0_finding_20 ?_
      refine r_ck (fun ht12 => ?_)
      refine c_getR (fin := true) h hc [4] 5 (zc_lk3 hc (O := "TreePress$Document") (n := "findings") (ds := "Ljava/util/ArrayList;") (host := "TreePress") (by decide)) ht12 (by decide) dX0_finding_23 ?_
      refine r_iload_n h 1 dX0_finding_26 rfl rfl ?_
      refine r_ck (fun ht13 => ?_)
      refine c_callV (x := (μ9 (μ9 a0 3) 5)) h hc (As := [iv a1]) (fun o1 e1 => w_lget _ (μ9 (μ9 a0 3) 5) a1 ha1 o1 e1) [40] ht13 (by decide) q1146 q844 (fun t ht => by cases List.mem_singleton.mp ht; exact q845) q846 q135 (by omega) (by omega) zc_s0 (by omega) (fun z hz => by cases hz) ⟨by decide, by decide⟩ (n := 1) (by decide +kernel) rfl rfl dX0_finding_27 (fun r14 μ15 hr16 => r_k4 ?_)
      refine r_ck (fun ht17 => ?_)
      refine c_cast h hc [33] q1214 ht17 (by decide) dX0_finding_30 ?_
      refine r_iload_n h 2 dX0_finding_33 rfl rfl ?_
      refine c_ldI h hc ht17 dX0_finding_34 (fun _ hr18 => ?_)
      refine r_goto h 40 dX0_finding_35 rfl ?_
      exact c_iret h hc rfl hr18 dX0_finding_40
theorem dX0_goesOn_0 : decode cX0_goesOn 0 = .ok (.aload_n 0, 1) := by decide +kernel
theorem dX0_goesOn_1 : decode cX0_goesOn 1 = .ok (.iconst 0, 1) := by decide +kernel
theorem dX0_goesOn_2 : decode cX0_goesOn 2 = .ok (.putfield 205, 3) := by decide +kernel
theorem dX0_goesOn_5 : decode cX0_goesOn 5 = .ok (.iconst 0, 1) := by decide +kernel
theorem dX0_goesOn_6 : decode cX0_goesOn 6 = .ok (.istore_n 1, 1) := by decide +kernel
theorem dX0_goesOn_7 : decode cX0_goesOn 7 = .ok (.iload_n 1, 1) := by decide +kernel
theorem dX0_goesOn_8 : decode cX0_goesOn 8 = .ok (.aload_n 0, 1) := by decide +kernel
theorem dX0_goesOn_9 : decode cX0_goesOn 9 = .ok (.getfield 75, 3) := by decide +kernel
theorem dX0_goesOn_12 : decode cX0_goesOn 12 = .ok (.getfield 85, 3) := by decide +kernel
theorem dX0_goesOn_15 : decode cX0_goesOn 15 = .ok (.invokevirtual 90, 3) := by decide +kernel
theorem dX0_goesOn_18 : decode cX0_goesOn 18 = .ok (.if_icmp .ge 61, 3) := by decide +kernel
theorem dX0_goesOn_21 : decode cX0_goesOn 21 = .ok (.aload_n 0, 1) := by decide +kernel
theorem dX0_goesOn_22 : decode cX0_goesOn 22 = .ok (.getfield 39, 3) := by decide +kernel
theorem dX0_goesOn_25 : decode cX0_goesOn 25 = .ok (.iload_n 1, 1) := by decide +kernel
theorem dX0_goesOn_26 : decode cX0_goesOn 26 = .ok (.baload, 1) := by decide +kernel
theorem dX0_goesOn_27 : decode cX0_goesOn 27 = .ok (.ifCond .ne 6, 3) := by decide +kernel
theorem dX0_goesOn_30 : decode cX0_goesOn 30 = .ok (.goto 43, 3) := by decide +kernel
theorem dX0_goesOn_33 : decode cX0_goesOn 33 = .ok (.aload_n 0, 1) := by decide +kernel
theorem dX0_goesOn_34 : decode cX0_goesOn 34 = .ok (.getfield 29, 3) := by decide +kernel
theorem dX0_goesOn_37 : decode cX0_goesOn 37 = .ok (.aload_n 0, 1) := by decide +kernel
theorem dX0_goesOn_38 : decode cX0_goesOn 38 = .ok (.getfield 205, 3) := by decide +kernel
theorem dX0_goesOn_41 : decode cX0_goesOn 41 = .ok (.aload_n 0, 1) := by decide +kernel
theorem dX0_goesOn_42 : decode cX0_goesOn 42 = .ok (.getfield 75, 3) := by decide +kernel
theorem dX0_goesOn_45 : decode cX0_goesOn 45 = .ok (.getfield 85, 3) := by decide +kernel
theorem dX0_goesOn_48 : decode cX0_goesOn 48 = .ok (.iload_n 1, 1) := by decide +kernel
theorem dX0_goesOn_49 : decode cX0_goesOn 49 = .ok (.invokevirtual 103, 3) := by decide +kernel
theorem dX0_goesOn_52 : decode cX0_goesOn 52 = .ok (.checkcast 27, 3) := by decide +kernel
theorem dX0_goesOn_55 : decode cX0_goesOn 55 = .ok (.aastore, 1) := by decide +kernel
theorem dX0_goesOn_56 : decode cX0_goesOn 56 = .ok (.aload_n 0, 1) := by decide +kernel
theorem dX0_goesOn_57 : decode cX0_goesOn 57 = .ok (.dup, 1) := by decide +kernel
theorem dX0_goesOn_58 : decode cX0_goesOn 58 = .ok (.getfield 205, 3) := by decide +kernel
theorem dX0_goesOn_61 : decode cX0_goesOn 61 = .ok (.iconst 1, 1) := by decide +kernel
theorem dX0_goesOn_62 : decode cX0_goesOn 62 = .ok (.iadd, 1) := by decide +kernel
theorem dX0_goesOn_63 : decode cX0_goesOn 63 = .ok (.putfield 205, 3) := by decide +kernel
theorem dX0_goesOn_66 : decode cX0_goesOn 66 = .ok (.aload_n 0, 1) := by decide +kernel
theorem dX0_goesOn_67 : decode cX0_goesOn 67 = .ok (.getfield 39, 3) := by decide +kernel
theorem dX0_goesOn_70 : decode cX0_goesOn 70 = .ok (.iload_n 1, 1) := by decide +kernel
theorem dX0_goesOn_71 : decode cX0_goesOn 71 = .ok (.iconst 0, 1) := by decide +kernel
theorem dX0_goesOn_72 : decode cX0_goesOn 72 = .ok (.bastore, 1) := by decide +kernel
theorem dX0_goesOn_73 : decode cX0_goesOn 73 = .ok (.iinc 1 1, 3) := by decide +kernel
theorem dX0_goesOn_76 : decode cX0_goesOn 76 = .ok (.goto (-69), 3) := by decide +kernel
theorem dX0_goesOn_79 : decode cX0_goesOn 79 = .ok (.return_, 1) := by decide +kernel
def c_X0_goesOn_7 : Nat → MEM → Int → Int → Option zc_O
  | 0, _, _, _ => none
  | n + 1, μ, x0, x1 => ck (zt [1] (μ x0 (-1)) = true) (ck (zt [4] (μ (μ x0 3) (-1)) = true) (ck (zt [40] (μ (μ (μ x0 3) 1) (-1)) = true) (bc (b_lsize μ (μ (μ x0 3) 1)) (fun r4 μ5 => if r4 ≤ x1 then (some (0, 0, μ5)) else (ck (zt [1] (μ5 x0 (-1)) = true) (ck (zt [32] (μ5 (μ5 x0 7) (-1)) = true) (ck ((0 : Int) ≤ x1 ∧ x1 < μ5 (μ5 x0 7) (-2)) (if (μ5 (μ5 x0 7) x1) = 0 then (ck (inR (x1 + 1)) (c_X0_goesOn_7 n μ5 x0 (x1 + 1))) else (ck (zt [4] (μ5 (μ5 x0 3) (-1)) = true) (ck (zt [40] (μ5 (μ5 (μ5 x0 3) 1) (-1)) = true) (bc (b_lget μ5 (μ5 (μ5 x0 3) 1) x1) (fun r14 μ15 => ck (zt [6, 11, 13, 14] (μ15 r14 (-1)) = true) (ck (zt [35] (μ15 (μ5 x0 4) (-1)) = true) (ck (r14 = 0 ∨ zt [6, 11, 13, 14] (μ15 r14 (-1)) = true) (ck ((0 : Int) ≤ (μ5 x0 8) ∧ (μ5 x0 8) < μ15 (μ5 x0 4) (-2)) (nu (mup μ15 (μ5 x0 4) (μ5 x0 8) r14) (fun μ19 => ck (zt [1] (μ19 x0 (-1)) = true) (ck (inR ((μ19 x0 8) + 1)) (nu (mup μ19 x0 8 ((μ19 x0 8) + 1)) (fun μ25 => ck (zt [32] (μ25 (μ25 x0 7) (-1)) = true) (ck ((0 : Int) ≤ x1 ∧ x1 < μ25 (μ25 x0 7) (-2)) (nu (mup μ25 (μ25 x0 7) x1 0) (fun μ28 => ck (inR (x1 + 1)) (c_X0_goesOn_7 n μ28 x0 (x1 + 1)))))))))))))))))))))))))
theorem u_X0_goesOn_7 {C : zv_Cx zc_O} {G : zc_G} {μ0 : MEM} (h : zv_Ok C cX0_goesOn "TreePress") (hc : zc_C C G μ0 2 (Option.none : Option FieldType) 0 3 64 "goesOn" []) : ∀ (n : Nat) (μ : MEM) (x0 x1 : Int), inR x1 → VV C (c_X0_goesOn_7 n μ x0 x1) μ [(0, zc_rv G x0), (1, iv x1)] [] 7 := by
  have hN : ∀ i, i < 2 → i < zv_n C := fun i q => by rw [hc.2.1]; exact q
  intro n
  induction n with
  | zero => intros; exact r_none
  | succ n ih =>
    intro μ x0 x1 hx1
    rw [c_X0_goesOn_7]
    refine r_iload_n h 1 dX0_goesOn_7 rfl rfl ?_
    refine c_aload_n (x := x0) h 0 dX0_goesOn_8 rfl rfl ?_
    refine r_ck (fun ht1 => ?_)
    refine c_getR (fin := false) h hc [1] 3 (zc_lk1 h q208) ht1 (by decide) dX0_goesOn_9 ?_
    refine r_ck (fun ht2 => ?_)
    refine c_getR (fin := true) h hc [4] 1 (zc_lk3 hc (O := "TreePress$Document") (n := "nodes") (ds := "Ljava/util/ArrayList;") (host := "TreePress") (by decide)) ht2 (by decide) dX0_goesOn_12 ?_
    refine r_ck (fun ht3 => ?_)
    refine c_callV (x := (μ (μ x0 3) 1)) h hc (As := []) (fun o1 e1 => w_lsize _ (μ (μ x0 3) 1) o1 e1) [40] ht3 (by decide) q1130 q343 (fun t ht => by cases List.mem_singleton.mp ht; exact q344) q345 q135 (by omega) (by omega) (zc_sc (iv_cat _) zc_s0) (by omega) (fun z hz => by cases hz) ⟨by decide, by decide⟩ (n := 0) (by decide +kernel) rfl rfl dX0_goesOn_15 (fun r4 μ5 hr6 => r_k1 ?_)
    refine r_icmp_ge (x := x1) (y := r4) h hx1 hr6 79 dX0_goesOn_18 rfl ?_ ?_
    · exact c_vret h hc rfl dX0_goesOn_79
    · refine c_aload_n (x := x0) h 0 dX0_goesOn_21 rfl rfl ?_
      refine r_ck (fun ht7 => ?_)
      refine c_getR (fin := true) h hc [1] 7 (zc_lk1 h q212) ht7 (by decide) dX0_goesOn_22 ?_
      refine r_iload_n h 1 dX0_goesOn_25 rfl rfl ?_
      refine r_ck (fun ht8 => ?_)
      refine c_ldZ h hc ht8 dX0_goesOn_26 (fun _ hr9 => ?_)
      refine r_if_ne (x := (μ5 (μ5 x0 7) x1)) h hr9.r 33 dX0_goesOn_27 rfl ?_ ?_
      · refine r_goto h 73 dX0_goesOn_30 rfl ?_
        refine r_iinc (lv' := [(1, iv (x1 + 1)), (0, zc_rv G x0)]) h 1 dX0_goesOn_73 rfl (hN _ (by decide)) (by simp [zc_rv_cat]) ?_
        refine r_goto h 7 dX0_goesOn_76 rfl ?_
        refine r_ck (fun hk10 => ?_)
        exact r_lv [1, 0] rfl (ih _ x0 (x1 + 1) hk10)
      · refine c_aload_n (x := x0) h 0 dX0_goesOn_33 rfl rfl ?_
        refine c_getR (fin := true) h hc [1] 4 (zc_lk1 h q209) ht7 (by decide) dX0_goesOn_34 ?_
        refine c_aload_n (x := x0) h 0 dX0_goesOn_37 rfl rfl ?_
        refine c_getI (fin := false) h hc [1] 8 (zc_lk1 h q213) ht7 (by decide) dX0_goesOn_38 (fun hr11 => ?_)
        refine c_aload_n (x := x0) h 0 dX0_goesOn_41 rfl rfl ?_
        refine c_getR (fin := false) h hc [1] 3 (zc_lk1 h q208) ht7 (by decide) dX0_goesOn_42 ?_
        refine r_ck (fun ht12 => ?_)
        refine c_getR (fin := true) h hc [4] 1 (zc_lk3 hc (O := "TreePress$Document") (n := "nodes") (ds := "Ljava/util/ArrayList;") (host := "TreePress") (by decide)) ht12 (by decide) dX0_goesOn_45 ?_
        refine r_iload_n h 1 dX0_goesOn_48 rfl rfl ?_
        refine r_ck (fun ht13 => ?_)
        refine c_callV (x := (μ5 (μ5 x0 3) 1)) h hc (As := [iv x1]) (fun o1 e1 => w_lget _ (μ5 (μ5 x0 3) 1) x1 hx1 o1 e1) [40] ht13 (by decide) q1146 q844 (fun t ht => by cases List.mem_singleton.mp ht; exact q845) q846 q135 (by omega) (by omega) (zc_sc (iv_cat _) (zc_sc (zc_rv_cat G _) zc_s0)) (by omega) (fun z hz => by cases hz) ⟨by decide, by decide⟩ (n := 1) (by decide +kernel) rfl rfl dX0_goesOn_49 (fun r14 μ15 hr16 => r_k4 ?_)
        refine r_ck (fun ht17 => ?_)
        refine c_cast h hc [6, 11, 13, 14] q175 ht17 (by decide) dX0_goesOn_52 ?_
        refine r_ck (fun ht18 => ?_)
        refine c_stR35 (x := (μ5 x0 4)) (y := (μ5 x0 8)) (z := r14) h hc ht18  dX0_goesOn_55 (fun hb21 μ19 he20 => ?_)
        refine c_aload_n (x := x0) h 0 dX0_goesOn_56 rfl rfl ?_
        refine r_dup h dX0_goesOn_57 (zc_rv_cat G _) ?_
        refine r_ck (fun ht22 => ?_)
        refine c_getI (fin := false) h hc [1] 8 (zc_lk1 h q213) ht22 (by decide) dX0_goesOn_58 (fun hr23 => ?_)
        refine r_iconst h dX0_goesOn_61 ?_
        refine r_iadd h dX0_goesOn_62 ?_
        refine r_ck (fun hk24 => ?_)
        refine c_putI (x := x0) (y := ((μ19 x0 8) + 1)) h hc [1] 8 false (zc_lk1 h q213) ht22 (by decide) (Or.inl rfl) hk24 dX0_goesOn_63 (fun μ25 he26 => ?_)
        refine c_aload_n (x := x0) h 0 dX0_goesOn_66 rfl rfl ?_
        refine c_getR (fin := true) h hc [1] 7 (zc_lk1 h q212) (zt_mup he26 (by decide) ht22) (by decide) dX0_goesOn_67 ?_
        refine r_iload_n h 1 dX0_goesOn_70 rfl rfl ?_
        refine r_iconst h dX0_goesOn_71 ?_
        refine r_ck (fun ht27 => ?_)
        refine c_stZ (x := (μ25 x0 7)) (y := x1) (z := 0) h hc ht27 (by decide) dX0_goesOn_72 (fun hb30 μ28 he29 => ?_)
        refine r_iinc (lv' := [(1, iv (x1 + 1)), (0, zc_rv G x0)]) h 1 dX0_goesOn_73 rfl (hN _ (by decide)) (by simp [zc_rv_cat]) ?_
        refine r_goto h 7 dX0_goesOn_76 rfl ?_
        refine r_ck (fun hk31 => ?_)
        exact r_lv [1, 0] rfl (ih _ x0 (x1 + 1) hk31)
def c_X0_goesOn (μ : MEM) (a0 : Int) : Option zc_O := ck (zt [1] (μ a0 (-1)) = true) (nu (mup μ a0 8 0) (fun μ2 => c_X0_goesOn_7 zF μ2 a0 0))
theorem u_X0_goesOn {G : zc_G} (μ : MEM) (a0 : Int) (o : zc_O) (hd : c_X0_goesOn μ a0 = some o) : zc_Met G yX0_goesOn cX0_goesOn 2 (Option.none : Option FieldType) 0 3 64 μ [zc_rv G a0] o := by
  refine zc_intro hd (by decide) (by simp [lg_sl, zc_rv_cat, iv_cat, jv_cat]) (lv := [(0, zc_rv G a0)]) (by simp [lv_args, zc_rv_cat, iv_cat, jv_cat]) (fun C h hc => ?_)
  have h : zv_Ok C cX0_goesOn "TreePress" := h
  have hc : zc_C C G μ 2 (Option.none : Option FieldType) 0 3 64 "goesOn" [] := hc
  have hN : ∀ i, i < 2 → i < zv_n C := fun i q => by rw [hc.2.1]; exact q
  unfold c_X0_goesOn
  refine c_aload_n (x := a0) h 0 dX0_goesOn_0 rfl rfl ?_
  refine r_iconst h dX0_goesOn_1 ?_
  refine r_ck (fun ht1 => ?_)
  refine c_putI (x := a0) (y := 0) h hc [1] 8 false (zc_lk1 h q213) ht1 (by decide) (Or.inl rfl) (by decide) dX0_goesOn_2 (fun μ2 he3 => ?_)
  refine r_iconst h dX0_goesOn_5 ?_
  refine r_istore_n (i := 1) (lv' := [(1, iv 0), (0, zc_rv G a0)]) h dX0_goesOn_6 rfl (hN _ (by decide)) (by simp [zc_rv_cat]) ?_
  exact r_lv [1, 0] rfl (u_X0_goesOn_7 h hc zF _ a0 0 (by decide))
theorem dX0_leadsTo_0 : decode cX0_leadsTo 0 = .ok (.aload_n 0, 1) := by decide +kernel
theorem dX0_leadsTo_1 : decode cX0_leadsTo 1 = .ok (.getfield 33, 3) := by decide +kernel
theorem dX0_leadsTo_4 : decode cX0_leadsTo 4 = .ok (.aload_n 0, 1) := by decide +kernel
theorem dX0_leadsTo_5 : decode cX0_leadsTo 5 = .ok (.getfield 184, 3) := by decide +kernel
theorem dX0_leadsTo_8 : decode cX0_leadsTo 8 = .ok (.aload_n 1, 1) := by decide +kernel
theorem dX0_leadsTo_9 : decode cX0_leadsTo 9 = .ok (.aastore, 1) := by decide +kernel
theorem dX0_leadsTo_10 : decode cX0_leadsTo 10 = .ok (.aload_n 0, 1) := by decide +kernel
theorem dX0_leadsTo_11 : decode cX0_leadsTo 11 = .ok (.dup, 1) := by decide +kernel
theorem dX0_leadsTo_12 : decode cX0_leadsTo 12 = .ok (.getfield 184, 3) := by decide +kernel
theorem dX0_leadsTo_15 : decode cX0_leadsTo 15 = .ok (.iconst 1, 1) := by decide +kernel
theorem dX0_leadsTo_16 : decode cX0_leadsTo 16 = .ok (.iadd, 1) := by decide +kernel
theorem dX0_leadsTo_17 : decode cX0_leadsTo 17 = .ok (.putfield 184, 3) := by decide +kernel
theorem dX0_leadsTo_20 : decode cX0_leadsTo 20 = .ok (.return_, 1) := by decide +kernel
def c_X0_leadsTo (μ : MEM) (a0 a1 : Int) : Option zc_O := ck (zt [1] (μ a0 (-1)) = true) (ck (zt [35] (μ (μ a0 5) (-1)) = true) (ck (a1 = 0 ∨ zt [6, 11, 13, 14] (μ a1 (-1)) = true) (ck ((0 : Int) ≤ (μ a0 9) ∧ (μ a0 9) < μ (μ a0 5) (-2)) (nu (mup μ (μ a0 5) (μ a0 9) a1) (fun μ4 => ck (inR ((μ4 a0 9) + 1)) (nu (mup μ4 a0 9 ((μ4 a0 9) + 1)) (fun μ9 => some (0, 0, μ9))))))))
theorem u_X0_leadsTo {G : zc_G} (μ : MEM) (a0 a1 : Int) (o : zc_O) (hd : c_X0_leadsTo μ a0 a1 = some o) : zc_Met G yX0_leadsTo cX0_leadsTo 2 (Option.none : Option FieldType) 0 0 0 μ [zc_rv G a0, zc_rv G a1] o := by
  refine zc_intro hd (by decide) (by simp [lg_sl, zc_rv_cat, iv_cat, jv_cat]) (lv := [(0, zc_rv G a0), (1, zc_rv G a1)]) (by simp [lv_args, zc_rv_cat, iv_cat, jv_cat]) (fun C h hc => ?_)
  have h : zv_Ok C cX0_leadsTo "TreePress" := h
  have hc : zc_C C G μ 2 (Option.none : Option FieldType) 0 0 0 "leadsTo" [] := hc
  have hN : ∀ i, i < 2 → i < zv_n C := fun i q => by rw [hc.2.1]; exact q
  unfold c_X0_leadsTo
  refine c_aload_n (x := a0) h 0 dX0_leadsTo_0 rfl rfl ?_
  refine r_ck (fun ht1 => ?_)
  refine c_getR (fin := true) h hc [1] 5 (zc_lk1 h q210) ht1 (by decide) dX0_leadsTo_1 ?_
  refine c_aload_n (x := a0) h 0 dX0_leadsTo_4 rfl rfl ?_
  refine c_getI (fin := false) h hc [1] 9 (zc_lk1 h q214) ht1 (by decide) dX0_leadsTo_5 (fun hr2 => ?_)
  refine c_aload_n (x := a1) h 1 dX0_leadsTo_8 rfl rfl ?_
  refine r_ck (fun ht3 => ?_)
  refine c_stR35 (x := (μ a0 5)) (y := (μ a0 9)) (z := a1) h hc ht3  dX0_leadsTo_9 (fun hb6 μ4 he5 => ?_)
  refine c_aload_n (x := a0) h 0 dX0_leadsTo_10 rfl rfl ?_
  refine r_dup h dX0_leadsTo_11 (zc_rv_cat G _) ?_
  refine c_getI (fin := false) h hc [1] 9 (zc_lk1 h q214) (zt_mup he5 hb6.1 ht1) (by decide) dX0_leadsTo_12 (fun hr7 => ?_)
  refine r_iconst h dX0_leadsTo_15 ?_
  refine r_iadd h dX0_leadsTo_16 ?_
  refine r_ck (fun hk8 => ?_)
  refine c_putI (x := a0) (y := ((μ4 a0 9) + 1)) h hc [1] 9 false (zc_lk1 h q214) (zt_mup he5 hb6.1 ht1) (by decide) (Or.inl rfl) hk8 dX0_leadsTo_17 (fun μ9 he10 => ?_)
  exact c_vret h hc rfl dX0_leadsTo_20
theorem dX0_isString_0 : decode cX0_isString 0 = .ok (.aload_n 0, 1) := by decide +kernel
theorem dX0_isString_1 : decode cX0_isString 1 = .ok (.invokevirtual 124, 3) := by decide +kernel
theorem dX0_isString_4 : decode cX0_isString 4 = .ok (.aload_n 1, 1) := by decide +kernel
theorem dX0_isString_5 : decode cX0_isString 5 = .ok (.arraylength, 1) := by decide +kernel
theorem dX0_isString_6 : decode cX0_isString 6 = .ok (.if_icmp .ne 7, 3) := by decide +kernel
theorem dX0_isString_9 : decode cX0_isString 9 = .ok (.iconst 1, 1) := by decide +kernel
theorem dX0_isString_10 : decode cX0_isString 10 = .ok (.goto 4, 3) := by decide +kernel
theorem dX0_isString_13 : decode cX0_isString 13 = .ok (.iconst 0, 1) := by decide +kernel
theorem dX0_isString_14 : decode cX0_isString 14 = .ok (.istore_n 2, 1) := by decide +kernel
theorem dX0_isString_15 : decode cX0_isString 15 = .ok (.iconst 0, 1) := by decide +kernel
theorem dX0_isString_16 : decode cX0_isString 16 = .ok (.istore_n 3, 1) := by decide +kernel
theorem dX0_isString_17 : decode cX0_isString 17 = .ok (.iload_n 3, 1) := by decide +kernel
theorem dX0_isString_18 : decode cX0_isString 18 = .ok (.aload_n 1, 1) := by decide +kernel
theorem dX0_isString_19 : decode cX0_isString 19 = .ok (.arraylength, 1) := by decide +kernel
theorem dX0_isString_20 : decode cX0_isString 20 = .ok (.if_icmp .ge 30, 3) := by decide +kernel
theorem dX0_isString_23 : decode cX0_isString 23 = .ok (.iload_n 2, 1) := by decide +kernel
theorem dX0_isString_24 : decode cX0_isString 24 = .ok (.ifCond .eq 26, 3) := by decide +kernel
theorem dX0_isString_27 : decode cX0_isString 27 = .ok (.aload_n 0, 1) := by decide +kernel
theorem dX0_isString_28 : decode cX0_isString 28 = .ok (.iload_n 3, 1) := by decide +kernel
theorem dX0_isString_29 : decode cX0_isString 29 = .ok (.invokevirtual 137, 3) := by decide +kernel
theorem dX0_isString_32 : decode cX0_isString 32 = .ok (.aload_n 1, 1) := by decide +kernel
theorem dX0_isString_33 : decode cX0_isString 33 = .ok (.iload_n 3, 1) := by decide +kernel
theorem dX0_isString_34 : decode cX0_isString 34 = .ok (.baload, 1) := by decide +kernel
theorem dX0_isString_35 : decode cX0_isString 35 = .ok (.if_icmp .ne 7, 3) := by decide +kernel
theorem dX0_isString_38 : decode cX0_isString 38 = .ok (.iconst 1, 1) := by decide +kernel
theorem dX0_isString_39 : decode cX0_isString 39 = .ok (.goto 4, 3) := by decide +kernel
theorem dX0_isString_42 : decode cX0_isString 42 = .ok (.iconst 0, 1) := by decide +kernel
theorem dX0_isString_43 : decode cX0_isString 43 = .ok (.istore_n 2, 1) := by decide +kernel
theorem dX0_isString_44 : decode cX0_isString 44 = .ok (.iinc 3 1, 3) := by decide +kernel
theorem dX0_isString_47 : decode cX0_isString 47 = .ok (.goto (-30), 3) := by decide +kernel
theorem dX0_isString_50 : decode cX0_isString 50 = .ok (.iload_n 2, 1) := by decide +kernel
theorem dX0_isString_51 : decode cX0_isString 51 = .ok (.ireturn, 1) := by decide +kernel
def c_X0_isString_17 : Nat → MEM → Int → Int → Int → Int → Option zc_O
  | 0, _, _, _, _, _ => none
  | n + 1, μ, x0, x1, x2, x3 => ck (zt [30, 31] (μ x1 (-1)) = true) (if (μ x1 (-2)) ≤ x3 then (some (0, x2, μ)) else (if x2 = 0 then (some (0, x2, μ)) else (ck (zt [6, 11, 13, 14] (μ x0 (-1)) = true) (bc (dv_at μ x0 x3) (fun r4 μ5 => ck (zt [30, 31] (μ5 x1 (-1)) = true) (ck ((0 : Int) ≤ x3 ∧ x3 < μ5 x1 (-2)) (if r4 = (μ5 x1 x3) then (ck (inR (x3 + 1)) (c_X0_isString_17 n μ5 x0 x1 1 (x3 + 1))) else (ck (inR (x3 + 1)) (c_X0_isString_17 n μ5 x0 x1 0 (x3 + 1))))))))))
theorem u_X0_isString_17 {C : zv_Cx zc_O} {G : zc_G} {μ0 : MEM} (h : zv_Ok C cX0_isString "TreePress") (hc : zc_C C G μ0 4 (Option.some FieldType.boolean) 3 73 2829 "isString" []) : ∀ (n : Nat) (μ : MEM) (x0 x1 x2 x3 : Int), isB x2 → inR x3 → VV C (c_X0_isString_17 n μ x0 x1 x2 x3) μ [(0, zc_rv G x0), (1, zc_rv G x1), (2, iv x2), (3, iv x3)] [] 17 := by
  have hN : ∀ i, i < 4 → i < zv_n C := fun i q => by rw [hc.2.1]; exact q
  intro n
  induction n with
  | zero => intros; exact r_none
  | succ n ih =>
    intro μ x0 x1 x2 x3 hx2 hx3
    rw [c_X0_isString_17]
    refine r_iload_n h 3 dX0_isString_17 rfl rfl ?_
    refine c_aload_n (x := x1) h 1 dX0_isString_18 rfl rfl ?_
    refine r_ck (fun ht1 => ?_)
    refine c_alen h hc [30, 31] ht1 (by decide) dX0_isString_19 (fun hr2 => ?_)
    refine r_icmp_ge (x := x3) (y := (μ x1 (-2))) h hx3 hr2 50 dX0_isString_20 rfl ?_ ?_
    · refine r_iload_n h 2 dX0_isString_50 rfl rfl ?_
      exact c_zret h hc rfl hx2 dX0_isString_51
    · refine r_iload_n h 2 dX0_isString_23 rfl rfl ?_
      refine r_if_eq (x := x2) h hx2.r 50 dX0_isString_24 rfl ?_ ?_
      · refine r_iload_n h 2 dX0_isString_50 rfl rfl ?_
        exact c_zret h hc rfl hx2 dX0_isString_51
      · refine c_aload_n (x := x0) h 0 dX0_isString_27 rfl rfl ?_
        refine r_iload_n h 3 dX0_isString_28 rfl rfl ?_
        refine r_ck (fun ht3 => ?_)
        refine cd_at (x := x0) (a0 := x3) h hc (hM := dm_at) hx3 ht3 q1193 (by omega) (by omega) zc_s0 (by omega) (fun z hz => by cases hz) dX0_isString_29 (fun r4 μ5 hr6 => r_k1 ?_)
        refine c_aload_n (x := x1) h 1 dX0_isString_32 rfl rfl ?_
        refine r_iload_n h 3 dX0_isString_33 rfl rfl ?_
        refine r_ck (fun ht7 => ?_)
        refine c_ldB h hc ht7 dX0_isString_34 (fun _ hr8 => ?_)
        refine r_icmp_ne (x := r4) (y := (μ5 x1 x3)) h hr6 hr8.r 42 dX0_isString_35 rfl ?_ ?_
        · refine r_iconst h dX0_isString_38 ?_
          refine r_goto h 43 dX0_isString_39 rfl ?_
          refine r_istore_n (i := 2) (lv' := [(2, iv 1), (0, zc_rv G x0), (1, zc_rv G x1), (3, iv x3)]) h dX0_isString_43 rfl (hN _ (by decide)) (by simp [zc_rv_cat]) ?_
          refine r_iinc (lv' := [(3, iv (x3 + 1)), (2, iv 1), (0, zc_rv G x0), (1, zc_rv G x1)]) h 3 dX0_isString_44 rfl (hN _ (by decide)) rfl ?_
          refine r_goto h 17 dX0_isString_47 rfl ?_
          refine r_ck (fun hk9 => ?_)
          exact r_lv [2, 3, 1, 0] rfl (ih _ x0 x1 1 (x3 + 1) (by decide) hk9)
        · refine r_iconst h dX0_isString_42 ?_
          refine r_istore_n (i := 2) (lv' := [(2, iv 0), (0, zc_rv G x0), (1, zc_rv G x1), (3, iv x3)]) h dX0_isString_43 rfl (hN _ (by decide)) (by simp [zc_rv_cat]) ?_
          refine r_iinc (lv' := [(3, iv (x3 + 1)), (2, iv 0), (0, zc_rv G x0), (1, zc_rv G x1)]) h 3 dX0_isString_44 rfl (hN _ (by decide)) rfl ?_
          refine r_goto h 17 dX0_isString_47 rfl ?_
          refine r_ck (fun hk10 => ?_)
          exact r_lv [2, 3, 1, 0] rfl (ih _ x0 x1 0 (x3 + 1) (by decide) hk10)
def c_X0_isString (μ : MEM) (a0 a1 : Int) : Option zc_O := ck (zt [6, 11, 13, 14] (μ a0 (-1)) = true) (bc (dv_size μ a0) (fun r2 μ3 => ck (zt [30, 31] (μ3 a1 (-1)) = true) (if r2 = (μ3 a1 (-2)) then (c_X0_isString_17 zF μ3 a0 a1 1 0) else (c_X0_isString_17 zF μ3 a0 a1 0 0))))
theorem u_X0_isString {G : zc_G} (μ : MEM) (a0 a1 : Int) (o : zc_O) (hd : c_X0_isString μ a0 a1 = some o) : zc_Met G yX0_isString cX0_isString 4 (Option.some FieldType.boolean) 3 73 2829 μ [zc_rv G a0, zc_rv G a1] o := by
  refine zc_intro hd (by decide) (by simp [lg_sl, zc_rv_cat, iv_cat, jv_cat]) (lv := [(0, zc_rv G a0), (1, zc_rv G a1)]) (by simp [lv_args, zc_rv_cat, iv_cat, jv_cat]) (fun C h hc => ?_)
  have h : zv_Ok C cX0_isString "TreePress" := h
  have hc : zc_C C G μ 4 (Option.some FieldType.boolean) 3 73 2829 "isString" [] := hc
  have hN : ∀ i, i < 4 → i < zv_n C := fun i q => by rw [hc.2.1]; exact q
  unfold c_X0_isString
  refine c_aload_n (x := a0) h 0 dX0_isString_0 rfl rfl ?_
  refine r_ck (fun ht1 => ?_)
  refine cd_size (x := a0)  h hc (hM := dm_size) ht1 q1149 (by omega) (by omega) zc_s0 (by omega) (fun z hz => by cases hz) dX0_isString_1 (fun r2 μ3 hr4 => r_k1 ?_)
  refine c_aload_n (x := a1) h 1 dX0_isString_4 rfl rfl ?_
  refine r_ck (fun ht5 => ?_)
  refine c_alen h hc [30, 31] ht5 (by decide) dX0_isString_5 (fun hr6 => ?_)
  refine r_icmp_ne (x := r2) (y := (μ3 a1 (-2))) h hr4 hr6 13 dX0_isString_6 rfl ?_ ?_
  · refine r_iconst h dX0_isString_9 ?_
    refine r_goto h 14 dX0_isString_10 rfl ?_
    refine r_istore_n (i := 2) (lv' := [(2, iv 1), (0, zc_rv G a0), (1, zc_rv G a1)]) h dX0_isString_14 rfl (hN _ (by decide)) (by simp [zc_rv_cat]) ?_
    refine r_iconst h dX0_isString_15 ?_
    refine r_istore_n (i := 3) (lv' := [(3, iv 0), (2, iv 1), (0, zc_rv G a0), (1, zc_rv G a1)]) h dX0_isString_16 rfl (hN _ (by decide)) rfl ?_
    exact r_lv [2, 3, 1, 0] rfl (u_X0_isString_17 h hc zF _ a0 a1 1 0 (by decide) (by decide))
  · refine r_iconst h dX0_isString_13 ?_
    refine r_istore_n (i := 2) (lv' := [(2, iv 0), (0, zc_rv G a0), (1, zc_rv G a1)]) h dX0_isString_14 rfl (hN _ (by decide)) (by simp [zc_rv_cat]) ?_
    refine r_iconst h dX0_isString_15 ?_
    refine r_istore_n (i := 3) (lv' := [(3, iv 0), (2, iv 0), (0, zc_rv G a0), (1, zc_rv G a1)]) h dX0_isString_16 rfl (hN _ (by decide)) rfl ?_
    exact r_lv [2, 3, 1, 0] rfl (u_X0_isString_17 h hc zF _ a0 a1 0 0 (by decide) (by decide))
theorem dX0_has_0 : decode cX0_has 0 = .ok (.iconst 0, 1) := by decide +kernel
theorem dX0_has_1 : decode cX0_has 1 = .ok (.istore_n 2, 1) := by decide +kernel
theorem dX0_has_2 : decode cX0_has 2 = .ok (.aload_n 0, 1) := by decide +kernel
theorem dX0_has_3 : decode cX0_has 3 = .ok (.getfield 166, 3) := by decide +kernel
theorem dX0_has_6 : decode cX0_has 6 = .ok (.ifCond .eq 58, 3) := by decide +kernel
theorem dX0_has_9 : decode cX0_has 9 = .ok (.aload_n 1, 1) := by decide +kernel
theorem dX0_has_10 : decode cX0_has 10 = .ok (.instanceof 169, 3) := by decide +kernel
theorem dX0_has_13 : decode cX0_has 13 = .ok (.ifCond .eq 51, 3) := by decide +kernel
theorem dX0_has_16 : decode cX0_has 16 = .ok (.aload_n 1, 1) := by decide +kernel
theorem dX0_has_17 : decode cX0_has 17 = .ok (.checkcast 169, 3) := by decide +kernel
theorem dX0_has_20 : decode cX0_has 20 = .ok (.astore_n 3, 1) := by decide +kernel
theorem dX0_has_21 : decode cX0_has 21 = .ok (.aload_n 3, 1) := by decide +kernel
theorem dX0_has_22 : decode cX0_has 22 = .ok (.aload_n 0, 1) := by decide +kernel
theorem dX0_has_23 : decode cX0_has 23 = .ok (.getfield 171, 3) := by decide +kernel
theorem dX0_has_26 : decode cX0_has 26 = .ok (.invokevirtual 173, 3) := by decide +kernel
theorem dX0_has_29 : decode cX0_has 29 = .ok (.astore 5, 2) := by decide +kernel
theorem dX0_has_31 : decode cX0_has 31 = .ok (.aload 5, 2) := by decide +kernel
theorem dX0_has_33 : decode cX0_has 33 = .ok (.ifnull 26, 3) := by decide +kernel
theorem dX0_has_36 : decode cX0_has 36 = .ok (.aload_n 0, 1) := by decide +kernel
theorem dX0_has_37 : decode cX0_has 37 = .ok (.getfield 155, 3) := by decide +kernel
theorem dX0_has_40 : decode cX0_has 40 = .ok (.ifnull 15, 3) := by decide +kernel
theorem dX0_has_43 : decode cX0_has 43 = .ok (.aload 5, 2) := by decide +kernel
theorem dX0_has_45 : decode cX0_has 45 = .ok (.aload_n 0, 1) := by decide +kernel
theorem dX0_has_46 : decode cX0_has 46 = .ok (.getfield 155, 3) := by decide +kernel
theorem dX0_has_49 : decode cX0_has 49 = .ok (.invokestatic 158, 3) := by decide +kernel
theorem dX0_has_52 : decode cX0_has 52 = .ok (.ifCond .eq 7, 3) := by decide +kernel
theorem dX0_has_55 : decode cX0_has 55 = .ok (.iconst 1, 1) := by decide +kernel
theorem dX0_has_56 : decode cX0_has 56 = .ok (.goto 4, 3) := by decide +kernel
theorem dX0_has_59 : decode cX0_has 59 = .ok (.iconst 0, 1) := by decide +kernel
theorem dX0_has_60 : decode cX0_has 60 = .ok (.istore_n 2, 1) := by decide +kernel
theorem dX0_has_61 : decode cX0_has 61 = .ok (.goto 113, 3) := by decide +kernel
theorem dX0_has_64 : decode cX0_has 64 = .ok (.aload_n 0, 1) := by decide +kernel
theorem dX0_has_65 : decode cX0_has 65 = .ok (.getfield 166, 3) := by decide +kernel
theorem dX0_has_68 : decode cX0_has 68 = .ok (.ifCond .ne 106, 3) := by decide +kernel
theorem dX0_has_71 : decode cX0_has 71 = .ok (.aload_n 1, 1) := by decide +kernel
theorem dX0_has_72 : decode cX0_has 72 = .ok (.instanceof 177, 3) := by decide +kernel
theorem dX0_has_75 : decode cX0_has 75 = .ok (.ifCond .eq 99, 3) := by decide +kernel
theorem dX0_has_78 : decode cX0_has 78 = .ok (.aload_n 1, 1) := by decide +kernel
theorem dX0_has_79 : decode cX0_has 79 = .ok (.checkcast 177, 3) := by decide +kernel
theorem dX0_has_82 : decode cX0_has 82 = .ok (.astore 4, 2) := by decide +kernel
theorem dX0_has_84 : decode cX0_has 84 = .ok (.iconst 0, 1) := by decide +kernel
theorem dX0_has_85 : decode cX0_has 85 = .ok (.istore 5, 2) := by decide +kernel
theorem dX0_has_87 : decode cX0_has 87 = .ok (.iload 5, 2) := by decide +kernel
theorem dX0_has_89 : decode cX0_has 89 = .ok (.aload 4, 2) := by decide +kernel
theorem dX0_has_91 : decode cX0_has 91 = .ok (.getfield 179, 3) := by decide +kernel
theorem dX0_has_94 : decode cX0_has 94 = .ok (.invokevirtual 90, 3) := by decide +kernel
theorem dX0_has_97 : decode cX0_has 97 = .ok (.if_icmp .ge 77, 3) := by decide +kernel
theorem dX0_has_100 : decode cX0_has 100 = .ok (.iload_n 2, 1) := by decide +kernel
theorem dX0_has_101 : decode cX0_has 101 = .ok (.ifCond .ne 73, 3) := by decide +kernel
theorem dX0_has_104 : decode cX0_has 104 = .ok (.aload 4, 2) := by decide +kernel
theorem dX0_has_106 : decode cX0_has 106 = .ok (.getfield 179, 3) := by decide +kernel
theorem dX0_has_109 : decode cX0_has 109 = .ok (.iload 5, 2) := by decide +kernel
theorem dX0_has_111 : decode cX0_has 111 = .ok (.invokevirtual 103, 3) := by decide +kernel
theorem dX0_has_114 : decode cX0_has 114 = .ok (.checkcast 27, 3) := by decide +kernel
theorem dX0_has_117 : decode cX0_has 117 = .ok (.astore 6, 2) := by decide +kernel
theorem dX0_has_119 : decode cX0_has 119 = .ok (.aload 6, 2) := by decide +kernel
theorem dX0_has_121 : decode cX0_has 121 = .ok (.invokevirtual 111, 3) := by decide +kernel
theorem dX0_has_124 : decode cX0_has 124 = .ok (.iconst 1, 1) := by decide +kernel
theorem dX0_has_125 : decode cX0_has 125 = .ok (.if_icmp .ne 41, 3) := by decide +kernel
theorem dX0_has_128 : decode cX0_has 128 = .ok (.aload 6, 2) := by decide +kernel
theorem dX0_has_130 : decode cX0_has 130 = .ok (.invokevirtual 120, 3) := by decide +kernel
theorem dX0_has_133 : decode cX0_has 133 = .ok (.aload_n 0, 1) := by decide +kernel
theorem dX0_has_134 : decode cX0_has 134 = .ok (.getfield 171, 3) := by decide +kernel
theorem dX0_has_137 : decode cX0_has 137 = .ok (.invokestatic 180, 3) := by decide +kernel
theorem dX0_has_140 : decode cX0_has 140 = .ok (.ifCond .eq 26, 3) := by decide +kernel
theorem dX0_has_143 : decode cX0_has 143 = .ok (.aload_n 0, 1) := by decide +kernel
theorem dX0_has_144 : decode cX0_has 144 = .ok (.getfield 155, 3) := by decide +kernel
theorem dX0_has_147 : decode cX0_has 147 = .ok (.ifnull 15, 3) := by decide +kernel
theorem dX0_has_150 : decode cX0_has 150 = .ok (.aload 6, 2) := by decide +kernel
theorem dX0_has_152 : decode cX0_has 152 = .ok (.aload_n 0, 1) := by decide +kernel
theorem dX0_has_153 : decode cX0_has 153 = .ok (.getfield 155, 3) := by decide +kernel
theorem dX0_has_156 : decode cX0_has 156 = .ok (.invokestatic 158, 3) := by decide +kernel
theorem dX0_has_159 : decode cX0_has 159 = .ok (.ifCond .eq 7, 3) := by decide +kernel
theorem dX0_has_162 : decode cX0_has 162 = .ok (.iconst 1, 1) := by decide +kernel
theorem dX0_has_163 : decode cX0_has 163 = .ok (.goto 4, 3) := by decide +kernel
theorem dX0_has_166 : decode cX0_has 166 = .ok (.iconst 0, 1) := by decide +kernel
theorem dX0_has_167 : decode cX0_has 167 = .ok (.istore_n 2, 1) := by decide +kernel
theorem dX0_has_168 : decode cX0_has 168 = .ok (.iinc 5 1, 3) := by decide +kernel
theorem dX0_has_171 : decode cX0_has 171 = .ok (.goto (-84), 3) := by decide +kernel
theorem dX0_has_174 : decode cX0_has 174 = .ok (.iload_n 2, 1) := by decide +kernel
theorem dX0_has_175 : decode cX0_has 175 = .ok (.ireturn, 1) := by decide +kernel
def c_X0_has_87 : Nat → MEM → Int → Int → Int → Int → Option zc_O
  | 0, _, _, _, _, _ => none
  | n + 1, μ, x0, x2, x4, x5 => ck (zt [6, 11] (μ x4 (-1)) = true) (ck (zt [40] (μ (μ x4 2) (-1)) = true) (bc (b_lsize μ (μ x4 2)) (fun r3 μ4 => if r3 ≤ x5 then (some (0, x2, μ4)) else (if x2 = 0 then (ck (zt [6, 11] (μ4 x4 (-1)) = true) (ck (zt [40] (μ4 (μ4 x4 2) (-1)) = true) (bc (b_lget μ4 (μ4 x4 2) x5) (fun r8 μ9 => ck (zt [6, 11, 13, 14] (μ9 r8 (-1)) = true) (bc (dv_kind μ9 r8) (fun r12 μ13 => if r12 = 1 then (ck (zt [6, 11, 13, 14] (μ13 r8 (-1)) = true) (bc (dv_name μ13 r8) (fun r16 μ17 => ck (zt [17] (μ17 x0 (-1)) = true) (bc (c_X0_isSame μ17 r16 (μ17 x0 3)) (fun r20 μ21 => if r20 = 0 then (ck (inR (x5 + 1)) (c_X0_has_87 n μ21 x0 0 x4 (x5 + 1))) else (ck (zt [17] (μ21 x0 (-1)) = true) (if (μ21 x0 4) = 0 then (ck (inR (x5 + 1)) (c_X0_has_87 n μ21 x0 1 x4 (x5 + 1))) else (bc (c_X0_isString μ21 r8 (μ21 x0 4)) (fun r26 μ27 => if r26 = 0 then (ck (inR (x5 + 1)) (c_X0_has_87 n μ27 x0 0 x4 (x5 + 1))) else (ck (inR (x5 + 1)) (c_X0_has_87 n μ27 x0 1 x4 (x5 + 1)))))))))))) else (ck (inR (x5 + 1)) (c_X0_has_87 n μ13 x0 0 x4 (x5 + 1))))))))) else (some (0, x2, μ4))))))
theorem u_X0_has_87 {C : zv_Cx zc_O} {G : zc_G} {μ0 : MEM} (h : zv_Ok C cX0_has "TreePress") (hc : zc_C C G μ0 7 (Option.some FieldType.boolean) 3 74 2852 "has" []) : ∀ (n : Nat) (μ : MEM) (x0 x2 x4 x5 : Int), isB x2 → inR x5 → VV C (c_X0_has_87 n μ x0 x2 x4 x5) μ [(0, zc_rv G x0), (2, iv x2), (4, zc_rv G x4), (5, iv x5)] [] 87 := by
  have hN : ∀ i, i < 7 → i < zv_n C := fun i q => by rw [hc.2.1]; exact q
  intro n
  induction n with
  | zero => intros; exact r_none
  | succ n ih =>
    intro μ x0 x2 x4 x5 hx2 hx5
    rw [c_X0_has_87]
    refine r_iload h 3 dX0_has_87 rfl ?_
    refine c_aload (x := x4) h 2 dX0_has_89 rfl ?_
    refine r_ck (fun ht1 => ?_)
    refine c_getR (fin := true) h hc [6, 11] 2 (zc_lk1 h q312) ht1 (by decide) dX0_has_91 ?_
    refine r_ck (fun ht2 => ?_)
    refine c_callV (x := (μ x4 2)) h hc (As := []) (fun o1 e1 => w_lsize _ (μ x4 2) o1 e1) [40] ht2 (by decide) q1130 q343 (fun t ht => by cases List.mem_singleton.mp ht; exact q344) q345 q135 (by omega) (by omega) (zc_sc (iv_cat _) zc_s0) (by omega) (fun z hz => by cases hz) ⟨by decide, by decide⟩ (n := 0) (by decide +kernel) rfl rfl dX0_has_94 (fun r3 μ4 hr5 => r_k1 ?_)
    refine r_icmp_ge (x := x5) (y := r3) h hx5 hr5 174 dX0_has_97 rfl ?_ ?_
    · refine r_iload_n h 1 dX0_has_174 rfl rfl ?_
      exact c_zret h hc rfl hx2 dX0_has_175
    · refine r_iload_n h 1 dX0_has_100 rfl rfl ?_
      refine r_if_ne (x := x2) h hx2.r 174 dX0_has_101 rfl ?_ ?_
      · refine c_aload (x := x4) h 2 dX0_has_104 rfl ?_
        refine r_ck (fun ht6 => ?_)
        refine c_getR (fin := true) h hc [6, 11] 2 (zc_lk1 h q312) ht6 (by decide) dX0_has_106 ?_
        refine r_iload h 3 dX0_has_109 rfl ?_
        refine r_ck (fun ht7 => ?_)
        refine c_callV (x := (μ4 x4 2)) h hc (As := [iv x5]) (fun o1 e1 => w_lget _ (μ4 x4 2) x5 hx5 o1 e1) [40] ht7 (by decide) q1146 q844 (fun t ht => by cases List.mem_singleton.mp ht; exact q845) q846 q135 (by omega) (by omega) zc_s0 (by omega) (fun z hz => by cases hz) ⟨by decide, by decide⟩ (n := 1) (by decide +kernel) rfl rfl dX0_has_111 (fun r8 μ9 hr10 => r_k4 ?_)
        refine r_ck (fun ht11 => ?_)
        refine c_cast h hc [6, 11, 13, 14] q175 ht11 (by decide) dX0_has_114 ?_
        refine c_astore (lv' := [(6, zc_rv G r8), (0, zc_rv G x0), (2, iv x2), (4, zc_rv G x4), (5, iv x5)]) h dX0_has_117 (hN _ (by decide)) rfl ?_
        refine c_aload (x := r8) h 0 dX0_has_119 rfl ?_
        refine cd_kind (x := r8)  h hc (hM := dm_kind) ht11 q1147 (by omega) (by omega) zc_s0 (by omega) (fun z hz => by cases hz) dX0_has_121 (fun r12 μ13 hr14 => r_k1 ?_)
        refine r_iconst h dX0_has_124 ?_
        refine r_icmp_ne (x := r12) (y := 1) h hr14 (by decide) 166 dX0_has_125 rfl ?_ ?_
        · refine c_aload (x := r8) h 0 dX0_has_128 rfl ?_
          refine r_ck (fun ht15 => ?_)
          refine cd_name (x := r8)  h hc (hM := dm_name) ht15 q1148 (by omega) (by omega) zc_s0 (by omega) (fun z hz => by cases hz) dX0_has_130 (fun r16 μ17 hr18 => r_k4 ?_)
          refine c_aload_n (x := x0) h 1 dX0_has_133 rfl rfl ?_
          refine r_ck (fun ht19 => ?_)
          refine c_getR (fin := false) h hc [17] 3 (zc_lk3 hc (O := "TreePress$Test") (n := "name") (ds := "[B") (host := "TreePress") (by decide)) ht19 (by decide) dX0_has_134 ?_
          refine c_callS h hc (As := [zc_rv G r16, zc_rv G (μ17 x0 3)]) (fun o1 e1 => u_X0_isSame _ r16 (μ17 x0 3) o1 e1) q1371 q856 q857 q132 (by omega) (by omega) zc_s0 (by omega) (fun z hz => by cases hz) ⟨by decide, by decide⟩ (n := 2) (by decide +kernel) rfl rfl dX0_has_137 (fun r20 μ21 hr22 => r_k3 ?_)
          refine r_if_eq (x := r20) h hr22.r 166 dX0_has_140 rfl ?_ ?_
          · refine r_iconst h dX0_has_166 ?_
            refine r_istore_n (i := 2) (lv' := [(2, iv 0), (6, zc_rv G r8), (0, zc_rv G x0), (4, zc_rv G x4), (5, iv x5)]) h dX0_has_167 rfl (hN _ (by decide)) rfl ?_
            refine r_iinc (lv' := [(5, iv (x5 + 1)), (2, iv 0), (6, zc_rv G r8), (0, zc_rv G x0), (4, zc_rv G x4)]) h 4 dX0_has_168 rfl (hN _ (by decide)) (by simp [zc_rv_cat]) ?_
            refine r_goto h 87 dX0_has_171 rfl ?_
            refine r_ck (fun hk23 => ?_)
            exact r_lv [3, 1, 4, 0] rfl (ih _ x0 0 x4 (x5 + 1) (by decide) hk23)
          · refine c_aload_n (x := x0) h 1 dX0_has_143 rfl rfl ?_
            refine r_ck (fun ht24 => ?_)
            refine c_getR (fin := false) h hc [17] 4 (zc_lk3 hc (O := "TreePress$Test") (n := "value") (ds := "[B") (host := "TreePress") (by decide)) ht24 (by decide) dX0_has_144 ?_
            refine c_ifnull (x := (μ21 x0 4)) h 162 dX0_has_147 rfl ?_ ?_
            · refine r_iconst h dX0_has_162 ?_
              refine r_goto h 167 dX0_has_163 rfl ?_
              refine r_istore_n (i := 2) (lv' := [(2, iv 1), (6, zc_rv G r8), (0, zc_rv G x0), (4, zc_rv G x4), (5, iv x5)]) h dX0_has_167 rfl (hN _ (by decide)) rfl ?_
              refine r_iinc (lv' := [(5, iv (x5 + 1)), (2, iv 1), (6, zc_rv G r8), (0, zc_rv G x0), (4, zc_rv G x4)]) h 4 dX0_has_168 rfl (hN _ (by decide)) (by simp [zc_rv_cat]) ?_
              refine r_goto h 87 dX0_has_171 rfl ?_
              refine r_ck (fun hk25 => ?_)
              exact r_lv [3, 1, 4, 0] rfl (ih _ x0 1 x4 (x5 + 1) (by decide) hk25)
            · refine c_aload (x := r8) h 0 dX0_has_150 rfl ?_
              refine c_aload_n (x := x0) h 1 dX0_has_152 rfl rfl ?_
              refine c_getR (fin := false) h hc [17] 4 (zc_lk3 hc (O := "TreePress$Test") (n := "value") (ds := "[B") (host := "TreePress") (by decide)) ht24 (by decide) dX0_has_153 ?_
              refine c_callS h hc (As := [zc_rv G r8, zc_rv G (μ21 x0 4)]) (fun o1 e1 => u_X0_isString _ r8 (μ21 x0 4) o1 e1) q1376 q1377 q1378 q132 (by omega) (by omega) zc_s0 (by omega) (fun z hz => by cases hz) ⟨by decide, by decide⟩ (n := 2) (by decide +kernel) rfl rfl dX0_has_156 (fun r26 μ27 hr28 => r_k3 ?_)
              refine r_if_eq (x := r26) h hr28.r 166 dX0_has_159 rfl ?_ ?_
              · refine r_iconst h dX0_has_166 ?_
                refine r_istore_n (i := 2) (lv' := [(2, iv 0), (6, zc_rv G r8), (0, zc_rv G x0), (4, zc_rv G x4), (5, iv x5)]) h dX0_has_167 rfl (hN _ (by decide)) rfl ?_
                refine r_iinc (lv' := [(5, iv (x5 + 1)), (2, iv 0), (6, zc_rv G r8), (0, zc_rv G x0), (4, zc_rv G x4)]) h 4 dX0_has_168 rfl (hN _ (by decide)) (by simp [zc_rv_cat]) ?_
                refine r_goto h 87 dX0_has_171 rfl ?_
                refine r_ck (fun hk29 => ?_)
                exact r_lv [3, 1, 4, 0] rfl (ih _ x0 0 x4 (x5 + 1) (by decide) hk29)
              · refine r_iconst h dX0_has_162 ?_
                refine r_goto h 167 dX0_has_163 rfl ?_
                refine r_istore_n (i := 2) (lv' := [(2, iv 1), (6, zc_rv G r8), (0, zc_rv G x0), (4, zc_rv G x4), (5, iv x5)]) h dX0_has_167 rfl (hN _ (by decide)) rfl ?_
                refine r_iinc (lv' := [(5, iv (x5 + 1)), (2, iv 1), (6, zc_rv G r8), (0, zc_rv G x0), (4, zc_rv G x4)]) h 4 dX0_has_168 rfl (hN _ (by decide)) (by simp [zc_rv_cat]) ?_
                refine r_goto h 87 dX0_has_171 rfl ?_
                refine r_ck (fun hk30 => ?_)
                exact r_lv [3, 1, 4, 0] rfl (ih _ x0 1 x4 (x5 + 1) (by decide) hk30)
        · refine r_iconst h dX0_has_166 ?_
          refine r_istore_n (i := 2) (lv' := [(2, iv 0), (6, zc_rv G r8), (0, zc_rv G x0), (4, zc_rv G x4), (5, iv x5)]) h dX0_has_167 rfl (hN _ (by decide)) rfl ?_
          refine r_iinc (lv' := [(5, iv (x5 + 1)), (2, iv 0), (6, zc_rv G r8), (0, zc_rv G x0), (4, zc_rv G x4)]) h 4 dX0_has_168 rfl (hN _ (by decide)) (by simp [zc_rv_cat]) ?_
          refine r_goto h 87 dX0_has_171 rfl ?_
          refine r_ck (fun hk31 => ?_)
          exact r_lv [3, 1, 4, 0] rfl (ih _ x0 0 x4 (x5 + 1) (by decide) hk31)
      · refine r_iload_n h 1 dX0_has_174 rfl rfl ?_
        exact c_zret h hc rfl hx2 dX0_has_175
def c_X0_has_64 (μ : MEM) (x0 x1 x2 : Int) : Option zc_O := ck (zt [17] (μ x0 (-1)) = true) (if (μ x0 2) = 0 then (ck (zt [6, 11, 13, 14] (μ x1 (-1)) = true) (if (zi [6, 11] (μ x1 (-1))) = 0 then (some (0, x2, μ)) else (ck (zt [6, 11] (μ x1 (-1)) = true) (c_X0_has_87 zF μ x0 x2 x1 0)))) else (some (0, x2, μ)))
theorem u_X0_has_64 {C : zv_Cx zc_O} {G : zc_G} {μ0 : MEM} (h : zv_Ok C cX0_has "TreePress") (hc : zc_C C G μ0 7 (Option.some FieldType.boolean) 3 74 2852 "has" []) (μ : MEM) (x0 x1 x2 : Int) (hx2 : isB x2) : VV C (c_X0_has_64 μ x0 x1 x2) μ [(0, zc_rv G x0), (1, zc_rv G x1), (2, iv x2)] [] 64 := by
  have hN : ∀ i, i < 7 → i < zv_n C := fun i q => by rw [hc.2.1]; exact q
  unfold c_X0_has_64
  refine c_aload_n (x := x0) h 0 dX0_has_64 rfl rfl ?_
  refine r_ck (fun ht1 => ?_)
  refine c_getZ (fin := false) h hc [17] 2 (zc_lk3 hc (O := "TreePress$Test") (n := "side") (ds := "Z") (host := "TreePress") (by decide)) ht1 (by decide) dX0_has_65 (fun hr2 => ?_)
  refine r_if_ne (x := (μ x0 2)) h hr2.r 174 dX0_has_68 rfl ?_ ?_
  · refine c_aload_n (x := x1) h 1 dX0_has_71 rfl rfl ?_
    refine r_ck (fun ht3 => ?_)
    refine c_inst h hc [6, 11, 13, 14] [6, 11] q1357 ht3 (by decide) dX0_has_72 ?_
    refine r_if_eq (x := (zi [6, 11] (μ x1 (-1)))) h ((zi_B _ _)).r 174 dX0_has_75 rfl ?_ ?_
    · refine r_iload_n h 2 dX0_has_174 rfl rfl ?_
      exact c_zret h hc rfl hx2 dX0_has_175
    · refine c_aload_n (x := x1) h 1 dX0_has_78 rfl rfl ?_
      refine r_ck (fun ht4 => ?_)
      refine c_cast h hc [6, 11] q1357 ht4 (by decide) dX0_has_79 ?_
      refine c_astore (lv' := [(4, zc_rv G x1), (0, zc_rv G x0), (1, zc_rv G x1), (2, iv x2)]) h dX0_has_82 (hN _ (by decide)) rfl ?_
      refine r_iconst h dX0_has_84 ?_
      refine r_istore (lv' := [(5, iv 0), (4, zc_rv G x1), (0, zc_rv G x0), (1, zc_rv G x1), (2, iv x2)]) h dX0_has_85 (hN _ (by decide)) (by simp [zc_rv_cat]) ?_
      exact r_lv [2, 4, 1, 0] rfl (u_X0_has_87 h hc zF _ x0 x2 x1 0 hx2 (by decide))
  · refine r_iload_n h 2 dX0_has_174 rfl rfl ?_
    exact c_zret h hc rfl hx2 dX0_has_175
def c_X0_has (μ : MEM) (a0 a1 : Int) : Option zc_O := ck (zt [17] (μ a0 (-1)) = true) (if (μ a0 2) = 0 then (c_X0_has_64 μ a0 a1 0) else (ck (zt [6, 11, 13, 14] (μ a1 (-1)) = true) (if (zi [11] (μ a1 (-1))) = 0 then (c_X0_has_64 μ a0 a1 0) else (ck (zt [11] (μ a1 (-1)) = true) (bc (c_X11_attribute μ a1 (μ a0 3)) (fun r5 μ6 => if r5 = 0 then (some (0, 0, μ6)) else (ck (zt [17] (μ6 a0 (-1)) = true) (if (μ6 a0 4) = 0 then (some (0, 1, μ6)) else (bc (c_X0_isString μ6 r5 (μ6 a0 4)) (fun r9 μ10 => if r9 = 0 then (some (0, 0, μ10)) else (some (0, 1, μ10))))))))))))
theorem u_X0_has {G : zc_G} (μ : MEM) (a0 a1 : Int) (o : zc_O) (hd : c_X0_has μ a0 a1 = some o) : zc_Met G yX0_has cX0_has 7 (Option.some FieldType.boolean) 3 74 2852 μ [zc_rv G a0, zc_rv G a1] o := by
  refine zc_intro hd (by decide) (by simp [lg_sl, zc_rv_cat, iv_cat, jv_cat]) (lv := [(0, zc_rv G a0), (1, zc_rv G a1)]) (by simp [lv_args, zc_rv_cat, iv_cat, jv_cat]) (fun C h hc => ?_)
  have h : zv_Ok C cX0_has "TreePress" := h
  have hc : zc_C C G μ 7 (Option.some FieldType.boolean) 3 74 2852 "has" [] := hc
  have hN : ∀ i, i < 7 → i < zv_n C := fun i q => by rw [hc.2.1]; exact q
  unfold c_X0_has
  refine r_iconst h dX0_has_0 ?_
  refine r_istore_n (i := 2) (lv' := [(2, iv 0), (0, zc_rv G a0), (1, zc_rv G a1)]) h dX0_has_1 rfl (hN _ (by decide)) (by simp [zc_rv_cat]) ?_
  refine c_aload_n (x := a0) h 1 dX0_has_2 rfl rfl ?_
  refine r_ck (fun ht1 => ?_)
  refine c_getZ (fin := false) h hc [17] 2 (zc_lk3 hc (O := "TreePress$Test") (n := "side") (ds := "Z") (host := "TreePress") (by decide)) ht1 (by decide) dX0_has_3 (fun hr2 => ?_)
  refine r_if_eq (x := (μ a0 2)) h hr2.r 64 dX0_has_6 rfl ?_ ?_
  · exact r_lv [1, 2, 0] rfl (u_X0_has_64 h hc _ a0 a1 0 (by decide))
  · refine c_aload_n (x := a1) h 2 dX0_has_9 rfl rfl ?_
    refine r_ck (fun ht3 => ?_)
    refine c_inst h hc [6, 11, 13, 14] [11] q1370 ht3 (by decide) dX0_has_10 ?_
    refine r_if_eq (x := (zi [11] (μ a1 (-1)))) h ((zi_B _ _)).r 64 dX0_has_13 rfl ?_ ?_
    · exact r_lv [1, 2, 0] rfl (u_X0_has_64 h hc _ a0 a1 0 (by decide))
    · refine c_aload_n (x := a1) h 2 dX0_has_16 rfl rfl ?_
      refine r_ck (fun ht4 => ?_)
      refine c_cast h hc [11] q1370 ht4 (by decide) dX0_has_17 ?_
      refine c_astore_n (i := 3) (lv' := [(3, zc_rv G a1), (2, iv 0), (0, zc_rv G a0), (1, zc_rv G a1)]) h dX0_has_20 rfl (hN _ (by decide)) rfl ?_
      refine c_aload_n (x := a1) h 0 dX0_has_21 rfl rfl ?_
      refine c_aload_n (x := a0) h 2 dX0_has_22 rfl rfl ?_
      refine c_getR (fin := false) h hc [17] 3 (zc_lk3 hc (O := "TreePress$Test") (n := "name") (ds := "[B") (host := "TreePress") (by decide)) ht1 (by decide) dX0_has_23 ?_
      refine c_callV (x := a1) h hc (As := [zc_rv G (μ a0 3)]) (fun o1 e1 => u_X11_attribute _ a1 (μ a0 3) o1 e1) [11] ht4 (by decide) q1382 q950 (fun t ht => by cases List.mem_singleton.mp ht; exact q951) q952 q158 (by omega) (by omega) zc_s0 (by omega) (fun z hz => by cases hz) ⟨by decide, by decide⟩ (n := 1) (by decide +kernel) rfl rfl dX0_has_26 (fun r5 μ6 hr7 => r_k4 ?_)
      refine c_astore (lv' := [(5, zc_rv G r5), (3, zc_rv G a1), (2, iv 0), (0, zc_rv G a0), (1, zc_rv G a1)]) h dX0_has_29 (hN _ (by decide)) rfl ?_
      refine c_aload (x := r5) h 0 dX0_has_31 rfl ?_
      refine c_ifnull (x := r5) h 59 dX0_has_33 rfl ?_ ?_
      · refine r_iconst h dX0_has_59 ?_
        refine r_istore_n (i := 2) (lv' := [(2, iv 0), (5, zc_rv G r5), (3, zc_rv G a1), (0, zc_rv G a0), (1, zc_rv G a1)]) h dX0_has_60 rfl (hN _ (by decide)) (by simp [zc_rv_cat]) ?_
        refine r_goto h 174 dX0_has_61 rfl ?_
        refine r_iload_n h 0 dX0_has_174 rfl rfl ?_
        exact c_zret h hc rfl (by decide) dX0_has_175
      · refine c_aload_n (x := a0) h 3 dX0_has_36 rfl rfl ?_
        refine r_ck (fun ht8 => ?_)
        refine c_getR (fin := false) h hc [17] 4 (zc_lk3 hc (O := "TreePress$Test") (n := "value") (ds := "[B") (host := "TreePress") (by decide)) ht8 (by decide) dX0_has_37 ?_
        refine c_ifnull (x := (μ6 a0 4)) h 55 dX0_has_40 rfl ?_ ?_
        · refine r_iconst h dX0_has_55 ?_
          refine r_goto h 60 dX0_has_56 rfl ?_
          refine r_istore_n (i := 2) (lv' := [(2, iv 1), (5, zc_rv G r5), (3, zc_rv G a1), (0, zc_rv G a0), (1, zc_rv G a1)]) h dX0_has_60 rfl (hN _ (by decide)) (by simp [zc_rv_cat]) ?_
          refine r_goto h 174 dX0_has_61 rfl ?_
          refine r_iload_n h 0 dX0_has_174 rfl rfl ?_
          exact c_zret h hc rfl (by decide) dX0_has_175
        · refine c_aload (x := r5) h 0 dX0_has_43 rfl ?_
          refine c_aload_n (x := a0) h 3 dX0_has_45 rfl rfl ?_
          refine c_getR (fin := false) h hc [17] 4 (zc_lk3 hc (O := "TreePress$Test") (n := "value") (ds := "[B") (host := "TreePress") (by decide)) ht8 (by decide) dX0_has_46 ?_
          refine c_callS h hc (As := [zc_rv G r5, zc_rv G (μ6 a0 4)]) (fun o1 e1 => u_X0_isString _ r5 (μ6 a0 4) o1 e1) q1376 q1377 q1378 q132 (by omega) (by omega) zc_s0 (by omega) (fun z hz => by cases hz) ⟨by decide, by decide⟩ (n := 2) (by decide +kernel) rfl rfl dX0_has_49 (fun r9 μ10 hr11 => r_k3 ?_)
          refine r_if_eq (x := r9) h hr11.r 59 dX0_has_52 rfl ?_ ?_
          · refine r_iconst h dX0_has_59 ?_
            refine r_istore_n (i := 2) (lv' := [(2, iv 0), (5, zc_rv G r5), (3, zc_rv G a1), (0, zc_rv G a0), (1, zc_rv G a1)]) h dX0_has_60 rfl (hN _ (by decide)) (by simp [zc_rv_cat]) ?_
            refine r_goto h 174 dX0_has_61 rfl ?_
            refine r_iload_n h 0 dX0_has_174 rfl rfl ?_
            exact c_zret h hc rfl (by decide) dX0_has_175
          · refine r_iconst h dX0_has_55 ?_
            refine r_goto h 60 dX0_has_56 rfl ?_
            refine r_istore_n (i := 2) (lv' := [(2, iv 1), (5, zc_rv G r5), (3, zc_rv G a1), (0, zc_rv G a0), (1, zc_rv G a1)]) h dX0_has_60 rfl (hN _ (by decide)) (by simp [zc_rv_cat]) ?_
            refine r_goto h 174 dX0_has_61 rfl ?_
            refine r_iload_n h 0 dX0_has_174 rfl rfl ?_
            exact c_zret h hc rfl (by decide) dX0_has_175
theorem dX0_passes_0 : decode cX0_passes 0 = .ok (.aload_n 0, 1) := by decide +kernel
theorem dX0_passes_1 : decode cX0_passes 1 = .ok (.getfield 151, 3) := by decide +kernel
theorem dX0_passes_4 : decode cX0_passes 4 = .ok (.tableswitch 66 0 3 #[32, 46, 66, 57], 32) := by decide +kernel
theorem dX0_passes_36 : decode cX0_passes 36 = .ok (.iload_n 2, 1) := by decide +kernel
theorem dX0_passes_37 : decode cX0_passes 37 = .ok (.aload_n 0, 1) := by decide +kernel
theorem dX0_passes_38 : decode cX0_passes 38 = .ok (.getfield 154, 3) := by decide +kernel
theorem dX0_passes_41 : decode cX0_passes 41 = .ok (.if_icmp .ne 7, 3) := by decide +kernel
theorem dX0_passes_44 : decode cX0_passes 44 = .ok (.iconst 1, 1) := by decide +kernel
theorem dX0_passes_45 : decode cX0_passes 45 = .ok (.goto 4, 3) := by decide +kernel
theorem dX0_passes_48 : decode cX0_passes 48 = .ok (.iconst 0, 1) := by decide +kernel
theorem dX0_passes_49 : decode cX0_passes 49 = .ok (.ireturn, 1) := by decide +kernel
theorem dX0_passes_50 : decode cX0_passes 50 = .ok (.iload_n 2, 1) := by decide +kernel
theorem dX0_passes_51 : decode cX0_passes 51 = .ok (.iload_n 3, 1) := by decide +kernel
theorem dX0_passes_52 : decode cX0_passes 52 = .ok (.if_icmp .ne 7, 3) := by decide +kernel
theorem dX0_passes_55 : decode cX0_passes 55 = .ok (.iconst 1, 1) := by decide +kernel
theorem dX0_passes_56 : decode cX0_passes 56 = .ok (.goto 4, 3) := by decide +kernel
theorem dX0_passes_59 : decode cX0_passes 59 = .ok (.iconst 0, 1) := by decide +kernel
theorem dX0_passes_60 : decode cX0_passes 60 = .ok (.ireturn, 1) := by decide +kernel
theorem dX0_passes_61 : decode cX0_passes 61 = .ok (.aload_n 1, 1) := by decide +kernel
theorem dX0_passes_62 : decode cX0_passes 62 = .ok (.aload_n 0, 1) := by decide +kernel
theorem dX0_passes_63 : decode cX0_passes 63 = .ok (.getfield 155, 3) := by decide +kernel
theorem dX0_passes_66 : decode cX0_passes 66 = .ok (.invokestatic 158, 3) := by decide +kernel
theorem dX0_passes_69 : decode cX0_passes 69 = .ok (.ireturn, 1) := by decide +kernel
theorem dX0_passes_70 : decode cX0_passes 70 = .ok (.aload_n 0, 1) := by decide +kernel
theorem dX0_passes_71 : decode cX0_passes 71 = .ok (.aload_n 1, 1) := by decide +kernel
theorem dX0_passes_72 : decode cX0_passes 72 = .ok (.invokestatic 162, 3) := by decide +kernel
theorem dX0_passes_75 : decode cX0_passes 75 = .ok (.ireturn, 1) := by decide +kernel
def c_X0_passes (μ : MEM) (a0 a1 a2 a3 : Int) : Option zc_O := ck (zt [17] (μ a0 (-1)) = true) (if (μ a0 0) = 0 then (if a2 = (μ a0 1) then (some (0, 1, μ)) else (some (0, 0, μ))) else if (μ a0 0) = 1 then (if a2 = a3 then (some (0, 1, μ)) else (some (0, 0, μ))) else if (μ a0 0) = 2 then (bc (c_X0_has μ a0 a1) (fun r7 μ8 => some (0, r7, μ8))) else if (μ a0 0) = 3 then (bc (c_X0_isString μ a1 (μ a0 4)) (fun r11 μ12 => some (0, r11, μ12))) else (bc (c_X0_has μ a0 a1) (fun r14 μ15 => some (0, r14, μ15))))
theorem u_X0_passes {G : zc_G} (μ : MEM) (a0 a1 a2 a3 : Int) (ha2 : inR a2) (ha3 : inR a3) (o : zc_O) (hd : c_X0_passes μ a0 a1 a2 a3 = some o) : zc_Met G yX0_passes cX0_passes 4 (Option.some FieldType.boolean) 3 75 2878 μ [zc_rv G a0, zc_rv G a1, iv a2, iv a3] o := by
  refine zc_intro hd (by decide) (by simp [lg_sl, zc_rv_cat, iv_cat, jv_cat]) (lv := [(0, zc_rv G a0), (1, zc_rv G a1), (2, iv a2), (3, iv a3)]) (by simp [lv_args, zc_rv_cat, iv_cat, jv_cat]) (fun C h hc => ?_)
  have h : zv_Ok C cX0_passes "TreePress" := h
  have hc : zc_C C G μ 4 (Option.some FieldType.boolean) 3 75 2878 "passes" [] := hc
  have hN : ∀ i, i < 4 → i < zv_n C := fun i q => by rw [hc.2.1]; exact q
  unfold c_X0_passes
  refine c_aload_n (x := a0) h 0 dX0_passes_0 rfl rfl ?_
  refine r_ck (fun ht1 => ?_)
  refine c_getI (fin := false) h hc [17] 0 (zc_lk3 hc (O := "TreePress$Test") (n := "kind") (ds := "I") (host := "TreePress") (by decide)) ht1 (by decide) dX0_passes_1 (fun hr2 => ?_)
  refine r_if (fun he3 => ?_) (fun he3 => ?_)
  · refine r_tsIn h 0 36 hr2 he3 dX0_passes_4 (by decide) (by decide) rfl rfl ?_
    refine r_iload_n h 2 dX0_passes_36 rfl rfl ?_
    refine c_aload_n (x := a0) h 0 dX0_passes_37 rfl rfl ?_
    refine c_getI (fin := false) h hc [17] 1 (zc_lk3 hc (O := "TreePress$Test") (n := "place") (ds := "I") (host := "TreePress") (by decide)) ht1 (by decide) dX0_passes_38 (fun hr4 => ?_)
    refine r_icmp_ne (x := a2) (y := (μ a0 1)) h ha2 hr4 48 dX0_passes_41 rfl ?_ ?_
    · refine r_iconst h dX0_passes_44 ?_
      refine r_goto h 49 dX0_passes_45 rfl ?_
      exact c_zret h hc rfl (by decide) dX0_passes_49
    · refine r_iconst h dX0_passes_48 ?_
      exact c_zret h hc rfl (by decide) dX0_passes_49
  refine r_if (fun he5 => ?_) (fun he5 => ?_)
  · refine r_tsIn h 1 50 hr2 he5 dX0_passes_4 (by decide) (by decide) rfl rfl ?_
    refine r_iload_n h 2 dX0_passes_50 rfl rfl ?_
    refine r_iload_n h 3 dX0_passes_51 rfl rfl ?_
    refine r_icmp_ne (x := a2) (y := a3) h ha2 ha3 59 dX0_passes_52 rfl ?_ ?_
    · refine r_iconst h dX0_passes_55 ?_
      refine r_goto h 60 dX0_passes_56 rfl ?_
      exact c_zret h hc rfl (by decide) dX0_passes_60
    · refine r_iconst h dX0_passes_59 ?_
      exact c_zret h hc rfl (by decide) dX0_passes_60
  refine r_if (fun he6 => ?_) (fun he6 => ?_)
  · refine r_tsIn h 2 70 hr2 he6 dX0_passes_4 (by decide) (by decide) rfl rfl ?_
    refine c_aload_n (x := a0) h 0 dX0_passes_70 rfl rfl ?_
    refine c_aload_n (x := a1) h 1 dX0_passes_71 rfl rfl ?_
    refine c_callS h hc (As := [zc_rv G a0, zc_rv G a1]) (fun o1 e1 => u_X0_has _ a0 a1 o1 e1) q1379 q1380 q1381 q132 (by omega) (by omega) zc_s0 (by omega) (fun z hz => by cases hz) ⟨by decide, by decide⟩ (n := 2) (by decide +kernel) rfl rfl dX0_passes_72 (fun r7 μ8 hr9 => r_k3 ?_)
    exact c_zret h hc rfl hr9 dX0_passes_75
  refine r_if (fun he10 => ?_) (fun he10 => ?_)
  · refine r_tsIn h 3 61 hr2 he10 dX0_passes_4 (by decide) (by decide) rfl rfl ?_
    refine c_aload_n (x := a1) h 1 dX0_passes_61 rfl rfl ?_
    refine c_aload_n (x := a0) h 0 dX0_passes_62 rfl rfl ?_
    refine c_getR (fin := false) h hc [17] 4 (zc_lk3 hc (O := "TreePress$Test") (n := "value") (ds := "[B") (host := "TreePress") (by decide)) ht1 (by decide) dX0_passes_63 ?_
    refine c_callS h hc (As := [zc_rv G a1, zc_rv G (μ a0 4)]) (fun o1 e1 => u_X0_isString _ a1 (μ a0 4) o1 e1) q1376 q1377 q1378 q132 (by omega) (by omega) zc_s0 (by omega) (fun z hz => by cases hz) ⟨by decide, by decide⟩ (n := 2) (by decide +kernel) rfl rfl dX0_passes_66 (fun r11 μ12 hr13 => r_k3 ?_)
    exact c_zret h hc rfl hr13 dX0_passes_69
  refine r_tsOut h 70 hr2 (by omega) dX0_passes_4 rfl ?_
  refine c_aload_n (x := a0) h 0 dX0_passes_70 rfl rfl ?_
  refine c_aload_n (x := a1) h 1 dX0_passes_71 rfl rfl ?_
  refine c_callS h hc (As := [zc_rv G a0, zc_rv G a1]) (fun o1 e1 => u_X0_has _ a0 a1 o1 e1) q1379 q1380 q1381 q132 (by omega) (by omega) zc_s0 (by omega) (fun z hz => by cases hz) ⟨by decide, by decide⟩ (n := 2) (by decide +kernel) rfl rfl dX0_passes_72 (fun r14 μ15 hr16 => r_k3 ?_)
  exact c_zret h hc rfl hr16 dX0_passes_75
