set_option maxRecDepth 100000
/-! THE CLASS SIDE: arrays, new cells, casts, constants (written by wip/gen/carr.py) -/
theorem zc_arr {G : zc_G} {U : State} (hK : zc_K G U) {t : Nat} (h1 : 31 ≤ t) (h2 : t ≤ 36) : ArrOfT U (zc_ac G t) (zc_et t) ∧ va_RA U (zc_ac G t) (zc_et t) := hK.2.1 t h1 h2
/-- the cell of what is ours, and its class's name -/
theorem zc_cell {G : zc_G} {U : State} {μ : MEM} {H : Heap} {x : Int} (hK : zc_K G U) (hH : zc_H G μ H) {t : Nat} (hz : μ x (-1) = (t : Int)) (ht : t ∈ 36 :: zc_vt) : ∃ cell : Cell, H[zc_ad G x]? = some cell ∧ cell.vm = .none ∧ U.vm.findClass (zc_nmt t) = some cell.cls := by
  have hr := hH.2.2.1 x t hz
  have ob : 0 < zc_N t → zc_R t = zc_nmt t → ∃ cell : Cell, H[zc_ad G x]? = some cell ∧ cell.vm = .none ∧ U.vm.findClass (zc_nmt t) = some cell.cls := fun hN e => by
    obtain ⟨f, ⟨cell, a1, a2, a3, a4⟩, hf⟩ := hr.1 hN
    exact ⟨cell, a1, a3, by rw [← e, a2]; exact (hK.1 t hN).2.1⟩
  have ar : 31 ≤ t → t ≤ 36 → U.vm.findClass (zc_nmt t) = some (zc_ac G t) → ∃ cell : Cell, H[zc_ad G x]? = some cell ∧ cell.vm = .none ∧ U.vm.findClass (zc_nmt t) = some cell.cls := fun a b e => by
    obtain ⟨c1, c2, c3, c4⟩ := hr.2.1 a b
    exact ⟨_, c3, rfl, e⟩
  simp only [zc_vt, List.mem_cons, List.not_mem_nil, or_false] at ht
  rcases ht with rfl | rfl | rfl | rfl | rfl | rfl | rfl | rfl | rfl | rfl | rfl | rfl | rfl | rfl | rfl | rfl | rfl | rfl | rfl | rfl | rfl | rfl | rfl | rfl

  · exact ar (by decide) (by decide) (by obtain ⟨_, _, _, _, _, e⟩ := (zc_arr hK (t := 36) (by decide) (by decide)).2; exact e)
  · exact ob (by decide) rfl
  · exact ob (by decide) rfl
  · exact ob (by decide) rfl
  · exact ob (by decide) rfl
  · exact ob (by decide) rfl
  · exact ob (by decide) rfl
  · exact ob (by decide) rfl
  · exact ob (by decide) rfl
  · exact ob (by decide) rfl
  · exact ob (by decide) rfl
  · exact ob (by decide) rfl
  · exact ob (by decide) rfl
  · exact ob (by decide) rfl
  · exact ob (by decide) rfl
  · exact ob (by decide) rfl
  · exact ob (by decide) rfl
  · exact ob (by decide) rfl
  · exact ar (by decide) (by decide) (zc_arr hK (t := 31) (by decide) (by decide)).2
  · exact ar (by decide) (by decide) (zc_arr hK (t := 32) (by decide) (by decide)).2
  · exact ar (by decide) (by decide) (zc_arr hK (t := 33) (by decide) (by decide)).2
  · exact ar (by decide) (by decide) (zc_arr hK (t := 34) (by decide) (by decide)).2
  · exact ar (by decide) (by decide) (by obtain ⟨_, _, _, _, _, e⟩ := (zc_arr hK (t := 35) (by decide) (by decide)).2; exact e)
  · obtain ⟨f, w, e, ⟨cell, a1, a2, a3, a4⟩, _⟩ := hr.2.2.1 rfl
    exact ⟨cell, a1, a3, by rw [a2]; exact (hK.1 21 (by decide)).2.1⟩
theorem zc_cb_len {n : Nat} (h : n ∈ zc_cl) : (zc_cb n).length < 100 := by
  revert n
  decide +kernel
theorem zc_cb_Y {n : Nat} (h : n ∈ zc_cl) (i : Nat) : isY ((zc_cb n).getD i 0) := by
  have key : ∀ n ∈ zc_cl, ∀ z ∈ zc_cb n, isY z := by decide +kernel
  by_cases hi : i < (zc_cb n).length
  · rw [List.getD_eq_getElem?_getD, List.getElem?_eq_getElem hi]
    exact key n h _ (List.getElem_mem hi)
  · rw [List.getD_eq_getElem?_getD, List.getElem?_eq_none (by omega)]
    decide
section ZC
variable {C : zv_Cx zc_O} {G : zc_G} {cc : ByteArray} {own : String} {μ0 : MEM} {nL : Nat} {ret : Option FieldType} {rk fr lo : Nat} {nm : String} {xt : List ExceptionTableEntry} {d d1 d2 : Option zc_O} {μ : MEM} {lv lv' : List (Nat × Value)} {st : List Value} {pc : Nat} {x y z : Int}
theorem c_alen (h : zv_Ok C cc own) (hc : zc_C C G μ0 nL ret rk fr lo nm xt) (ts : List Nat) (hts : zt ts (μ x (-1)) = true) (hq : ts.all (fun t => decide (30 ≤ t) && decide (t ≤ 37)) = true) (hd : decode cc pc = .ok (.arraylength, 1))
    (kk : inR (μ x (-2)) → VV C d μ lv (iv (μ x (-2)) :: st) (pc + 1)) : VV C d μ lv (zc_rv G x :: st) pc := by
  obtain ⟨t, ht, hz⟩ := zt_mem hts
  have hq := Bool.and_eq_true_iff.mp (List.all_eq_true.mp hq t ht)
  have q1 := of_decide_eq_true hq.1
  have q2 := of_decide_eq_true hq.2
  intro o ho H locs cells slots ls hR hl
  have hR0 := hR
  have hK := hc.1
  rw [hc.2.2.2.2.2.1] at hR0
  have hx0 : x ≠ 0 := zc_ne0 hR0.1 hz (by omega)
  have hrow := hR0.1.2.2.1 x t hz
  rw [zc_rv_n G hx0]
  have fin : ∀ (cell : Cell) (ty : FieldType) (n : Nat), H[zc_ad G x]? = some cell → (zv_s C).isArrayOf cell ty → cell.slots.size.toInt32 = Int32.ofNat n → μ x (-2) = (n : Int) → n < 2147483648 → zv_W C H locs cells slots o (F0 (zv_m C) pc ls (.ref (zc_ad G x) :: st)) := fun cell ty n w1 w2 w3 w4 w5 => by
    refine W.alen h.1 h.2.1 w1 w2 ?_ rfl rfl hd (kk ⟨by omega, by omega⟩ o ho H locs cells slots ls hR hl)
    rw [w3, w4]
    apply Int32.toInt_inj.mp
    rw [oi_t ⟨by omega, by omega⟩, Int32.toInt_ofNat_of_lt (by omega)]
  by_cases e30 : t = 30
  · obtain ⟨k1, k2, k3, k4⟩ := hrow.2.2.2.1 e30
    obtain ⟨cell, w1, w2, w3, w4, w5, w6, w7⟩ := hK.2.2.2.2.2.2.2.2.2.2.2.1 _ k2
    have hlen : (zc_cb (-x).toNat).length < 100 := zc_cb_len k2
    exact fin cell .byte _ (by unfold zc_ad; rw [if_neg (by omega)]; rw [hR0.1.2.2.2.2 _ (Array.getElem?_eq_some_iff.mp w1).1]; exact w1) w2 w5 k3 (by omega)
  · by_cases e37 : t = 37
    · obtain ⟨k1, k2⟩ : x = -51 ∧ μ x (-2) = 0 := (hrow.2.2.2.2 (Or.inl e37)).elim (fun w => w.2) (fun w => absurd w.1 (by omega))
      obtain ⟨cell, w1, w2, w3, w4, w5, w6, w7⟩ := hK.2.2.2.2.2.2.2.2.2.2.2.2.2.2.1
      subst k1
      exact fin cell _ 0 (by rw [show zc_ad G (-51) = zc_st G 51 from rfl, hR0.1.2.2.2.2 _ (Array.getElem?_eq_some_iff.mp w1).1]; exact w1) w2 w5 k2 (by omega)
    · obtain ⟨c1, c2, c3, c4⟩ := hrow.2.1 (by omega) (by omega)
      exact fin _ _ (μ x (-2)).toNat c3 ((zc_arr hK (by omega) (by omega)).1 _ _) (by rw [arrV_size]) (by omega) (by omega)
theorem c_ldB (h : zv_Ok C cc own) (hc : zc_C C G μ0 nL ret rk fr lo nm xt) (hts : zt [30, 31] (μ x (-1)) = true) (hd : decode cc pc = .ok (.baload, 1))
    (kk : 0 ≤ y ∧ y < μ x (-2) → isY (μ x y) → VV C d μ lv (iv (μ x y) :: st) (pc + 1)) : VV C (ck (0 ≤ y ∧ y < μ x (-2)) d) μ lv (iv y :: zc_rv G x :: st) pc := by
  refine r_ck (fun hy => ?_)
  obtain ⟨t, ht, hz⟩ := zt_mem hts
  have hq : t = 30 ∨ t = 31 := by simpa using ht
  intro o ho H locs cells slots ls hR hl
  have hR0 := hR
  have hK := hc.1
  rw [hc.2.2.2.2.2.1] at hR0
  have hx0 : x ≠ 0 := zc_ne0 hR0.1 hz (by omega)
  have hrow := hR0.1.2.2.1 x t hz
  have hxn : ((y.toNat : Nat) : Int) = y := by omega
  rw [zc_rv_n G hx0]
  rcases hq with e | e
  · obtain ⟨k1, k2, k3, k4⟩ := hrow.2.2.2.1 e
    obtain ⟨cell, w1, w2, w3, w4, w5, w6, w7⟩ := hK.2.2.2.2.2.2.2.2.2.2.2.1 _ k2
    have hlen : (zc_cb (-x).toNat).length < 100 := zc_cb_len k2
    obtain ⟨i1, i2⟩ := zv_ix (n := (zc_cb (-x).toNat).length) (i := y) (by omega) (by omega)
    have hv := k4 y.toNat (by omega)
    rw [hxn] at hv
    have hin : ¬ (Int32.ofInt y < 0 ∨ cell.slots.size ≤ (Int32.ofInt y).toNatClampNeg) := fun q => i2 (q.elim Or.inl (fun z => Or.inr (Nat.le_trans w4 z)))
    refine W.bald h.1 h.2.1 (cell := cell) (by unfold zc_ad; rw [if_neg (by omega)]; rw [hR0.1.2.2.2.2 _ (Array.getElem?_eq_some_iff.mp w1).1]; exact w1) w2 w3 hin (v := iv (μ x y)) ?_ rfl rfl hd (kk hy (by rw [hv]; exact zc_cb_Y k2 _) o ho H locs cells slots ls hR hl)
    rw [i1, w6 y.toNat (by omega), hv]
  · subst e
    obtain ⟨c1, c2, c3, c4⟩ := hrow.2.1 (by omega) (by omega)
    obtain ⟨i1, i2⟩ := zv_ix (n := (μ x (-2)).toNat) (i := y) (by omega) (by omega)
    have her := c4 y.toNat (by omega)
    rw [hxn] at her
    refine W.bald h.1 h.2.1 c3 ((zc_arr hK (t := 31) (by omega) (by omega)).1 _ _) (fun q => by cases q) (by rw [arrV_size]; exact i2) (v := iv (μ x y)) ?_ rfl rfl hd (kk hy her o ho H locs cells slots ls hR hl)
    rw [i1, arrV_read _ _ (by omega), hxn]
    rfl
theorem c_ldZ (h : zv_Ok C cc own) (hc : zc_C C G μ0 nL ret rk fr lo nm xt) (hts : zt [32] (μ x (-1)) = true) (hd : decode cc pc = .ok (.baload, 1))
    (kk : 0 ≤ y ∧ y < μ x (-2) → isB (μ x y) → VV C d μ lv (iv (μ x y) :: st) (pc + 1)) : VV C (ck (0 ≤ y ∧ y < μ x (-2)) d) μ lv (iv y :: zc_rv G x :: st) pc := by
  refine r_ck (fun hy => ?_)
  obtain ⟨t, ht, hz⟩ := zt_mem hts
  have hq : t = 32 := by simpa using ht
  intro o ho H locs cells slots ls hR hl
  have hR0 := hR
  have hK := hc.1
  rw [hc.2.2.2.2.2.1] at hR0
  have hx0 : x ≠ 0 := zc_ne0 hR0.1 hz (by omega)
  obtain ⟨c1, c2, c3, c4⟩ := (hR0.1.2.2.1 x t hz).2.1 (by omega) (by omega)
  obtain ⟨i1, i2⟩ := zv_ix (n := (μ x (-2)).toNat) (i := y) (by omega) (by omega)
  have hxn : ((y.toNat : Nat) : Int) = y := by omega
  have her := c4 y.toNat (by omega)
  rw [hxn] at her
  have hA := (zc_arr hK (t := t) (by omega) (by omega)).1 (μ x (-2)).toNat (fun i => zc_ev G t (μ x i))
  have hev : zc_ev G t (μ x y) = iv (μ x y) := by rcases hq with rfl <;> rfl
  have hpr : isB (μ x y) := by rcases hq with rfl <;> exact her
  have hty : zc_et t = .boolean := by rcases hq with rfl <;> rfl
  rw [hty] at hA
  rw [zc_rv_n G hx0]
  refine W.zald h.1 h.2.1 c3 hA (fun q => by cases q) (by rw [arrV_size]; exact i2) (v := iv (μ x y)) ?_ rfl rfl hd (kk hy hpr o ho H locs cells slots ls hR hl)
  rw [i1, arrV_read _ _ (by omega), hxn, hev]
theorem c_ldI (h : zv_Ok C cc own) (hc : zc_C C G μ0 nL ret rk fr lo nm xt) (hts : zt [33] (μ x (-1)) = true) (hd : decode cc pc = .ok (.iaload, 1))
    (kk : 0 ≤ y ∧ y < μ x (-2) → inR (μ x y) → VV C d μ lv (iv (μ x y) :: st) (pc + 1)) : VV C (ck (0 ≤ y ∧ y < μ x (-2)) d) μ lv (iv y :: zc_rv G x :: st) pc := by
  refine r_ck (fun hy => ?_)
  obtain ⟨t, ht, hz⟩ := zt_mem hts
  have hq : t = 33 := by simpa using ht
  intro o ho H locs cells slots ls hR hl
  have hR0 := hR
  have hK := hc.1
  rw [hc.2.2.2.2.2.1] at hR0
  have hx0 : x ≠ 0 := zc_ne0 hR0.1 hz (by omega)
  obtain ⟨c1, c2, c3, c4⟩ := (hR0.1.2.2.1 x t hz).2.1 (by omega) (by omega)
  obtain ⟨i1, i2⟩ := zv_ix (n := (μ x (-2)).toNat) (i := y) (by omega) (by omega)
  have hxn : ((y.toNat : Nat) : Int) = y := by omega
  have her := c4 y.toNat (by omega)
  rw [hxn] at her
  have hA := (zc_arr hK (t := t) (by omega) (by omega)).1 (μ x (-2)).toNat (fun i => zc_ev G t (μ x i))
  have hev : zc_ev G t (μ x y) = iv (μ x y) := by rcases hq with rfl <;> rfl
  have hpr : inR (μ x y) := by rcases hq with rfl <;> exact her
  have hty : zc_et t = .int := by rcases hq with rfl <;> rfl
  rw [hty] at hA
  rw [zc_rv_n G hx0]
  refine W.iald h.1 h.2.1 c3 hA (fun q => by cases q) (by rw [arrV_size]; exact i2) (v := iv (μ x y)) ?_ rfl rfl hd (kk hy hpr o ho H locs cells slots ls hR hl)
  rw [i1, arrV_read _ _ (by omega), hxn, hev]
theorem c_ldJ (h : zv_Ok C cc own) (hc : zc_C C G μ0 nL ret rk fr lo nm xt) (hts : zt [34] (μ x (-1)) = true) (hd : decode cc pc = .ok (.laload, 1))
    (kk : 0 ≤ y ∧ y < μ x (-2) → inL (μ x y) → VV C d μ lv (jv (μ x y) :: st) (pc + 1)) : VV C (ck (0 ≤ y ∧ y < μ x (-2)) d) μ lv (iv y :: zc_rv G x :: st) pc := by
  refine r_ck (fun hy => ?_)
  obtain ⟨t, ht, hz⟩ := zt_mem hts
  have hq : t = 34 := by simpa using ht
  intro o ho H locs cells slots ls hR hl
  have hR0 := hR
  have hK := hc.1
  rw [hc.2.2.2.2.2.1] at hR0
  have hx0 : x ≠ 0 := zc_ne0 hR0.1 hz (by omega)
  obtain ⟨c1, c2, c3, c4⟩ := (hR0.1.2.2.1 x t hz).2.1 (by omega) (by omega)
  obtain ⟨i1, i2⟩ := zv_ix (n := (μ x (-2)).toNat) (i := y) (by omega) (by omega)
  have hxn : ((y.toNat : Nat) : Int) = y := by omega
  have her := c4 y.toNat (by omega)
  rw [hxn] at her
  have hA := (zc_arr hK (t := t) (by omega) (by omega)).1 (μ x (-2)).toNat (fun i => zc_ev G t (μ x i))
  have hev : zc_ev G t (μ x y) = jv (μ x y) := by rcases hq with rfl <;> rfl
  have hpr : inL (μ x y) := by rcases hq with rfl <;> exact her
  have hty : zc_et t = .long := by rcases hq with rfl <;> rfl
  rw [hty] at hA
  rw [zc_rv_n G hx0]
  refine W.lald h.1 h.2.1 c3 hA (fun q => by cases q) (by rw [arrV_size]; exact i2) (v := jv (μ x y)) ?_ rfl rfl hd (kk hy hpr o ho H locs cells slots ls hR hl)
  rw [i1, arrV_read _ _ (by omega), hxn, hev]
theorem c_ldR35 (h : zv_Ok C cc own) (hc : zc_C C G μ0 nL ret rk fr lo nm xt) (hts : zt [35] (μ x (-1)) = true) (hd : decode cc pc = .ok (.aaload, 1))
    (kk : 0 ≤ y ∧ y < μ x (-2) → VV C d μ lv (zc_rv G (μ x y) :: st) (pc + 1)) : VV C (ck (0 ≤ y ∧ y < μ x (-2)) d) μ lv (iv y :: zc_rv G x :: st) pc := by
  refine r_ck (fun hy => ?_)
  obtain ⟨t, ht, hz⟩ := zt_mem hts
  have hq : t = 35 := by simpa using ht
  subst hq
  intro o ho H locs cells slots ls hR hl
  have hR0 := hR
  have hK := hc.1
  rw [hc.2.2.2.2.2.1] at hR0
  have hx0 : x ≠ 0 := zc_ne0 hR0.1 hz (by omega)
  obtain ⟨c1, c2, c3, c4⟩ := (hR0.1.2.2.1 x 35 hz).2.1 (by omega) (by omega)
  obtain ⟨i1, i2⟩ := zv_ix (n := (μ x (-2)).toNat) (i := y) (by omega) (by omega)
  have hxn : ((y.toNat : Nat) : Int) = y := by omega
  have hA := (zc_arr hK (t := 35) (by omega) (by omega)).1 (μ x (-2)).toNat (fun i => zc_ev G 35 (μ x i))
  rw [zc_rv_n G hx0]
  refine W.aald h.1 h.2.1 c3 hA rfl (fun q => by cases q) (by rw [arrV_size]; exact i2) (v := zc_rv G (μ x y)) ?_ rfl rfl hd (kk hy o ho H locs cells slots ls hR hl)
  rw [i1, arrV_read _ _ (by omega), hxn]
  rfl
theorem c_ldR36 (h : zv_Ok C cc own) (hc : zc_C C G μ0 nL ret rk fr lo nm xt) (hts : zt [36] (μ x (-1)) = true) (hd : decode cc pc = .ok (.aaload, 1))
    (kk : 0 ≤ y ∧ y < μ x (-2) → VV C d μ lv (zc_rv G (μ x y) :: st) (pc + 1)) : VV C (ck (0 ≤ y ∧ y < μ x (-2)) d) μ lv (iv y :: zc_rv G x :: st) pc := by
  refine r_ck (fun hy => ?_)
  obtain ⟨t, ht, hz⟩ := zt_mem hts
  have hq : t = 36 := by simpa using ht
  subst hq
  intro o ho H locs cells slots ls hR hl
  have hR0 := hR
  have hK := hc.1
  rw [hc.2.2.2.2.2.1] at hR0
  have hx0 : x ≠ 0 := zc_ne0 hR0.1 hz (by omega)
  obtain ⟨c1, c2, c3, c4⟩ := (hR0.1.2.2.1 x 36 hz).2.1 (by omega) (by omega)
  obtain ⟨i1, i2⟩ := zv_ix (n := (μ x (-2)).toNat) (i := y) (by omega) (by omega)
  have hxn : ((y.toNat : Nat) : Int) = y := by omega
  have hA := (zc_arr hK (t := 36) (by omega) (by omega)).1 (μ x (-2)).toNat (fun i => zc_ev G 36 (μ x i))
  rw [zc_rv_n G hx0]
  refine W.aald h.1 h.2.1 c3 hA rfl (fun q => by cases q) (by rw [arrV_size]; exact i2) (v := zc_rv G (μ x y)) ?_ rfl rfl hd (kk hy o ho H locs cells slots ls hR hl)
  rw [i1, arrV_read _ _ (by omega), hxn]
  rfl
theorem zc_stRow {H H' : Heap} {locs : List Loc} {cells slots : Nat} {t : Nat} (h1 : 31 ≤ t) (h2 : t ≤ 36) {i : Nat} {v : Value} (hR0 : zc_Rel G μ0 (zv_s C).heap μ H locs cells slots) (hz : μ x (-1) = (t : Int)) (hi : (i : Int) < μ x (-2)) (hv : zc_ev G t z = v) (hr : zc_er t z)
    (b1 : H'[(x - 1).toNat]? = some ((arrV (zc_ac G t) (μ x (-2)).toNat (fun i => zc_ev G t (μ x i))).setSlot i v)) (b2 : H'.size = H.size) (b3 : ∀ q, q ≠ (x - 1).toNat → H'[q]? = H[q]?) : zc_Rel G μ0 (zv_s C).heap (mup μ x i z) H' (locs ++ [⟨(x - 1).toNat, i⟩]) cells slots := by
  have hxp := zc_H_pos hR0.1 hz (by omega) (by omega)
  obtain ⟨c1, c2, c3, c4⟩ := (hR0.1.2.2.1 x t hz).2.1 (by omega) h2
  have e3 : mup μ x i z x (-1) = μ x (-1) := mup_n μ z (fun q => by omega)
  have e4 : mup μ x i z x (-2) = μ x (-2) := mup_n μ z (fun q => by omega)
  refine zc_Rel.upd (μ' := mup μ x i z) hR0 hz ⟨by omega, ⟨by omega, by omega⟩, by omega, by omega⟩ b2 b3 (fun y' j hy' => mup_n μ z (fun q => hy' q.1)) e3 ?_ _
  intro t' ht'
  rw [e3, hz] at ht'
  have e5 : t = t' := by omega
  subst e5
  refine ⟨fun hN => ?_, fun _ _ => ⟨by rw [e4]; exact c1, by rw [e4]; exact c2, ?_, fun j hj => ?_⟩, fun q => by omega, fun q => by omega, fun q => by omega⟩
  · have h9 := zc_tg hN
    simp only [zc_tags, List.mem_cons, List.not_mem_nil, or_false] at h9
    omega
  · rw [zc_ad_p (by omega), b1, e4, arrV_store]
    congr 2
    funext j
    unfold updV
    by_cases ej : j = i
    · rw [if_pos ej, ej, mup_s, hv]
    · rw [if_neg ej, mup_n μ z (fun q => by omega)]
  · rw [e4] at hj
    by_cases ej : j = i
    · rw [ej, mup_s]; exact hr
    · rw [mup_n μ z (fun q => by omega)]; exact c4 j hj
theorem c_stB (h : zv_Ok C cc own) (hc : zc_C C G μ0 nL ret rk fr lo nm xt) (hts : zt [31] (μ x (-1)) = true) (hv : isY z) (hd : decode cc pc = .ok (.bastore, 1)) {kd' : MEM → Option zc_O}
    (kk : 0 ≤ y ∧ y < μ x (-2) → ∀ μ', μ' = mup μ x y z → VV C (kd' μ') μ' lv st (pc + 1)) : VV C (ck (0 ≤ y ∧ y < μ x (-2)) (nu (mup μ x y z) kd')) μ lv (iv z :: iv y :: zc_rv G x :: st) pc := by
  refine r_ck (fun hy => ?_)
  obtain ⟨t, ht, hz⟩ := zt_mem hts
  have hq : t = 31 := by simpa using ht
  subst hq
  intro o ho H locs cells slots ls hR hl
  have hR0 := hR
  have hK := hc.1
  have e1 := hc.2.2.2.2.2.1
  rw [e1] at hR0
  have hxp := zc_H_pos hR0.1 hz (by omega) (by omega)
  have hx1 : 0 < x := by omega
  obtain ⟨c1, c2, c3, c4⟩ := (hR0.1.2.2.1 x 31 hz).2.1 (by omega) (by omega)
  obtain ⟨i1, i2⟩ := zv_ix (n := (μ x (-2)).toNat) (i := y) (by omega) (by omega)
  have hxn : ((y.toNat : Nat) : Int) = y := by omega
  rw [zc_ad_p hx1] at c3
  rw [zc_rv_p G hx1]
  refine W.bast h.1 h.2.1 c3 ((zc_arr hK (t := 31) (by omega) (by omega)).1 _ _) (fun q => by cases q) (by rw [arrV_size]; exact i2) rfl rfl hd fun H' b1 b2 b3 => ?_
  rw [show narrow .byte (.int (Int32.ofInt z)) = .int (Int32.ofInt z) from zv_nY hv] at b1
  rw [i1] at b1 ⊢
  refine kk hy _ rfl o ho H' _ cells slots ls ?_ hl
  rw [e1]
  have := zc_stRow (t := 31) (i := y.toNat) (z := z) (by omega) (by omega) hR0 hz (by omega) rfl hv b1 b2 b3
  rw [hxn] at this
  exact this
theorem c_stZ (h : zv_Ok C cc own) (hc : zc_C C G μ0 nL ret rk fr lo nm xt) (hts : zt [32] (μ x (-1)) = true) (hv : isB z) (hd : decode cc pc = .ok (.bastore, 1)) {kd' : MEM → Option zc_O}
    (kk : 0 ≤ y ∧ y < μ x (-2) → ∀ μ', μ' = mup μ x y z → VV C (kd' μ') μ' lv st (pc + 1)) : VV C (ck (0 ≤ y ∧ y < μ x (-2)) (nu (mup μ x y z) kd')) μ lv (iv z :: iv y :: zc_rv G x :: st) pc := by
  refine r_ck (fun hy => ?_)
  obtain ⟨t, ht, hz⟩ := zt_mem hts
  have hq : t = 32 := by simpa using ht
  subst hq
  intro o ho H locs cells slots ls hR hl
  have hR0 := hR
  have hK := hc.1
  have e1 := hc.2.2.2.2.2.1
  rw [e1] at hR0
  have hxp := zc_H_pos hR0.1 hz (by omega) (by omega)
  have hx1 : 0 < x := by omega
  obtain ⟨c1, c2, c3, c4⟩ := (hR0.1.2.2.1 x 32 hz).2.1 (by omega) (by omega)
  obtain ⟨i1, i2⟩ := zv_ix (n := (μ x (-2)).toNat) (i := y) (by omega) (by omega)
  have hxn : ((y.toNat : Nat) : Int) = y := by omega
  rw [zc_ad_p hx1] at c3
  rw [zc_rv_p G hx1]
  refine W.zast h.1 h.2.1 c3 ((zc_arr hK (t := 32) (by omega) (by omega)).1 _ _) (fun q => by cases q) (by rw [arrV_size]; exact i2) rfl rfl hd fun H' b1 b2 b3 => ?_
  rw [show narrow .boolean (.int (Int32.ofInt z)) = .int (Int32.ofInt z) from (zv_nB hv).1] at b1
  rw [i1] at b1 ⊢
  refine kk hy _ rfl o ho H' _ cells slots ls ?_ hl
  rw [e1]
  have := zc_stRow (t := 32) (i := y.toNat) (z := z) (by omega) (by omega) hR0 hz (by omega) rfl hv b1 b2 b3
  rw [hxn] at this
  exact this
theorem c_stI (h : zv_Ok C cc own) (hc : zc_C C G μ0 nL ret rk fr lo nm xt) (hts : zt [33] (μ x (-1)) = true) (hv : inR z) (hd : decode cc pc = .ok (.iastore, 1)) {kd' : MEM → Option zc_O}
    (kk : 0 ≤ y ∧ y < μ x (-2) → ∀ μ', μ' = mup μ x y z → VV C (kd' μ') μ' lv st (pc + 1)) : VV C (ck (0 ≤ y ∧ y < μ x (-2)) (nu (mup μ x y z) kd')) μ lv (iv z :: iv y :: zc_rv G x :: st) pc := by
  refine r_ck (fun hy => ?_)
  obtain ⟨t, ht, hz⟩ := zt_mem hts
  have hq : t = 33 := by simpa using ht
  subst hq
  intro o ho H locs cells slots ls hR hl
  have hR0 := hR
  have hK := hc.1
  have e1 := hc.2.2.2.2.2.1
  rw [e1] at hR0
  have hxp := zc_H_pos hR0.1 hz (by omega) (by omega)
  have hx1 : 0 < x := by omega
  obtain ⟨c1, c2, c3, c4⟩ := (hR0.1.2.2.1 x 33 hz).2.1 (by omega) (by omega)
  obtain ⟨i1, i2⟩ := zv_ix (n := (μ x (-2)).toNat) (i := y) (by omega) (by omega)
  have hxn : ((y.toNat : Nat) : Int) = y := by omega
  rw [zc_ad_p hx1] at c3
  rw [zc_rv_p G hx1]
  refine W.iast h.1 h.2.1 c3 ((zc_arr hK (t := 33) (by omega) (by omega)).1 _ _) (fun q => by cases q) (by rw [arrV_size]; exact i2) rfl rfl hd fun H' b1 b2 b3 => ?_
  rw [i1] at b1 ⊢
  refine kk hy _ rfl o ho H' _ cells slots ls ?_ hl
  rw [e1]
  have := zc_stRow (t := 33) (i := y.toNat) (z := z) (by omega) (by omega) hR0 hz (by omega) rfl hv b1 b2 b3
  rw [hxn] at this
  exact this
theorem c_stJ (h : zv_Ok C cc own) (hc : zc_C C G μ0 nL ret rk fr lo nm xt) (hts : zt [34] (μ x (-1)) = true) (hv : inL z) (hd : decode cc pc = .ok (.lastore, 1)) {kd' : MEM → Option zc_O}
    (kk : 0 ≤ y ∧ y < μ x (-2) → ∀ μ', μ' = mup μ x y z → VV C (kd' μ') μ' lv st (pc + 1)) : VV C (ck (0 ≤ y ∧ y < μ x (-2)) (nu (mup μ x y z) kd')) μ lv (jv z :: iv y :: zc_rv G x :: st) pc := by
  refine r_ck (fun hy => ?_)
  obtain ⟨t, ht, hz⟩ := zt_mem hts
  have hq : t = 34 := by simpa using ht
  subst hq
  intro o ho H locs cells slots ls hR hl
  have hR0 := hR
  have hK := hc.1
  have e1 := hc.2.2.2.2.2.1
  rw [e1] at hR0
  have hxp := zc_H_pos hR0.1 hz (by omega) (by omega)
  have hx1 : 0 < x := by omega
  obtain ⟨c1, c2, c3, c4⟩ := (hR0.1.2.2.1 x 34 hz).2.1 (by omega) (by omega)
  obtain ⟨i1, i2⟩ := zv_ix (n := (μ x (-2)).toNat) (i := y) (by omega) (by omega)
  have hxn : ((y.toNat : Nat) : Int) = y := by omega
  rw [zc_ad_p hx1] at c3
  rw [zc_rv_p G hx1]
  refine W.last h.1 h.2.1 c3 ((zc_arr hK (t := 34) (by omega) (by omega)).1 _ _) (fun q => by cases q) (by rw [arrV_size]; exact i2) rfl rfl hd fun H' b1 b2 b3 => ?_
  rw [i1] at b1 ⊢
  refine kk hy _ rfl o ho H' _ cells slots ls ?_ hl
  rw [e1]
  have := zc_stRow (t := 34) (i := y.toNat) (z := z) (by omega) (by omega) hR0 hz (by omega) rfl hv b1 b2 b3
  rw [hxn] at this
  exact this
theorem zc_as35 {U : State} (hK : zc_K G U) {tv : Nat} (htv : tv ∈ [6, 11, 13, 14]) : va_Nw (.castable (zc_nmt tv) "TreePress$Node") U := by
  refine hK.2.2.2.2.2.1 (zc_nmt tv, "TreePress$Node") ?_
  simp only [zc_vt, List.mem_cons, List.not_mem_nil, or_false] at htv
  rcases htv with rfl | rfl | rfl | rfl <;> decide
theorem c_stR35 (h : zv_Ok C cc own) (hc : zc_C C G μ0 nL ret rk fr lo nm xt) (hts : zt [35] (μ x (-1)) = true) (hd : decode cc pc = .ok (.aastore, 1)) {kd' : MEM → Option zc_O}
    (kk : 0 ≤ y ∧ y < μ x (-2) → ∀ μ', μ' = mup μ x y z → VV C (kd' μ') μ' lv st (pc + 1)) : VV C (ck (z = 0 ∨ zt [6, 11, 13, 14] (μ z (-1)) = true) (ck (0 ≤ y ∧ y < μ x (-2)) (nu (mup μ x y z) kd'))) μ lv (zc_rv G z :: iv y :: zc_rv G x :: st) pc := by
  refine r_ck (fun hzz => ?_)
  refine r_ck (fun hy => ?_)
  obtain ⟨t, ht, hz⟩ := zt_mem hts
  have hq : t = 35 := by simpa using ht
  subst hq
  intro o ho H locs cells slots ls hR hl
  have hR0 := hR
  have hK := hc.1
  have e1 := hc.2.2.2.2.2.1
  rw [e1] at hR0
  have hxp := zc_H_pos hR0.1 hz (by omega) (by omega)
  have hx1 : 0 < x := by omega
  obtain ⟨c1, c2, c3, c4⟩ := (hR0.1.2.2.1 x 35 hz).2.1 (by omega) (by omega)
  obtain ⟨i1, i2⟩ := zv_ix (n := (μ x (-2)).toNat) (i := y) (by omega) (by omega)
  have hxn : ((y.toNat : Nat) : Int) = y := by omega
  rw [zc_ad_p hx1] at c3
  rw [zc_rv_p G hx1]
  obtain ⟨kA, comp, k1, k2, k3, k4⟩ := (zc_arr hK (t := 35) (by omega) (by omega)).2
  have fini : ∀ H' : Heap, H'[(x - 1).toNat]? = some ((arrV (zc_ac G 35) (μ x (-2)).toNat (fun i => zc_ev G 35 (μ x i))).setSlot (Int32.ofInt y).toNatClampNeg (zc_rv G z)) → H'.size = H.size → (∀ q, q ≠ (x - 1).toNat → H'[q]? = H[q]?) → zv_W C H' (locs ++ [⟨(x - 1).toNat, (Int32.ofInt y).toNatClampNeg⟩]) cells slots o (F0 (zv_m C) (pc + 1) ls st) := by
    intro H' b1 b2 b3
    rw [i1] at b1 ⊢
    refine kk hy _ rfl o ho H' _ cells slots ls ?_ hl
    rw [e1]
    have := zc_stRow (t := 35) (i := y.toNat) (z := z) (by omega) (by omega) hR0 hz (by omega) rfl trivial b1 b2 b3
    rw [hxn] at this
    exact this
  by_cases ez : z = 0
  · subst ez
    exact va_WaastN (C := "TreePress$Node") h.1 h.2.1 c3 ((zc_arr hK (t := 35) (by omega) (by omega)).1 _ _) (fun q => by cases q) (by rw [arrV_size]; exact i2) rfl rfl hd fini
  · obtain ⟨tv, htv, hzv⟩ := zt_mem (hzz.resolve_left ez)
    obtain ⟨cv, v1, v2, v3⟩ := zc_cell hK hR0.1 hzv (List.mem_cons_of_mem _ (by revert htv; simp only [zc_vt, List.mem_cons, List.not_mem_nil, or_false]; omega))
    obtain ⟨kv, hkv⟩ : ∃ kv, (zv_s C).vm.classes[cv.cls]? = some kv := Vm.classAt_of_findClass v3
    obtain ⟨kcomp, hkcomp⟩ : ∃ k, (zv_s C).vm.classes[comp]? = some k := Vm.classAt_of_findClass k3
    have hasg := vb_asgC (zc_as35 hK htv) comp cv.cls k3 v3
    rw [zc_rv_n G ez] at fini ⊢
    refine W.aast h.1 h.2.1 c3 (fun q e => by cases e) (fun e => by cases e) k1 k2 rfl hkcomp ⟨fun q => i2 (Or.inl q), by rw [arrV_size]; exact Nat.not_le.mp (fun q => i2 (Or.inr q))⟩ v1 (fun q e => by rw [v2] at e; cases e) hkv hasg rfl rfl hd fini
theorem zc_as36 {U : State} (hK : zc_K G U) {tv : Nat} (htv : tv ∈ zc_vt) : va_Nw (.castable (zc_nmt tv) "java/lang/Object") U := by
  refine hK.2.2.2.2.2.1 (zc_nmt tv, "java/lang/Object") ?_
  simp only [zc_vt, List.mem_cons, List.not_mem_nil, or_false] at htv
  rcases htv with rfl | rfl | rfl | rfl | rfl | rfl | rfl | rfl | rfl | rfl | rfl | rfl | rfl | rfl | rfl | rfl | rfl | rfl | rfl | rfl | rfl | rfl | rfl <;> decide
theorem c_stR36 (h : zv_Ok C cc own) (hc : zc_C C G μ0 nL ret rk fr lo nm xt) (hts : zt [36] (μ x (-1)) = true) (hd : decode cc pc = .ok (.aastore, 1)) {kd' : MEM → Option zc_O}
    (kk : 0 ≤ y ∧ y < μ x (-2) → ∀ μ', μ' = mup μ x y z → VV C (kd' μ') μ' lv st (pc + 1)) : VV C (ck (z = 0 ∨ zt zc_vt (μ z (-1)) = true) (ck (0 ≤ y ∧ y < μ x (-2)) (nu (mup μ x y z) kd'))) μ lv (zc_rv G z :: iv y :: zc_rv G x :: st) pc := by
  refine r_ck (fun hzz => ?_)
  refine r_ck (fun hy => ?_)
  obtain ⟨t, ht, hz⟩ := zt_mem hts
  have hq : t = 36 := by simpa using ht
  subst hq
  intro o ho H locs cells slots ls hR hl
  have hR0 := hR
  have hK := hc.1
  have e1 := hc.2.2.2.2.2.1
  rw [e1] at hR0
  have hxp := zc_H_pos hR0.1 hz (by omega) (by omega)
  have hx1 : 0 < x := by omega
  obtain ⟨c1, c2, c3, c4⟩ := (hR0.1.2.2.1 x 36 hz).2.1 (by omega) (by omega)
  obtain ⟨i1, i2⟩ := zv_ix (n := (μ x (-2)).toNat) (i := y) (by omega) (by omega)
  have hxn : ((y.toNat : Nat) : Int) = y := by omega
  rw [zc_ad_p hx1] at c3
  rw [zc_rv_p G hx1]
  obtain ⟨kA, comp, k1, k2, k3, k4⟩ := (zc_arr hK (t := 36) (by omega) (by omega)).2
  have fini : ∀ H' : Heap, H'[(x - 1).toNat]? = some ((arrV (zc_ac G 36) (μ x (-2)).toNat (fun i => zc_ev G 36 (μ x i))).setSlot (Int32.ofInt y).toNatClampNeg (zc_rv G z)) → H'.size = H.size → (∀ q, q ≠ (x - 1).toNat → H'[q]? = H[q]?) → zv_W C H' (locs ++ [⟨(x - 1).toNat, (Int32.ofInt y).toNatClampNeg⟩]) cells slots o (F0 (zv_m C) (pc + 1) ls st) := by
    intro H' b1 b2 b3
    rw [i1] at b1 ⊢
    refine kk hy _ rfl o ho H' _ cells slots ls ?_ hl
    rw [e1]
    have := zc_stRow (t := 36) (i := y.toNat) (z := z) (by omega) (by omega) hR0 hz (by omega) rfl trivial b1 b2 b3
    rw [hxn] at this
    exact this
  by_cases ez : z = 0
  · subst ez
    exact va_WaastN (C := "java/lang/Object") h.1 h.2.1 c3 ((zc_arr hK (t := 36) (by omega) (by omega)).1 _ _) (fun q => by cases q) (by rw [arrV_size]; exact i2) rfl rfl hd fini
  · obtain ⟨tv, htv, hzv⟩ := zt_mem (hzz.resolve_left ez)
    obtain ⟨cv, v1, v2, v3⟩ := zc_cell hK hR0.1 hzv (List.mem_cons_of_mem _ (by revert htv; simp only [zc_vt, List.mem_cons, List.not_mem_nil, or_false]; omega))
    obtain ⟨kv, hkv⟩ : ∃ kv, (zv_s C).vm.classes[cv.cls]? = some kv := Vm.classAt_of_findClass v3
    obtain ⟨kcomp, hkcomp⟩ : ∃ k, (zv_s C).vm.classes[comp]? = some k := Vm.classAt_of_findClass k3
    have hasg := vb_asgC (zc_as36 hK htv) comp cv.cls k3 v3
    rw [zc_rv_n G ez] at fini ⊢
    refine W.aast h.1 h.2.1 c3 (fun q e => by cases e) (fun e => by cases e) k1 k2 rfl hkcomp ⟨fun q => i2 (Or.inl q), by rw [arrV_size]; exact Nat.not_le.mp (fun q => i2 (Or.inr q))⟩ v1 (fun q e => by rw [v2] at e; cases e) hkv hasg rfl rfl hd fini
theorem c_new (h : zv_Ok C cc own) (hc : zc_C C G μ0 nL ret rk fr lo nm xt) {index : Nat} (t : Nat) {N : Nat} (hN : zc_N t = N) (hp : 0 < N) (q1 : Cond.classLink own index (zc_R t) ∈ lw_all) (q2 : Cond.instantiable (zc_R t) N ∈ lw_all) (q3 : Cond.initialized (zc_R t) ∈ lw_all) (hd : decode cc pc = .ok (.new index, 3)) {kd' : MEM → Option zc_O}
    (kk : 1 ≤ μ 0 1 ∧ (N : Int) ≤ μ 0 2 → ∀ μ', μ' = mnew μ t 0 N → VV C (kd' μ') μ' lv (zc_rv G (μ 0 0) :: st) (pc + 3)) : VV C (ck (1 ≤ μ 0 1 ∧ (N : Int) ≤ μ 0 2) (nu (mnew μ t 0 N) kd')) μ lv st pc := by
  subst hN
  refine r_ck (fun hroom => ?_)
  intro o ho H locs cells slots ls hR hl
  have hR0 := hR
  obtain ⟨hK, hn0, hr0, hlk0, hRm, e1, e2, hxt, hL, hnm⟩ := hc
  rw [e1] at hR0
  have hcl := hR0.2.2.2.2.2.2.1
  have hsl := hR0.2.2.2.2.2.2.2.1
  have h00 := hR0.2.2.1
  have hfc := (hK.1 t hp).2.1
  refine W.newcK h.1 h.2.1 h.2.2.2.1 (h.2.2.2.2 _ q1) (h.2.2.2.2 _ q2) (h.2.2.2.2 _ q3) rfl hd (by rw [hRm]; show _ ≤ (μ0 0 1).toNat; omega) (by rw [hRm]; show _ ≤ (μ0 0 2).toNat; omega) hfc rfl fun H' kC hkC b1 b2 b3 => ?_
  have hk := kk hroom _ rfl o ho H' locs (cells + 1) (slots + zc_N t) ls ?_ hl
  · rw [zc_rv_p G (by omega), show (μ 0 0 - 1).toNat = H.size by omega] at hk
    exact hk
  · rw [e1]
    refine zc_Rel.push hR0 hroom b2 b3 ?_
    have em : ∀ j, mnew μ t 0 (zc_N t) ((H.size : Int) + 1) j = if j = -1 then (t : Int) else if j = -2 then 0 else 0 := fun j => by unfold mnew; rw [if_pos h00.symm]
    intro t' ht'
    rw [em, if_pos rfl] at ht'
    have e5 : t = t' := by omega
    subst e5
    have h9 := zc_tg hp
    simp only [zc_tags, List.mem_cons, List.not_mem_nil, or_false] at h9
    refine ⟨fun hN => ⟨fun k => defaultValue (zc_ty t k), ?_, fun k hk => ?_⟩, fun q1 q2 => by omega, fun q => by omega, fun q => by omega, fun q => by omega⟩
    · rw [zc_ad_p (by omega), show ((H.size : Int) + 1 - 1).toNat = H.size by omega]
      exact u_born (zc_ty t) h.2.2.2.2 (zc_in hp) (hK.1 t hp) hkC b1 (zc_tyok hp)
    · have h0 := zc_colpos hp k hk
      rw [em, if_neg (by omega), if_neg (by omega)]
      exact zc_dflt hp k hk
theorem c_newF (h : zv_Ok C cc own) (hc : zc_C C G μ0 nL ret rk fr lo nm xt) {index : Nat} (q1 : Cond.classLink own index (zc_R 7) ∈ lw_all) (q2 : Cond.instantiable (zc_R 7) (zc_N 7) ∈ lw_all) (q3 : Cond.initialized (zc_R 7) ∈ lw_all) (hd : decode cc pc = .ok (.new index, 3)) {kd' : MEM → Option zc_O}
    (kk : 1 ≤ μ 0 1 ∧ (8 : Int) ≤ μ 0 2 → ∀ μ', μ' = mnew μ 22 0 8 → VV C (kd' μ') μ' lv (zc_rv G (μ 0 0) :: st) (pc + 3)) : VV C (ck (1 ≤ μ 0 1 ∧ (8 : Int) ≤ μ 0 2) (nu (mnew μ 22 0 8) kd')) μ lv st pc := by
  refine r_ck (fun hroom => ?_)
  intro o ho H locs cells slots ls hR hl
  have hR0 := hR
  have hp : 0 < zc_N 7 := by decide
  obtain ⟨hK, hn0, hr0, hlk0, hRm, e1, e2, hxt, hL, hnm⟩ := hc
  rw [e1] at hR0
  have hcl := hR0.2.2.2.2.2.2.1
  have hsl := hR0.2.2.2.2.2.2.2.1
  have h00 := hR0.2.2.1
  have hfc := (hK.1 7 hp).2.1
  refine W.newcK h.1 h.2.1 h.2.2.2.1 (h.2.2.2.2 _ q1) (h.2.2.2.2 _ q2) (h.2.2.2.2 _ q3) rfl hd (by rw [hRm]; show _ ≤ (μ0 0 1).toNat; omega) (by rw [hRm]; show slots + 8 ≤ (μ0 0 2).toNat; omega) hfc rfl fun H' kC hkC b1 b2 b3 => ?_
  have hk := kk hroom _ rfl o ho H' locs (cells + 1) (slots + 8) ls ?_ hl
  · rw [zc_rv_p G (by omega), show (μ 0 0 - 1).toNat = H.size by omega] at hk
    exact hk
  · rw [e1]
    refine zc_Rel.push (N := 8) hR0 hroom b2 b3 ?_
    have em : mnew μ 22 0 (8 : Nat) ((H.size : Int) + 1) (-1) = 22 := by unfold mnew; rw [if_pos h00.symm]; rfl
    intro t' ht'
    rw [em] at ht'
    have e5 : 22 = t' := by omega
    subst e5
    refine ⟨fun q => absurd q (by decide), fun q => absurd q (by decide), fun q => absurd q (by decide), fun q => absurd q (by decide), fun _ => Or.inr ⟨rfl, ?_⟩⟩
    obtain ⟨cell, w1, w2, w3, w4⟩ := u_born (zc_ty 7) h.2.2.2.2 (zc_in hp) (hK.1 7 hp) hkC b1 (zc_tyok hp)
    have w5 := Option.some.inj (b1.symm.trans w1)
    refine ⟨cell, ?_, w2, w3, by rw [← w5]; rfl, by rw [← w5]; rfl, ⟨kC, by rw [← w5]; rfl⟩, w4⟩
    rw [zc_ad_p (by omega), show ((H.size : Int) + 1 - 1).toNat = H.size by omega]
    exact w1
theorem c_naB (h : zv_Ok C cc own) (hc : zc_C C G μ0 nL ret rk fr lo nm xt) {atype : ArrayType} (ha : newarray.typeOf atype = .byte) (q1 : Cond.arrayClass .byte ∈ lw_all) (hx : inR x) (hd : decode cc pc = .ok (.newarray atype, 2)) {kd' : MEM → Option zc_O}
    (kk : 0 ≤ x ∧ x ≤ 1000000 → 1 ≤ μ 0 1 ∧ x ≤ μ 0 2 → ∀ μ', μ' = mnew μ 31 x x → VV C (kd' μ') μ' lv (zc_rv G (μ 0 0) :: st) (pc + 2)) : VV C (ck (0 ≤ x ∧ x ≤ 1000000) (ck (1 ≤ μ 0 1 ∧ x ≤ μ 0 2) (nu (mnew μ 31 x x) kd'))) μ lv (iv x :: st) pc := by
  refine r_ck (fun hxx => ?_)
  refine r_ck (fun hroom => ?_)
  intro o ho H locs cells slots ls hR hl
  have hR0 := hR
  obtain ⟨hK, hn0, hr0, hlk0, hRm, e1, e2, hxt, hL, hnm⟩ := hc
  rw [e1] at hR0
  have hcl := hR0.2.2.2.2.2.2.1
  have hsl := hR0.2.2.2.2.2.2.2.1
  have h00 := hR0.2.2.1
  have hcn : (Int32.ofInt x).toNatClampNeg = x.toNat := by rw [← Int32.toNat_toInt, oi_t hx]
  refine va_newaK h.1 h.2.1 (by rw [ha]; exact h.2.2.2.2 _ q1) rfl hd (N := x.toNat) rfl (by rw [oi_lt0 hx]; omega) hcn (by rw [ha]; show x.toNat * _ ≤ _; have : componentBytes .byte ≤ 8 := (by decide); have := Nat.mul_le_mul (show x.toNat ≤ 1000000 by omega) this; omega) (by rw [hRm]; show _ ≤ (μ0 0 1).toNat; omega) (by rw [hRm]; show _ ≤ (μ0 0 2).toNat; omega) rfl fun H' cA b1 b2 b3 b4 b5 => ?_
  have hk := kk hxx hroom _ rfl o ho H' locs (cells + 1) (slots + x.toNat) ls ?_ hl
  · rw [zc_rv_p G (by omega), show (μ 0 0 - 1).toNat = H.size by omega] at hk
    exact hk
  · rw [e1]
    have hpush := zc_Rel.push (t := 31) (n := x) (N := x.toNat) hR0 ⟨hroom.1, by omega⟩ b2 b3
    rw [show ((x.toNat : Nat) : Int) = x by omega] at hpush
    refine hpush ?_
    have em : ∀ j, mnew μ 31 x x ((H.size : Int) + 1) j = if j = -1 then 31 else if j = -2 then x else 0 := fun j => by unfold mnew; rw [if_pos h00.symm]
    intro t' ht'
    rw [em, if_pos rfl] at ht'
    have e5 : 31 = t' := by omega
    subst e5
    have el : mnew μ 31 x x ((H.size : Int) + 1) (-2) = x := by rw [em, if_neg (by decide), if_pos rfl]
    have ez : ∀ i : Nat, mnew μ 31 x x ((H.size : Int) + 1) i = 0 := fun i => by rw [em, if_neg (by omega), if_neg (by omega)]
    have hA := (zc_arr hK (t := 31) (by decide) (by decide)).2
    have hac : cA = zc_ac G 31 := by
      have : (zv_s C).vm.findClass ("[" ++ (FieldType.byte).toString) = some (zc_ac G 31) := hA
      rw [ha] at b5
      exact Option.some.inj (b5.symm.trans this)
    refine ⟨fun hN => absurd hN (by decide), fun _ _ => ⟨by rw [el]; exact hxx.1, by rw [el]; omega, ?_, fun i hi => ?_⟩, fun q => by omega, fun q => by omega, fun q => by omega⟩
    · rw [zc_ad_p (by omega), show ((H.size : Int) + 1 - 1).toNat = H.size by omega, b1, el, hac, ha]
      congr 2
      funext i
      rw [ez]
      rfl
    · rw [ez]
      show isY 0
      decide
theorem c_naZ (h : zv_Ok C cc own) (hc : zc_C C G μ0 nL ret rk fr lo nm xt) {atype : ArrayType} (ha : newarray.typeOf atype = .boolean) (q1 : Cond.arrayClass .boolean ∈ lw_all) (hx : inR x) (hd : decode cc pc = .ok (.newarray atype, 2)) {kd' : MEM → Option zc_O}
    (kk : 0 ≤ x ∧ x ≤ 1000000 → 1 ≤ μ 0 1 ∧ x ≤ μ 0 2 → ∀ μ', μ' = mnew μ 32 x x → VV C (kd' μ') μ' lv (zc_rv G (μ 0 0) :: st) (pc + 2)) : VV C (ck (0 ≤ x ∧ x ≤ 1000000) (ck (1 ≤ μ 0 1 ∧ x ≤ μ 0 2) (nu (mnew μ 32 x x) kd'))) μ lv (iv x :: st) pc := by
  refine r_ck (fun hxx => ?_)
  refine r_ck (fun hroom => ?_)
  intro o ho H locs cells slots ls hR hl
  have hR0 := hR
  obtain ⟨hK, hn0, hr0, hlk0, hRm, e1, e2, hxt, hL, hnm⟩ := hc
  rw [e1] at hR0
  have hcl := hR0.2.2.2.2.2.2.1
  have hsl := hR0.2.2.2.2.2.2.2.1
  have h00 := hR0.2.2.1
  have hcn : (Int32.ofInt x).toNatClampNeg = x.toNat := by rw [← Int32.toNat_toInt, oi_t hx]
  refine va_newaK h.1 h.2.1 (by rw [ha]; exact h.2.2.2.2 _ q1) rfl hd (N := x.toNat) rfl (by rw [oi_lt0 hx]; omega) hcn (by rw [ha]; show x.toNat * _ ≤ _; have : componentBytes .boolean ≤ 8 := (by decide); have := Nat.mul_le_mul (show x.toNat ≤ 1000000 by omega) this; omega) (by rw [hRm]; show _ ≤ (μ0 0 1).toNat; omega) (by rw [hRm]; show _ ≤ (μ0 0 2).toNat; omega) rfl fun H' cA b1 b2 b3 b4 b5 => ?_
  have hk := kk hxx hroom _ rfl o ho H' locs (cells + 1) (slots + x.toNat) ls ?_ hl
  · rw [zc_rv_p G (by omega), show (μ 0 0 - 1).toNat = H.size by omega] at hk
    exact hk
  · rw [e1]
    have hpush := zc_Rel.push (t := 32) (n := x) (N := x.toNat) hR0 ⟨hroom.1, by omega⟩ b2 b3
    rw [show ((x.toNat : Nat) : Int) = x by omega] at hpush
    refine hpush ?_
    have em : ∀ j, mnew μ 32 x x ((H.size : Int) + 1) j = if j = -1 then 32 else if j = -2 then x else 0 := fun j => by unfold mnew; rw [if_pos h00.symm]
    intro t' ht'
    rw [em, if_pos rfl] at ht'
    have e5 : 32 = t' := by omega
    subst e5
    have el : mnew μ 32 x x ((H.size : Int) + 1) (-2) = x := by rw [em, if_neg (by decide), if_pos rfl]
    have ez : ∀ i : Nat, mnew μ 32 x x ((H.size : Int) + 1) i = 0 := fun i => by rw [em, if_neg (by omega), if_neg (by omega)]
    have hA := (zc_arr hK (t := 32) (by decide) (by decide)).2
    have hac : cA = zc_ac G 32 := by
      have : (zv_s C).vm.findClass ("[" ++ (FieldType.boolean).toString) = some (zc_ac G 32) := hA
      rw [ha] at b5
      exact Option.some.inj (b5.symm.trans this)
    refine ⟨fun hN => absurd hN (by decide), fun _ _ => ⟨by rw [el]; exact hxx.1, by rw [el]; omega, ?_, fun i hi => ?_⟩, fun q => by omega, fun q => by omega, fun q => by omega⟩
    · rw [zc_ad_p (by omega), show ((H.size : Int) + 1 - 1).toNat = H.size by omega, b1, el, hac, ha]
      congr 2
      funext i
      rw [ez]
      rfl
    · rw [ez]
      show isB 0
      decide
theorem c_naI (h : zv_Ok C cc own) (hc : zc_C C G μ0 nL ret rk fr lo nm xt) {atype : ArrayType} (ha : newarray.typeOf atype = .int) (q1 : Cond.arrayClass .int ∈ lw_all) (hx : inR x) (hd : decode cc pc = .ok (.newarray atype, 2)) {kd' : MEM → Option zc_O}
    (kk : 0 ≤ x ∧ x ≤ 1000000 → 1 ≤ μ 0 1 ∧ x ≤ μ 0 2 → ∀ μ', μ' = mnew μ 33 x x → VV C (kd' μ') μ' lv (zc_rv G (μ 0 0) :: st) (pc + 2)) : VV C (ck (0 ≤ x ∧ x ≤ 1000000) (ck (1 ≤ μ 0 1 ∧ x ≤ μ 0 2) (nu (mnew μ 33 x x) kd'))) μ lv (iv x :: st) pc := by
  refine r_ck (fun hxx => ?_)
  refine r_ck (fun hroom => ?_)
  intro o ho H locs cells slots ls hR hl
  have hR0 := hR
  obtain ⟨hK, hn0, hr0, hlk0, hRm, e1, e2, hxt, hL, hnm⟩ := hc
  rw [e1] at hR0
  have hcl := hR0.2.2.2.2.2.2.1
  have hsl := hR0.2.2.2.2.2.2.2.1
  have h00 := hR0.2.2.1
  have hcn : (Int32.ofInt x).toNatClampNeg = x.toNat := by rw [← Int32.toNat_toInt, oi_t hx]
  refine va_newaK h.1 h.2.1 (by rw [ha]; exact h.2.2.2.2 _ q1) rfl hd (N := x.toNat) rfl (by rw [oi_lt0 hx]; omega) hcn (by rw [ha]; show x.toNat * _ ≤ _; have : componentBytes .int ≤ 8 := (by decide); have := Nat.mul_le_mul (show x.toNat ≤ 1000000 by omega) this; omega) (by rw [hRm]; show _ ≤ (μ0 0 1).toNat; omega) (by rw [hRm]; show _ ≤ (μ0 0 2).toNat; omega) rfl fun H' cA b1 b2 b3 b4 b5 => ?_
  have hk := kk hxx hroom _ rfl o ho H' locs (cells + 1) (slots + x.toNat) ls ?_ hl
  · rw [zc_rv_p G (by omega), show (μ 0 0 - 1).toNat = H.size by omega] at hk
    exact hk
  · rw [e1]
    have hpush := zc_Rel.push (t := 33) (n := x) (N := x.toNat) hR0 ⟨hroom.1, by omega⟩ b2 b3
    rw [show ((x.toNat : Nat) : Int) = x by omega] at hpush
    refine hpush ?_
    have em : ∀ j, mnew μ 33 x x ((H.size : Int) + 1) j = if j = -1 then 33 else if j = -2 then x else 0 := fun j => by unfold mnew; rw [if_pos h00.symm]
    intro t' ht'
    rw [em, if_pos rfl] at ht'
    have e5 : 33 = t' := by omega
    subst e5
    have el : mnew μ 33 x x ((H.size : Int) + 1) (-2) = x := by rw [em, if_neg (by decide), if_pos rfl]
    have ez : ∀ i : Nat, mnew μ 33 x x ((H.size : Int) + 1) i = 0 := fun i => by rw [em, if_neg (by omega), if_neg (by omega)]
    have hA := (zc_arr hK (t := 33) (by decide) (by decide)).2
    have hac : cA = zc_ac G 33 := by
      have : (zv_s C).vm.findClass ("[" ++ (FieldType.int).toString) = some (zc_ac G 33) := hA
      rw [ha] at b5
      exact Option.some.inj (b5.symm.trans this)
    refine ⟨fun hN => absurd hN (by decide), fun _ _ => ⟨by rw [el]; exact hxx.1, by rw [el]; omega, ?_, fun i hi => ?_⟩, fun q => by omega, fun q => by omega, fun q => by omega⟩
    · rw [zc_ad_p (by omega), show ((H.size : Int) + 1 - 1).toNat = H.size by omega, b1, el, hac, ha]
      congr 2
      funext i
      rw [ez]
      rfl
    · rw [ez]
      show inR 0
      decide
theorem c_naJ (h : zv_Ok C cc own) (hc : zc_C C G μ0 nL ret rk fr lo nm xt) {atype : ArrayType} (ha : newarray.typeOf atype = .long) (q1 : Cond.arrayClass .long ∈ lw_all) (hx : inR x) (hd : decode cc pc = .ok (.newarray atype, 2)) {kd' : MEM → Option zc_O}
    (kk : 0 ≤ x ∧ x ≤ 1000000 → 1 ≤ μ 0 1 ∧ x ≤ μ 0 2 → ∀ μ', μ' = mnew μ 34 x x → VV C (kd' μ') μ' lv (zc_rv G (μ 0 0) :: st) (pc + 2)) : VV C (ck (0 ≤ x ∧ x ≤ 1000000) (ck (1 ≤ μ 0 1 ∧ x ≤ μ 0 2) (nu (mnew μ 34 x x) kd'))) μ lv (iv x :: st) pc := by
  refine r_ck (fun hxx => ?_)
  refine r_ck (fun hroom => ?_)
  intro o ho H locs cells slots ls hR hl
  have hR0 := hR
  obtain ⟨hK, hn0, hr0, hlk0, hRm, e1, e2, hxt, hL, hnm⟩ := hc
  rw [e1] at hR0
  have hcl := hR0.2.2.2.2.2.2.1
  have hsl := hR0.2.2.2.2.2.2.2.1
  have h00 := hR0.2.2.1
  have hcn : (Int32.ofInt x).toNatClampNeg = x.toNat := by rw [← Int32.toNat_toInt, oi_t hx]
  refine va_newaK h.1 h.2.1 (by rw [ha]; exact h.2.2.2.2 _ q1) rfl hd (N := x.toNat) rfl (by rw [oi_lt0 hx]; omega) hcn (by rw [ha]; show x.toNat * _ ≤ _; have : componentBytes .long ≤ 8 := (by decide); have := Nat.mul_le_mul (show x.toNat ≤ 1000000 by omega) this; omega) (by rw [hRm]; show _ ≤ (μ0 0 1).toNat; omega) (by rw [hRm]; show _ ≤ (μ0 0 2).toNat; omega) rfl fun H' cA b1 b2 b3 b4 b5 => ?_
  have hk := kk hxx hroom _ rfl o ho H' locs (cells + 1) (slots + x.toNat) ls ?_ hl
  · rw [zc_rv_p G (by omega), show (μ 0 0 - 1).toNat = H.size by omega] at hk
    exact hk
  · rw [e1]
    have hpush := zc_Rel.push (t := 34) (n := x) (N := x.toNat) hR0 ⟨hroom.1, by omega⟩ b2 b3
    rw [show ((x.toNat : Nat) : Int) = x by omega] at hpush
    refine hpush ?_
    have em : ∀ j, mnew μ 34 x x ((H.size : Int) + 1) j = if j = -1 then 34 else if j = -2 then x else 0 := fun j => by unfold mnew; rw [if_pos h00.symm]
    intro t' ht'
    rw [em, if_pos rfl] at ht'
    have e5 : 34 = t' := by omega
    subst e5
    have el : mnew μ 34 x x ((H.size : Int) + 1) (-2) = x := by rw [em, if_neg (by decide), if_pos rfl]
    have ez : ∀ i : Nat, mnew μ 34 x x ((H.size : Int) + 1) i = 0 := fun i => by rw [em, if_neg (by omega), if_neg (by omega)]
    have hA := (zc_arr hK (t := 34) (by decide) (by decide)).2
    have hac : cA = zc_ac G 34 := by
      have : (zv_s C).vm.findClass ("[" ++ (FieldType.long).toString) = some (zc_ac G 34) := hA
      rw [ha] at b5
      exact Option.some.inj (b5.symm.trans this)
    refine ⟨fun hN => absurd hN (by decide), fun _ _ => ⟨by rw [el]; exact hxx.1, by rw [el]; omega, ?_, fun i hi => ?_⟩, fun q => by omega, fun q => by omega, fun q => by omega⟩
    · rw [zc_ad_p (by omega), show ((H.size : Int) + 1 - 1).toNat = H.size by omega, b1, el, hac, ha]
      congr 2
      funext i
      rw [ez]
      rfl
    · rw [ez]
      show inL 0
      decide
theorem c_na35 (h : zv_Ok C cc own) (hc : zc_C C G μ0 nL ret rk fr lo nm xt) {index : Nat} (q1 : Cond.classLink own index "TreePress$Node" ∈ lw_all) (hx : inR x) (hd : decode cc pc = .ok (.anewarray index, 3)) {kd' : MEM → Option zc_O}
    (kk : 0 ≤ x ∧ x ≤ 1000000 → 1 ≤ μ 0 1 ∧ x ≤ μ 0 2 → ∀ μ', μ' = mnew μ 35 x x → VV C (kd' μ') μ' lv (zc_rv G (μ 0 0) :: st) (pc + 3)) : VV C (ck (0 ≤ x ∧ x ≤ 1000000) (ck (1 ≤ μ 0 1 ∧ x ≤ μ 0 2) (nu (mnew μ 35 x x) kd'))) μ lv (iv x :: st) pc := by
  refine r_ck (fun hxx => ?_)
  refine r_ck (fun hroom => ?_)
  intro o ho H locs cells slots ls hR hl
  have hR0 := hR
  obtain ⟨hK, hn0, hr0, hlk0, hRm, e1, e2, hxt, hL, hnm⟩ := hc
  rw [e1] at hR0
  have hcl := hR0.2.2.2.2.2.2.1
  have hsl := hR0.2.2.2.2.2.2.2.1
  have h00 := hR0.2.2.1
  have hcn : (Int32.ofInt x).toNatClampNeg = x.toNat := by rw [← Int32.toNat_toInt, oi_t hx]
  refine W.anew h.1 h.2.1 h.2.2.2.1 (h.2.2.2.2 _ q1) (hK.2.2.2.2.2.2.2.1).use rfl hd rfl (by rw [oi_lt0 hx]; omega) (by rw [hcn]; omega) (by rw [hRm]; show _ ≤ (μ0 0 1).toNat; omega) (by rw [hRm, hcn]; show _ ≤ (μ0 0 2).toNat; omega) fun cA kA comp b5 b6 b7 b8 => ?_
  rw [hcn]
  have hk := kk hxx hroom _ rfl o ho (H.push { cls := cA, slots := Array.replicate x.toNat .null, vm := .none }) locs (cells + 1) (slots + x.toNat) ls ?_ hl
  · rw [zc_rv_p G (by omega), show (μ 0 0 - 1).toNat = H.size by omega] at hk
    exact hk
  · rw [e1]
    have hpush := zc_Rel.push (H' := H.push { cls := cA, slots := Array.replicate x.toNat .null, vm := .none }) (t := 35) (n := x) (N := x.toNat) hR0 ⟨hroom.1, by omega⟩ (by simp) (fun q hq => by rw [Array.getElem?_push, if_neg (by omega)])
    rw [show ((x.toNat : Nat) : Int) = x by omega] at hpush
    refine hpush ?_
    have em : ∀ j, mnew μ 35 x x ((H.size : Int) + 1) j = if j = -1 then 35 else if j = -2 then x else 0 := fun j => by unfold mnew; rw [if_pos h00.symm]
    intro t' ht'
    rw [em, if_pos rfl] at ht'
    have e5 : 35 = t' := by omega
    subst e5
    have el : mnew μ 35 x x ((H.size : Int) + 1) (-2) = x := by rw [em, if_neg (by decide), if_pos rfl]
    have ez : ∀ i : Nat, mnew μ 35 x x ((H.size : Int) + 1) i = 0 := fun i => by rw [em, if_neg (by omega), if_neg (by omega)]
    obtain ⟨_, _, _, _, _, hA⟩ := (zc_arr hK (t := 35) (by decide) (by decide)).2
    have hac : cA = zc_ac G 35 := Option.some.inj (b5.symm.trans hA)
    refine ⟨fun hN => absurd hN (by decide), fun _ _ => ⟨by rw [el]; exact hxx.1, by rw [el]; omega, ?_, fun i hi => trivial⟩, fun q => by omega, fun q => by omega, fun q => by omega⟩
    rw [zc_ad_p (by omega), show ((H.size : Int) + 1 - 1).toNat = H.size by omega, el, hac]
    rw [Array.getElem?_push, if_pos rfl]
    congr 1
    unfold arrV
    congr 1
    apply Array.ext
    · simp
    · intro i h1 h2
      simp only [Array.getElem_replicate, Array.getElem_ofFn]
      rw [ez]
      rfl
theorem c_na36 (h : zv_Ok C cc own) (hc : zc_C C G μ0 nL ret rk fr lo nm xt) {index : Nat} (q1 : Cond.classLink own index "java/lang/Object" ∈ lw_all) (hx : inR x) (hd : decode cc pc = .ok (.anewarray index, 3)) {kd' : MEM → Option zc_O}
    (kk : 0 ≤ x ∧ x ≤ 1000000 → 1 ≤ μ 0 1 ∧ x ≤ μ 0 2 → ∀ μ', μ' = mnew μ 36 x x → VV C (kd' μ') μ' lv (zc_rv G (μ 0 0) :: st) (pc + 3)) : VV C (ck (0 ≤ x ∧ x ≤ 1000000) (ck (1 ≤ μ 0 1 ∧ x ≤ μ 0 2) (nu (mnew μ 36 x x) kd'))) μ lv (iv x :: st) pc := by
  refine r_ck (fun hxx => ?_)
  refine r_ck (fun hroom => ?_)
  intro o ho H locs cells slots ls hR hl
  have hR0 := hR
  obtain ⟨hK, hn0, hr0, hlk0, hRm, e1, e2, hxt, hL, hnm⟩ := hc
  rw [e1] at hR0
  have hcl := hR0.2.2.2.2.2.2.1
  have hsl := hR0.2.2.2.2.2.2.2.1
  have h00 := hR0.2.2.1
  have hcn : (Int32.ofInt x).toNatClampNeg = x.toNat := by rw [← Int32.toNat_toInt, oi_t hx]
  refine W.anew h.1 h.2.1 h.2.2.2.1 (h.2.2.2.2 _ q1) (hK.2.2.2.2.2.2.2.2.1).use rfl hd rfl (by rw [oi_lt0 hx]; omega) (by rw [hcn]; omega) (by rw [hRm]; show _ ≤ (μ0 0 1).toNat; omega) (by rw [hRm, hcn]; show _ ≤ (μ0 0 2).toNat; omega) fun cA kA comp b5 b6 b7 b8 => ?_
  rw [hcn]
  have hk := kk hxx hroom _ rfl o ho (H.push { cls := cA, slots := Array.replicate x.toNat .null, vm := .none }) locs (cells + 1) (slots + x.toNat) ls ?_ hl
  · rw [zc_rv_p G (by omega), show (μ 0 0 - 1).toNat = H.size by omega] at hk
    exact hk
  · rw [e1]
    have hpush := zc_Rel.push (H' := H.push { cls := cA, slots := Array.replicate x.toNat .null, vm := .none }) (t := 36) (n := x) (N := x.toNat) hR0 ⟨hroom.1, by omega⟩ (by simp) (fun q hq => by rw [Array.getElem?_push, if_neg (by omega)])
    rw [show ((x.toNat : Nat) : Int) = x by omega] at hpush
    refine hpush ?_
    have em : ∀ j, mnew μ 36 x x ((H.size : Int) + 1) j = if j = -1 then 36 else if j = -2 then x else 0 := fun j => by unfold mnew; rw [if_pos h00.symm]
    intro t' ht'
    rw [em, if_pos rfl] at ht'
    have e5 : 36 = t' := by omega
    subst e5
    have el : mnew μ 36 x x ((H.size : Int) + 1) (-2) = x := by rw [em, if_neg (by decide), if_pos rfl]
    have ez : ∀ i : Nat, mnew μ 36 x x ((H.size : Int) + 1) i = 0 := fun i => by rw [em, if_neg (by omega), if_neg (by omega)]
    obtain ⟨_, _, _, _, _, hA⟩ := (zc_arr hK (t := 36) (by decide) (by decide)).2
    have hac : cA = zc_ac G 36 := Option.some.inj (b5.symm.trans hA)
    refine ⟨fun hN => absurd hN (by decide), fun _ _ => ⟨by rw [el]; exact hxx.1, by rw [el]; omega, ?_, fun i hi => trivial⟩, fun q => by omega, fun q => by omega, fun q => by omega⟩
    rw [zc_ad_p (by omega), show ((H.size : Int) + 1 - 1).toNat = H.size by omega, el, hac]
    rw [Array.getElem?_push, if_pos rfl]
    congr 1
    unfold arrV
    congr 1
    apply Array.ext
    · simp
    · intro i h1 h2
      simp only [Array.getElem_replicate, Array.getElem_ofFn]
      rw [ez]
      rfl
end ZC
