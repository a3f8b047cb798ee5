set_option maxRecDepth 100000
/-! THE CLASS SIDE: casts, constants, System.arraycopy (written by wip/gen/cmisc.py) -/
theorem iv_cat (x : Int) : (iv x).category = 1 := rfl
theorem jv_cat (x : Int) : (jv x).category = 2 := rfl
theorem zc_s0 : (([] : List Value).map fun v => v.category).sum = 0 := rfl
theorem zc_sc {v : Value} {st : List Value} {a b : Nat} (hv : v.category = a) (h : (st.map fun v => v.category).sum = b) : ((v :: st).map fun v => v.category).sum = a + b := by
  rw [List.map_cons, List.sum_cons, hv, h]
theorem zt_mup {μ μ' : MEM} {ts : List Nat} {x y k v : Int} (e : μ' = mup μ y k v) (hk : 0 ≤ k) (h : zt ts (μ x (-1)) = true) : zt ts (μ' x (-1)) = true := by
  rw [e, mup_n μ v (fun q => by omega)]; exact h
theorem zt_new {μ μ' : MEM} {ts : List Nat} {x t n s : Int} (e : μ' = mnew μ t n s) (h0 : x ≠ μ 0 0) (h1 : x ≠ 0) (h : zt ts (μ x (-1)) = true) : zt ts (μ' x (-1)) = true := by
  rw [e, mnew_n h0 h1]; exact h
def zi (ys : List Nat) (z : Int) : Int := if zt ys z = true then 1 else 0
theorem zi_B (ys : List Nat) (z : Int) : isB (zi ys z) := by unfold zi; split <;> decide
section ZC
variable {C : zv_Cx zc_O} {G : zc_G} {cc : ByteArray} {own : String} {μ0 : MEM} {nL : Nat} {ret : Option FieldType} {rk fr lo : Nat} {nm : String} {xt : List ExceptionTableEntry} {d d1 d2 : Option zc_O} {μ : MEM} {lv lv' : List (Nat × Value)} {st : List Value} {pc : Nat} {x y z : Int}
theorem c_cast (h : zv_Ok C cc own) (hc : zc_C C G μ0 nL ret rk fr lo nm xt) {index : Nat} {cn : String} (ts : List Nat) (q1 : Cond.classLink own index cn ∈ lw_all) (hts : zt ts (μ x (-1)) = true) (hq : ts.all (fun t => decide (t ∈ zc_vt) && (decide (zc_nmt t = cn) || decide ((zc_nmt t, cn) ∈ zc_nC))) = true) (hd : decode cc pc = .ok (.checkcast index, 3))
    (kk : VV C d μ lv (zc_rv G x :: st) (pc + 3)) : VV C d μ lv (zc_rv G x :: st) pc := by
  obtain ⟨t, ht, hz⟩ := zt_mem hts
  obtain ⟨q2, q3⟩ := Bool.and_eq_true_iff.mp (List.all_eq_true.mp hq t ht)
  have q2 := of_decide_eq_true q2
  intro o ho H locs cells slots ls hR hl
  have hR0 := hR
  have hK := hc.1
  rw [hc.2.2.2.2.2.1] at hR0
  have hx0 : x ≠ 0 := zc_ne0 hR0.1 hz (fun e => by rw [e] at q2; exact absurd q2 (by decide))
  obtain ⟨cell, a1, a2, a3⟩ := zc_cell hK hR0.1 hz (List.mem_cons_of_mem _ q2)
  have hk := kk o ho H locs cells slots ls hR hl
  rw [zc_rv_n G hx0] at hk ⊢
  rcases Bool.or_eq_true_iff.mp q3 with e | e
  · have e := of_decide_eq_true e
    rw [e] at a3
    exact va_castE h.1 h.2.1 h.2.2.2.1 (h.2.2.2.2 _ q1) ⟨cell, a1, by rw [a2]; rfl, a3⟩ hd hk
  · exact va_castY h.1 h.2.1 h.2.2.2.1 (h.2.2.2.2 _ q1) (hK.2.2.2.2.2.1 _ (of_decide_eq_true e)) ⟨cell, a1, by rw [a2]; rfl, a3⟩ hd hk
theorem c_inst (h : zv_Ok C cc own) (hc : zc_C C G μ0 nL ret rk fr lo nm xt) {index : Nat} {cn : String} (ts ys : List Nat) (q1 : Cond.classLink own index cn ∈ lw_all) (hts : zt ts (μ x (-1)) = true) (hq : ts.all (fun t => decide (t ∈ zc_vt) && (if t ∈ ys then (decide (zc_nmt t = cn) || decide ((zc_nmt t, cn) ∈ zc_nC)) else decide ((zc_nmt t, cn) ∈ zc_nN))) = true) (hd : decode cc pc = .ok (.instanceof index, 3))
    (kk : VV C d μ lv (iv (zi ys (μ x (-1))) :: st) (pc + 3)) : VV C d μ lv (zc_rv G x :: st) pc := by
  obtain ⟨t, ht, hz⟩ := zt_mem hts
  obtain ⟨q2, q3⟩ := Bool.and_eq_true_iff.mp (List.all_eq_true.mp hq t ht)
  have q2 := of_decide_eq_true q2
  intro o ho H locs cells slots ls hR hl
  have hR0 := hR
  have hK := hc.1
  rw [hc.2.2.2.2.2.1] at hR0
  have hx0 : x ≠ 0 := zc_ne0 hR0.1 hz (fun e => by rw [e] at q2; exact absurd q2 (by decide))
  obtain ⟨cell, a1, a2, a3⟩ := zc_cell hK hR0.1 hz (List.mem_cons_of_mem _ q2)
  have hk := kk o ho H locs cells slots ls hR hl
  rw [zc_rv_n G hx0]
  have hzi : zi ys (μ x (-1)) = if t ∈ ys then 1 else 0 := by
    unfold zi zt
    rw [hz]
    by_cases e : t ∈ ys
    · rw [if_pos e, if_pos (List.any_eq_true.mpr ⟨t, e, by simp⟩)]
    · rw [if_neg e, if_neg (fun q => e (by obtain ⟨u, hu, hu2⟩ := List.any_eq_true.mp q; have h9 : (t : Int) = (u : Int) := (by simpa using hu2); have : t = u := (by omega); rw [this]; exact hu))]
  rw [hzi] at hk
  by_cases e : t ∈ ys
  · rw [if_pos e] at q3 hk
    rcases Bool.or_eq_true_iff.mp q3 with e | e
    · have e := of_decide_eq_true e
      rw [e] at a3
      exact va_instE h.1 h.2.1 h.2.2.2.1 (h.2.2.2.2 _ q1) ⟨cell, a1, by rw [a2]; rfl, a3⟩ hd hk
    · exact va_instY h.1 h.2.1 h.2.2.2.1 (h.2.2.2.2 _ q1) (hK.2.2.2.2.2.1 _ (of_decide_eq_true e)) ⟨cell, a1, by rw [a2]; rfl, a3⟩ hd hk
  · rw [if_neg e] at q3 hk
    exact va_instNo h.1 h.2.1 h.2.2.2.1 (h.2.2.2.2 _ q1) (hK.2.2.2.2.2.2.1 _ (of_decide_eq_true q3)) ⟨cell, a1, by rw [a2]; rfl, a3⟩ hd hk
theorem zc_rv_m (G : zc_G) (n : Nat) (hn : 0 < n) : zc_rv G (-(n : Int)) = .ref (zc_st G n) := by
  rw [zc_rv_n G (by omega)]
  unfold zc_ad
  rw [if_neg (by omega)]
  congr 2
  omega
theorem c_ldcs (h : zv_Ok C cc own) (hc : zc_C C G μ0 nL ret rk fr lo nm xt) {index : Nat} {tx : String} (n : Nat) (hn : 0 < n) (N : Int) (hN : -(n : Int) = N) (q : (n, own, index, tx) ∈ zc_lits) (hd : decode cc pc = .ok (.ldc index, 2)) (kk : VV C d μ lv (zc_rv G N :: st) (pc + 2)) : VV C d μ lv st pc := by
  subst hN
  intro o ho H locs cells slots ls hR hl
  have hk := kk o ho H locs cells slots ls hR hl
  rw [zc_rv_m G n hn] at hk
  exact va_ldcS h.1 h.2.1 h.2.2.2.1 (hc.1.2.2.2.2.2.2.2.2.2.1 _ q) hd hk
theorem zc_ldcw {p : Program} {l : Launch} {e : Env} {R : Room} {s : State} {m : MethodId} {args : Array Value} {below : List Frame} {meth : Method} {c : Code} {T : State} {locs : List Loc} {cells slots : Nat}
    (X : Stand p l e R s m args below meth c T locs cells slots) (hexec : p.tables.exec = Jvm.exec) {own text : String} {index : Nat} {a : Addr} {args' : Array Value} (hown : s.vm.findClass own = some m.cls)
    (hconst : (Cond.stringRef own index text).before args' s = true) (hev : (Term.string own index).eval args' s none [] s = some (.ref a)) {g : JFrame} (hg : g.method = m) (hdg : decode c.code g.pc = .ok (.ldc_w index, 3)) :
    ∀ target, Steps p.tables e below (T.setTop { g with pc := g.pc + 3, stack := .ref a :: g.stack }) target → Steps p.tables e below (T.setTop g) target := by
  obtain ⟨k, cf, i, a', hk, hcf, hcp, -, hr, hev'⟩ := Cond.stringRef_spec hown hconst
  cases hev.symm.trans hev'
  obtain ⟨k', hk', he⟩ := X.warmed.alike.2.2 _ _ hk
  have hr' : k'.resolved[index]? = some (some (.string a)) := by
    rcases X.warmed.entry hk hk' index with h | ⟨h, -⟩
    · rw [h]; exact hr
    · rw [hr] at h; cases h
  intro target hrest
  subst hg
  jvm_step X.here [hexec, hdg, ldc_w.wp_string (e := e) (s := T) (f := g) X.here.top hk' (by rw [he]; exact hcf) hcp hr']
  exact hrest
theorem c_ldcws (h : zv_Ok C cc own) (hc : zc_C C G μ0 nL ret rk fr lo nm xt) {index : Nat} {tx : String} (n : Nat) (hn : 0 < n) (N : Int) (hN : -(n : Int) = N) (q : (n, own, index, tx) ∈ zc_lits) (hd : decode cc pc = .ok (.ldc_w index, 3)) (kk : VV C d μ lv (zc_rv G N :: st) (pc + 3)) : VV C d μ lv st pc := by
  subst hN
  intro o ho H locs cells slots ls hR hl
  have hk := kk o ho H locs cells slots ls hR hl
  rw [zc_rv_m G n hn] at hk
  have hZ := (hc.1.2.2.2.2.2.2.2.2.2.1 _ q)
  intro T hT X
  obtain ⟨t, a1, b1⟩ := hk T hT X
  exact ⟨t, zc_ldcw X h.1 h.2.2.2.1 hZ.1 hZ.2 (g := F0 (zv_m C) pc ls st) rfl (by rw [h.2.1]; exact hd) t a1, b1⟩
/-- nothing old has been written -/
theorem zc_vaS {H : Heap} {locs : List Loc} {cells slots : Nat} (hR0 : zc_Rel G μ0 (zv_s C).heap μ H locs cells slots) : ∀ q : Nat, q < (zc_h0 G).size → H[q]? = (zc_h0 G)[q]? := hR0.1.2.2.2.2
theorem c_gets (h : zv_Ok C cc own) (hc : zc_C C G μ0 nL ret rk fr lo nm xt) {index : Nat} {CC n ds ref : String} {v : Value} (hZ : va_Z CC n ds v (zc_o G) (zv_s C) (zc_h0 G)) (q1 : Cond.fieldLink own index CC n ds ∈ lw_all) (hd : decode cc pc = .ok (.getstatic index, 3)) (kk : VV C d μ lv (v :: st) (pc + 3)) : VV C d μ lv st pc := by
  intro o ho H locs cells slots ls hR hl
  have hR0 := hR
  rw [hc.2.2.2.2.2.1] at hR0
  obtain ⟨cf, kf, fi, f, a, cell, h1, h2, h3, h4, h5, h6, h7, h8⟩ := hZ
  have ha : a < (zc_h0 G).size := (Array.getElem?_eq_some_iff.mp h5).1
  exact W.gets h.1 h.2.1 h.2.2.2.1 (h.2.2.2.2 _ q1) h1 h2 h3 h4 (by rw [zc_vaS hR0 a ha]; exact h5) (fun e => by rw [e] at h6; cases h6) h7 rfl hd (kk o ho H locs cells slots ls hR hl)
theorem c_keep (h : zv_Ok C cc own) (hc : zc_C C G μ0 nL ret rk fr lo nm xt) {index : Nat} (q1 : Cond.fieldLink own index "TreePress" "KEEP" "[B" ∈ lw_all) (hd : decode cc pc = .ok (.getstatic index, 3)) (kk : VV C d μ lv (zc_rv G (-50) :: st) (pc + 3)) : VV C d μ lv st pc := by
  refine c_gets (ref := "") h hc hc.1.2.2.2.2.2.2.2.2.2.2.2.2.1 q1 hd ?_
  rw [← zc_rv_m G 50 (by decide)]
  exact kk
theorem zc_Rel.updL {μ' : MEM} {H0 H H' : Heap} {locs L : List Loc} {c s : Nat} (hR : zc_Rel G μ0 H0 μ H locs c s) {z : Int} {t : Nat} (hz : μ z (-1) = (t : Int)) (ht : t ≠ 0 ∧ (t ≠ 30 ∧ t ≠ 37) ∧ t ≠ 40 ∧ t ≠ 41) (hsz : H'.size = H.size) (ho : ∀ q : Nat, q ≠ (z - 1).toNat → H'[q]? = H[q]?)
    (hμ : ∀ y j, y ≠ z → μ' y j = μ y j) (htag : μ' z (-1) = μ z (-1)) (hrow : zc_row G μ' H' z) (hL : ∀ l ∈ L, l.base = (z - 1).toNat) : zc_Rel G μ0 H0 μ' H' (locs ++ L) c s := by
  obtain ⟨a1, a2, a3, a4, a5, a6, a7⟩ := zc_Rel.upd hR hz ht hsz ho hμ htag hrow 0
  refine ⟨a1, a2, a3, a4, a5, fun l hl => ?_, a7⟩
  rcases List.mem_append.mp hl with w | w
  · exact a6 l (List.mem_append_left _ w)
  · rw [hL l w]
    exact a6 ⟨(z - 1).toNat, 0⟩ (List.mem_append_right _ List.mem_cons_self)
/-- n elements of x from sp on, laid into y from dp on -/
def mcpy (μ : MEM) (x sp y dp n : Int) : MEM := fun z j => if z = y ∧ dp ≤ j ∧ j < dp + n then μ x (sp + (j - dp)) else μ z j
def zc_rfok (ts : List Nat) (μ : MEM) (x sp n : Int) : Bool := (List.range n.toNat).all (fun i => decide (μ x (sp + i) = 0) || zt ts (μ (μ x (sp + i)) (-1)))
theorem zc_copy (h : zv_Ok C cc own) (hc : zc_C C G μ0 nL ret rk fr lo nm xt) {index : Nat} {sp dp n : Int} (q1 : Cond.methodLink own index arraycopyName ∈ lw_all) (hsp : inR sp) (hdp : inR dp) (hn : inR n) {t0 t1 : Nat} (hx : μ x (-1) = (t0 : Int)) (hy : μ y (-1) = (t1 : Int)) (hp : 1 ≤ fr) (hlo : nativeFrameWords "java/lang/System" "arraycopy" 5 + 11 ≤ lo)
    (hb : 0 ≤ sp ∧ 0 ≤ dp ∧ 0 ≤ n ∧ sp + n ≤ μ x (-2) ∧ dp + n ≤ μ y (-2)) (h0 : 31 ≤ t0 ∧ t0 ≤ 36) (h1 : 31 ≤ t1 ∧ t1 ≤ 36) (hev : zc_ev G t0 = zc_ev G t1) (her : zc_er t0 = zc_er t1) (hty : zc_et t0 = zc_et t1)
    (hel : ∀ H locs cells slots, zc_Rel G μ0 (zv_s C).heap μ H locs cells slots → ∀ vm', (zv_s C).vm.Alike vm' → ∀ T : State, T.heap = H → ∀ comp, (∃ k : Class, (zv_s C).vm.classes[zc_ac G t1]? = some k ∧ k.kind = .array comp (zc_et t1)) → ∀ i : Int, 0 ≤ i → i < n → fits (zc_et t1) (zc_ev G t1 (μ x (sp + i))) = true ∧ (T.setVm vm').takes comp (zc_ev G t1 (μ x (sp + i)))) (hd : decode cc pc = .ok (.invokestatic index, 3)) {kd' : MEM → Option zc_O}
    (kk : ∀ μ', μ' = mcpy μ x sp y dp n → VV C (kd' μ') μ' lv [] (pc + 3)) : VV C (nu (mcpy μ x sp y dp n) kd') μ lv [iv n, iv dp, zc_rv G y, iv sp, zc_rv G x] pc := by
  intro o ho H locs cells slots ls hR hl
  have hR0 := hR
  obtain ⟨hK, hn0, hr0, hlk0, hRm, e1, e2, hxt, hL, hnm⟩ := hc
  rw [e1] at hR0
  have hts := h.2.2.2.2
  have hx0 : x ≠ 0 := zc_ne0 hR0.1 hx (by omega)
  have hyp := zc_H_pos hR0.1 hy (by omega) (by omega)
  have hy1 : 0 < y := by omega
  obtain ⟨b1, b2, b3, b4⟩ := (hR0.1.2.2.1 x t0 hx).2.1 h0.1 h0.2
  obtain ⟨c1, c2, c3, c4⟩ := (hR0.1.2.2.1 y t1 hy).2.1 (by omega) h1.2
  have c3' := c3
  rw [zc_ad_p hy1] at c3'
  rw [zc_rv_n G hx0, zc_rv_p G hy1]
  have cl : ∀ z : Int, inR z → 0 ≤ z → (Int32.ofInt z).toNatClampNeg = z.toNat ∧ ¬ Int32.ofInt z < 0 ∧ (Int32.ofInt z).toInt = z := fun z hz h0 => ⟨by rw [← Int32.toNat_toInt, oi_t hz], by rw [oi_lt0 hz]; omega, oi_t hz⟩
  obtain ⟨s1, s2, s3⟩ := cl sp hsp hb.1
  obtain ⟨p1, p2, p3⟩ := cl dp hdp hb.2.1
  obtain ⟨n1, n2, n3⟩ := cl n hn hb.2.2.1
  obtain ⟨-, k0, hk0, cm0, hkk0⟩ := (zc_arr hK h0.1 h0.2).1 (μ x (-2)).toNat (fun i => zc_ev G t0 (μ x i))
  obtain ⟨-, k1, hk1, cm1, hkk1⟩ := (zc_arr hK (show 31 ≤ t1 by omega) h1.2).1 (μ y (-2)).toNat (fun i => zc_ev G t1 (μ y i))
  intro T hT X
  obtain ⟨vm', X', step⟩ := X.arraycopy h.1 h.2.2.2.1 (hts _ q1) (hts _ q284) (hts _ q283) (hts _ q139) (src := zc_ad G x) (dst := (y - 1).toNat) (cs := arrV (zc_ac G t0) (μ x (-2)).toNat (fun i => zc_ev G t0 (μ x i))) (cd := arrV (zc_ac G t1) (μ y (-2)).toNat (fun i => zc_ev G t1 (μ y i))) (srcPos := Int32.ofInt sp) (destPos := Int32.ofInt dp) (n := Int32.ofInt n) (by rw [hT]; exact b3) (by rw [hT]; exact c3')
    (fun _ h => by cases h) (fun _ h => by cases h) (fun h => by cases h) (fun h => by cases h) hk0 hk1 hkk0 hkk1 (by rw [hty]; simp) s2 p2 n2
    (by rw [s3, n3, arrV_size]; omega) (by rw [p3, n3, arrV_size]; omega)
    (fun vm₁ hal i hi => by
      rw [n1] at hi
      have e : (arrV (zc_ac G t0) (μ x (-2)).toNat (fun i => zc_ev G t0 (μ x i))).slots.getD ((Int32.ofInt sp).toNatClampNeg + i) .null = zc_ev G t1 (μ x (sp + i)) := by
        rw [Array.getD_eq_getD_getElem?, s1, arrV_read _ _ (by omega), hev]
        show zc_ev G t1 (μ x ((sp.toNat + i : Nat) : Int)) = _
        rw [show ((sp.toNat + i : Nat) : Int) = sp + i by omega]
      rw [e]
      exact hel H locs cells slots hR0 vm₁ hal T hT cm1 ⟨k1, hk1, hkk1⟩ i (by omega) (by omega))
    (g := F0 (zv_m C) pc ls [iv n, iv dp, .ref (y - 1).toNat, iv sp, .ref (zc_ad G x)]) rfl (by rw [h.2.2.1]; exact hl.1) (rest := []) rfl (by rw [h.2.1]; exact hd) (by rw [hRm]; exact hp) (by rw [hRm]; show 2 * 0 + 0 + _ ≤ lo; omega)
  have e5 : copied (arrV (zc_ac G t0) (μ x (-2)).toNat (fun i => zc_ev G t0 (μ x i))) (arrV (zc_ac G t1) (μ y (-2)).toNat (fun i => zc_ev G t1 (μ y i))) (Int32.ofInt sp) (Int32.ofInt dp) (Int32.ofInt n) = arrV (zc_ac G t1) (μ y (-2)).toNat (fun i => zc_ev G t1 (mcpy μ x sp y dp n y i)) := by
    show (arrV _ _ _).storeRun _ ((arrV _ _ _).stretch _ _) = _
    rw [s1, p1, n1]
    rw [va_copied (α := Value) (fun v => v) (zc_ac G t0) (zc_ac G t1) (fun i => zc_ev G t0 (μ x i)) (fun i => zc_ev G t1 (μ y i)) (by omega)]
    congr 1
    funext j
    unfold va_cpy mcpy
    by_cases q : dp.toNat ≤ j ∧ j < dp.toNat + n.toNat
    · rw [if_pos q, if_pos ⟨rfl, by omega, by omega⟩, hev]
      show zc_ev G t1 (μ x ((sp.toNat + (j - dp.toNat) : Nat) : Int)) = _
      rw [show ((sp.toNat + (j - dp.toNat) : Nat) : Int) = sp + ((j : Int) - dp) by omega]
    · rw [if_neg q, if_neg (fun w => q ⟨by omega, by omega⟩)]
  rw [e5] at X' step
  have hlt : (y - 1).toNat < H.size := (Array.getElem?_eq_some_iff.mp c3').1
  have et : mcpy μ x sp y dp n y (-1) = μ y (-1) := by unfold mcpy; rw [if_neg (fun w => by omega)]
  have el : mcpy μ x sp y dp n y (-2) = μ y (-2) := by unfold mcpy; rw [if_neg (fun w => by omega)]
  have key := kk _ rfl o ho (H.setIfInBounds (y - 1).toNat (arrV (zc_ac G t1) (μ y (-2)).toNat (fun i => zc_ev G t1 (mcpy μ x sp y dp n y i)))) _ cells slots ls (by
    rw [e1]
    refine zc_Rel.updL (μ' := mcpy μ x sp y dp n) (L := ((arrV (zc_ac G t0) (μ x (-2)).toNat (fun i => zc_ev G t0 (μ x i))).stretch (Int32.ofInt sp).toNatClampNeg (Int32.ofInt n).toNatClampNeg).zipIdx.map fun q => ⟨(y - 1).toNat, (Int32.ofInt dp).toNatClampNeg + q.2⟩) hR0 hy ⟨by omega, ⟨by omega, by omega⟩, by omega, by omega⟩ (by simp) (fun q hq => by rw [Array.getElem?_setIfInBounds, if_neg (Ne.symm hq)]) (fun z j hz => by unfold mcpy; rw [if_neg (fun w => hz w.1)]) et ?_ (fun l hl => by
      obtain ⟨w, -, hw⟩ := List.mem_map.mp hl
      rw [← hw])
    intro t' ht'
    rw [et, hy] at ht'
    have e6 : t1 = t' := by omega
    subst e6
    refine ⟨fun hN => ?_, fun _ _ => ⟨by rw [el]; exact c1, by rw [el]; exact c2, ?_, fun j hj => ?_⟩, fun q => by omega, fun q => by omega, fun q => by omega⟩
    · have h9 := zc_tg hN
      simp only [zc_tags, List.mem_cons, List.not_mem_nil, or_false] at h9
      omega
    · rw [zc_ad_p hy1, Array.getElem?_setIfInBounds, if_pos rfl, if_pos hlt, el]
    · rw [el] at hj
      unfold mcpy
      by_cases q : dp ≤ (j : Int) ∧ (j : Int) < dp + n
      · rw [if_pos ⟨rfl, q.1, q.2⟩]
        have := b4 (sp + ((j : Int) - dp)).toNat (by omega)
        rw [show (((sp + ((j : Int) - dp)).toNat : Nat) : Int) = sp + ((j : Int) - dp) by omega, her] at this
        exact this
      · rw [if_neg (fun w => q w.2)]
        exact c4 j hj) hl
  obtain ⟨t, a1, b1⟩ := key ((T.setVm vm').setCell (y - 1).toNat (arrV (zc_ac G t1) (μ y (-2)).toNat (fun i => zc_ev G t1 (mcpy μ x sp y dp n y i)))) (by rw [← hT]; rfl) X'
  exact ⟨t, step t a1, b1⟩
theorem c_cpB (h : zv_Ok C cc own) (hc : zc_C C G μ0 nL ret rk fr lo nm xt) {index : Nat} {sp dp n : Int} (q1 : Cond.methodLink own index arraycopyName ∈ lw_all) (hsp : inR sp) (hdp : inR dp) (hn : inR n) (hx : zt [31] (μ x (-1)) = true) (hy : zt [31] (μ y (-1)) = true) (hp : 1 ≤ fr) (hlo : nativeFrameWords "java/lang/System" "arraycopy" 5 + 11 ≤ lo) (hd : decode cc pc = .ok (.invokestatic index, 3)) {kd' : MEM → Option zc_O}
    (kk : ∀ μ', μ' = mcpy μ x sp y dp n → VV C (kd' μ') μ' lv [] (pc + 3)) : VV C (ck (0 ≤ sp ∧ 0 ≤ dp ∧ 0 ≤ n ∧ sp + n ≤ μ x (-2) ∧ dp + n ≤ μ y (-2)) (nu (mcpy μ x sp y dp n) kd')) μ lv [iv n, iv dp, zc_rv G y, iv sp, zc_rv G x] pc := by
  refine r_ck (fun hb => ?_)
  obtain ⟨t0, ht0, hx⟩ := zt_mem hx
  obtain ⟨t1, ht1, hy⟩ := zt_mem hy
  have w0 : t0 = 31 := by simpa using ht0
  have w1 : t1 = 31 := by simpa using ht1
  subst w1
  subst w0
  refine zc_copy h hc q1 hsp hdp hn hx hy hp hlo hb (by omega) (by omega) rfl rfl rfl ?_ hd kk
  intro H locs cells slots hR0 vm' hal T hT comp hk i hi0 hi
  obtain ⟨b1, b2, b3, b4⟩ := (hR0.1.2.2.1 x 31 hx).2.1 (by omega) (by omega)
  have := b4 (sp + i).toNat (by omega)
  rw [show (((sp + i).toNat : Nat) : Int) = sp + i by omega] at this
  have hY : isY (μ x (sp + i)) := this
  refine ⟨?_, trivial⟩
  show fits .byte (iv _) = true
  unfold iv
  have e : Int32.ofInt (μ x (sp + i)) = (Int32.ofInt (μ x (sp + i))).toInt8.toInt32 := by
    have := zv_nY hY
    unfold iv at this
    rw [narrow_byte] at this
    injection this with this
    exact this.symm
  rw [e]
  exact pk_fb _
theorem zc_takes {H : Heap} {U : State} {vm' : Vm} {T : State} (hK : zc_K G U) (hH : zc_H G μ H) (hT : T.heap = H) (hal : U.vm.Alike vm') {CN : String} {comp : ClassId} (hcomp : U.vm.findClass CN = some comp) (hz : z = 0 ∨ ∃ t ∈ zc_vt, μ z (-1) = (t : Int) ∧ va_Nw (.castable (zc_nmt t) CN) U) : (T.setVm vm').takes comp (zc_rv G z) := by
  by_cases e : z = 0
  · subst e; exact trivial
  · obtain ⟨t, ht, hzt, hca⟩ := hz.resolve_left e
    obtain ⟨cell, a1, a2, a3⟩ := zc_cell hK hH hzt (List.mem_cons_of_mem _ ht)
    rw [zc_rv_n G e]
    obtain ⟨kC, hkC⟩ := Vm.classAt_of_findClass a3
    obtain ⟨kE, hkE⟩ := Vm.classAt_of_findClass hcomp
    obtain ⟨kC', hkC', -⟩ := hal.2.2 _ _ hkC
    obtain ⟨kE', hkE', -⟩ := hal.2.2 _ _ hkE
    refine ⟨cell, (show T.heap[zc_ad G z]? = some cell by rw [hT]; exact a1), (fun q h => by rw [a2] at h; cases h), ⟨kC', hkC'⟩, ⟨kE', hkE'⟩, ?_⟩
    show vm'.assignable _ _ = true
    rw [hal.assignable]
    exact vb_asgC hca comp cell.cls hcomp a3
theorem c_cp35 (h : zv_Ok C cc own) (hc : zc_C C G μ0 nL ret rk fr lo nm xt) {index : Nat} {sp dp n : Int} (q1 : Cond.methodLink own index arraycopyName ∈ lw_all) (hsp : inR sp) (hdp : inR dp) (hn : inR n) (hx : zt [35] (μ x (-1)) = true) (hy : zt [35] (μ y (-1)) = true) (hp : 1 ≤ fr) (hlo : nativeFrameWords "java/lang/System" "arraycopy" 5 + 11 ≤ lo) (hd : decode cc pc = .ok (.invokestatic index, 3)) {kd' : MEM → Option zc_O}
    (kk : ∀ μ', μ' = mcpy μ x sp y dp n → VV C (kd' μ') μ' lv [] (pc + 3)) : VV C (ck (0 ≤ sp ∧ 0 ≤ dp ∧ 0 ≤ n ∧ sp + n ≤ μ x (-2) ∧ dp + n ≤ μ y (-2)) (ck (zc_rfok [6, 11, 13, 14] μ x sp n = true) (nu (mcpy μ x sp y dp n) kd'))) μ lv [iv n, iv dp, zc_rv G y, iv sp, zc_rv G x] pc := by
  refine r_ck (fun hb => ?_)
  refine r_ck (fun hrf => ?_)
  obtain ⟨t0, ht0, hx⟩ := zt_mem hx
  obtain ⟨t1, ht1, hy⟩ := zt_mem hy
  have w0 : t0 = 35 := by simpa using ht0
  have w1 : t1 = 35 := by simpa using ht1
  subst w0
  subst w1
  have hK := hc.1
  refine zc_copy h hc q1 hsp hdp hn hx hy hp hlo hb (by decide) (by decide) rfl rfl rfl ?_ hd kk
  intro H locs cells slots hR0 vm' hal T hT comp hk i hi0 hi
  have hz := List.all_eq_true.mp hrf i.toNat (List.mem_range.mpr (by omega))
  rw [show ((i.toNat : Nat) : Int) = i by omega] at hz
  refine ⟨(zc_rvn G _ (Or.inl ⟨_, rfl⟩) _).2, ?_⟩
  obtain ⟨k, hk1, hk2⟩ := hk
  obtain ⟨kA, comp', r1, r2, r3, -⟩ := (zc_arr hK (t := 35) (by decide) (by decide)).2
  cases hk1.symm.trans r1
  cases hk2.symm.trans r2
  refine zc_takes hK hR0.1 hT hal (CN := "TreePress$Node") r3 ?_
  rcases Bool.or_eq_true_iff.mp hz with w | w
  · exact Or.inl (of_decide_eq_true w)
  · obtain ⟨tv, htv, hzv⟩ := zt_mem w
    exact Or.inr ⟨tv, (by revert htv; simp only [zc_vt, List.mem_cons, List.not_mem_nil, or_false]; omega), hzv, zc_as35 hK htv⟩
theorem c_cp36 (h : zv_Ok C cc own) (hc : zc_C C G μ0 nL ret rk fr lo nm xt) {index : Nat} {sp dp n : Int} (q1 : Cond.methodLink own index arraycopyName ∈ lw_all) (hsp : inR sp) (hdp : inR dp) (hn : inR n) (hx : zt [36] (μ x (-1)) = true) (hy : zt [36] (μ y (-1)) = true) (hp : 1 ≤ fr) (hlo : nativeFrameWords "java/lang/System" "arraycopy" 5 + 11 ≤ lo) (hd : decode cc pc = .ok (.invokestatic index, 3)) {kd' : MEM → Option zc_O}
    (kk : ∀ μ', μ' = mcpy μ x sp y dp n → VV C (kd' μ') μ' lv [] (pc + 3)) : VV C (ck (0 ≤ sp ∧ 0 ≤ dp ∧ 0 ≤ n ∧ sp + n ≤ μ x (-2) ∧ dp + n ≤ μ y (-2)) (ck (zc_rfok zc_vt μ x sp n = true) (nu (mcpy μ x sp y dp n) kd'))) μ lv [iv n, iv dp, zc_rv G y, iv sp, zc_rv G x] pc := by
  refine r_ck (fun hb => ?_)
  refine r_ck (fun hrf => ?_)
  obtain ⟨t0, ht0, hx⟩ := zt_mem hx
  obtain ⟨t1, ht1, hy⟩ := zt_mem hy
  have w0 : t0 = 36 := by simpa using ht0
  have w1 : t1 = 36 := by simpa using ht1
  subst w0
  subst w1
  have hK := hc.1
  refine zc_copy h hc q1 hsp hdp hn hx hy hp hlo hb (by decide) (by decide) rfl rfl rfl ?_ hd kk
  intro H locs cells slots hR0 vm' hal T hT comp hk i hi0 hi
  have hz := List.all_eq_true.mp hrf i.toNat (List.mem_range.mpr (by omega))
  rw [show ((i.toNat : Nat) : Int) = i by omega] at hz
  refine ⟨(zc_rvn G _ (Or.inl ⟨_, rfl⟩) _).2, ?_⟩
  obtain ⟨k, hk1, hk2⟩ := hk
  obtain ⟨kA, comp', r1, r2, r3, -⟩ := (zc_arr hK (t := 36) (by decide) (by decide)).2
  cases hk1.symm.trans r1
  cases hk2.symm.trans r2
  refine zc_takes hK hR0.1 hT hal (CN := "java/lang/Object") r3 ?_
  rcases Bool.or_eq_true_iff.mp hz with w | w
  · exact Or.inl (of_decide_eq_true w)
  · obtain ⟨tv, htv, hzv⟩ := zt_mem w
    exact Or.inr ⟨tv, (by revert htv; simp only [zc_vt, List.mem_cons, List.not_mem_nil, or_false]; omega), hzv, zc_as36 hK htv⟩
end ZC
