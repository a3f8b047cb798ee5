set_option maxRecDepth 100000
/-! THE CLASS SIDE: what the JDK's own methods ask beside -/
section ZC
variable {C : zv_Cx zc_O} {G : zc_G} {cc : ByteArray} {own : String} {μ0 : MEM} {nL : Nat} {ret : Option FieldType} {rk fr lo : Nat} {nm : String} {xt : List ExceptionTableEntry} {d d1 d2 : Option zc_O} {μ : MEM} {lv lv' : List (Nat × Value)} {st : List Value} {pc : Nat} {x : Int}
theorem c_empty (h : zv_Ok C cc own) (hc : zc_C C G μ0 nL ret rk fr lo nm xt) {index : Nat} (q1 : Cond.fieldLink own index "java/util/ArrayList" "DEFAULTCAPACITY_EMPTY_ELEMENTDATA" "[Ljava/lang/Object;" ∈ lw_all) (hd : decode cc pc = .ok (.getstatic index, 3)) (kk : VV C d μ lv (zc_rv G (-51) :: st) (pc + 3)) : VV C d μ lv st pc :=
  c_gets (ref := "") h hc hc.1.2.2.2.2.2.2.2.2.2.2.2.2.2.1 q1 hd kk
theorem c_compact (h : zv_Ok C cc own) (hc : zc_C C G μ0 nL ret rk fr lo nm xt) {index : Nat} (q1 : Cond.fieldLink own index "java/lang/String" "COMPACT_STRINGS" "Z" ∈ lw_all) (hd : decode cc pc = .ok (.getstatic index, 3)) (kk : VV C d μ lv (iv 1 :: st) (pc + 3)) : VV C d μ lv st pc :=
  c_gets (ref := "") h hc hc.1.2.2.2.2.2.2.2.2.2.2.2.2.2.2.2.1 q1 hd kk
theorem c_sioobe (h : zv_Ok C cc own) (hc : zc_C C G μ0 nL ret rk fr lo nm xt) {index : Nat} (q1 : Cond.fieldLink own index "jdk/internal/util/Preconditions" "SIOOBE_FORMATTER" "Ljava/util/function/BiFunction;" ∈ lw_all) (hd : decode cc pc = .ok (.getstatic index, 3)) (kk : VV C d μ lv (zc_rv G (zc_sf G) :: st) (pc + 3)) : VV C d μ lv st pc :=
  c_gets (ref := "") h hc hc.1.2.2.2.2.2.2.2.2.2.2.2.2.2.2.2.2.1 q1 hd kk
theorem c_ldcM (h : zv_Ok C cc own) (hc : zc_C C G μ0 nL ret rk fr lo nm xt) {index : Nat} (q1 : Cond.classLink own index "[Ljava/lang/Object;" ∈ lw_all) (hd : decode cc pc = .ok (.ldc index, 2)) (kk : VV C d μ lv (zc_rv G (-52) :: st) (pc + 2)) : VV C d μ lv st pc := by
  intro o ho H locs cells slots ls hR hl
  exact va_ldcM h.1 h.2.1 h.2.2.2.1 (h.2.2.2.2 _ q1) hc.1.2.2.2.2.2.2.2.2.2.2.2.2.2.2.2.2.2.2.2.1 hd (kk o ho H locs cells slots ls hR hl)
theorem c_getclass (h : zv_Ok C cc own) (hc : zc_C C G μ0 nL ret rk fr lo nm xt) {index : Nat} (q1 : Cond.methodLink own index ⟨"java/lang/Object", "getClass", "()Ljava/lang/Class;"⟩ ∈ lw_all) (hts : zt [36] (μ x (-1)) = true) (hfr : 1 ≤ fr) {w : Nat} (hst : (st.map fun v => v.category).sum = w) (hlo : w + 14 ≤ lo) (hd : decode cc pc = .ok (.invokevirtual index, 3)) (kk : VV C d μ lv (zc_rv G (-52) :: st) (pc + 3)) : VV C d μ lv (zc_rv G x :: st) pc := by
  obtain ⟨t, ht, hz⟩ := zt_mem hts
  have e : t = 36 := by simpa using ht
  subst e
  intro o ho H locs cells slots ls hR hl
  have hR0 := hR
  have hK := hc.1
  have hRm := hc.2.2.2.2.1
  rw [hc.2.2.2.2.2.1] at hR0
  have hx0 : x ≠ 0 := zc_ne0 hR0.1 hz (by decide)
  obtain ⟨cell, a1, a2, a3⟩ := zc_cell hK hR0.1 hz (by decide)
  rw [zc_rv_n G hx0]
  exact va_getC (C := "[Ljava/lang/Object;") h.1 h.2.1 (h.2.2.1.trans hl.1.symm) h.2.2.2.1 (h.2.2.2.2 _ q1) (hK.2.2.2.2.2.2.2.2.2.2.2.2.2.2.2.2.2.2.2.2.1).use (h.2.2.2.2 _ q2243) (h.2.2.2.2 _ q376) (h.2.2.2.2 _ q396) hK.2.2.2.2.2.2.2.2.2.2.2.2.2.2.2.2.2.2.2.1 ⟨cell, a1, by rw [a2]; rfl, a3⟩ (by rw [hRm]; exact hfr) (by rw [hRm]; show _ + 14 ≤ lo; omega) hd (kk o ho H locs cells slots ls hR hl)
theorem zc_raE {H : Heap} {locs : List Loc} {cells slots : Nat} (hR0 : zc_Rel G μ0 (zv_s C).heap μ H locs cells slots) (hx : x = -51 ∨ zt [36] (μ x (-1)) = true) : zc_ra G x = zc_ra G (-51) ↔ x = -51 := by
  constructor
  · intro e
    rcases hx with hx | hx
    · exact hx
    · obtain ⟨t, ht, hz⟩ := zt_mem hx
      have e2 : t = 36 := by simpa using ht
      subst e2
      have hp := zc_H_pos hR0.1 hz (by decide) (by decide)
      have hg := hR0.1.1 51
      unfold zc_ra at e
      rw [if_neg (by omega), if_pos (by omega), if_neg (by decide), if_neg (by decide)] at e
      have := Option.some.inj e
      rw [show (-(-51 : Int)).toNat = 51 from rfl] at this
      omega
  · intro e; rw [e]
theorem c_acmpE_eq (h : zv_Ok C cc own) (hc : zc_C C G μ0 nL ret rk fr lo nm xt) {off : Int} (tgt : Nat) (hd : decode cc pc = .ok (.if_acmp .eq off, 3)) (ht : (pc : Int) + off = (tgt : Int)) (k1 : VV C d1 μ lv st tgt) (k2 : VV C d2 μ lv st (pc + 3)) : VV C (ck (x = -51 ∨ zt [36] (μ x (-1)) = true) (if x = -51 then d1 else d2)) μ lv (zc_rv G (-51) :: zc_rv G x :: st) pc := by
  refine r_ck (fun hx => ?_)
  intro o ho H locs cells slots ls hR hl
  have hR0 := hR
  rw [hc.2.2.2.2.2.1] at hR0
  have key := zc_raE hR0 hx
  exact lv_acmp_eq h.1 h.2.1 hd ht (fun e => k1 o (by rw [if_pos (key.mp e)] at ho; exact ho) H locs cells slots ls hR hl) (fun e => k2 o (by rw [if_neg (fun q => e (key.mpr q))] at ho; exact ho) H locs cells slots ls hR hl)
theorem c_acmpM_ne (h : zv_Ok C cc own) {off : Int} (tgt : Nat) (hd : decode cc pc = .ok (.if_acmp .ne off, 3)) (ht : (pc : Int) + off = (tgt : Int)) (k1 : VV C d μ lv st (pc + 3)) : VV C (ck (x = (-52)) d) μ lv (zc_rv G (-52) :: zc_rv G x :: st) pc := by
  refine r_ck (fun hx => ?_)
  subst hx
  intro o ho H locs cells slots ls hR hl
  exact lv_acmp_ne h.1 h.2.1 hd ht (fun e => absurd rfl e) (fun e => k1 o ho H locs cells slots ls hR hl)
theorem c_strC (h : zv_Ok C cc own) (hc : zc_C C G μ0 nL ret rk fr lo nm xt) {index : Nat} (q1 : Cond.fieldLink own index "java/lang/String" "coder" "B" ∈ lw_all) (hx : (-43 : Int) ≤ x ∧ x < 0) (hd : decode cc pc = .ok (.getfield index, 3)) (kk : VV C d μ lv (iv 0 :: st) (pc + 3)) : VV C d μ lv (zc_rv G x :: st) pc := by
  intro o ho H locs cells slots ls hR hl
  have hR0 := hR
  have hK := hc.1
  rw [hc.2.2.2.2.2.1] at hR0
  obtain ⟨cf, k, i, f, cell, h1, h2, h3, h4, h5, h6⟩ := (hK.2.2.2.2.2.2.2.2.2.2.1 (-x).toNat (by omega) (by omega)).2.1
  have had : zc_ad G x = zc_st G (-x).toNat := by unfold zc_ad; rw [if_neg (by omega)]
  rw [zc_rv_n G (by omega), had]
  exact W.getf h.1 h.2.1 h.2.2.2.1 (h.2.2.2.2 _ q1) h1 h2 (by rw [hR0.1.2.2.2.2 _ (hR0.1.1 _)]; exact h3) h4 (v := iv 0) h5 rfl rfl hd (kk o ho H locs cells slots ls hR hl)
theorem c_strV (h : zv_Ok C cc own) (hc : zc_C C G μ0 nL ret rk fr lo nm xt) {index : Nat} (q1 : Cond.fieldLink own index "java/lang/String" "value" "[B" ∈ lw_all) (hx : (-43 : Int) ≤ x ∧ x < 0) (hd : decode cc pc = .ok (.getfield index, 3)) (kk : VV C d μ lv (zc_rv G (x - 100) :: st) (pc + 3)) : VV C d μ lv (zc_rv G x :: st) pc := by
  intro o ho H locs cells slots ls hR hl
  have hR0 := hR
  have hK := hc.1
  rw [hc.2.2.2.2.2.1] at hR0
  obtain ⟨cf, k, i, f, cell, h1, h2, h3, h4, h5, h6⟩ := (hK.2.2.2.2.2.2.2.2.2.2.1 (-x).toNat (by omega) (by omega)).2.2
  have had : zc_ad G x = zc_st G (-x).toNat := by unfold zc_ad; rw [if_neg (by omega)]
  have hav : zc_rv G (x - 100) = .ref (zc_st G ((-x).toNat + 100)) := by
    rw [zc_rv_n G (by omega)]
    unfold zc_ad
    rw [if_neg (by omega), show (-(x - 100)).toNat = (-x).toNat + 100 by omega]
  have hk := kk o ho H locs cells slots ls hR hl
  rw [hav] at hk
  rw [zc_rv_n G (by omega), had]
  exact W.getf h.1 h.2.1 h.2.2.2.1 (h.2.2.2.2 _ q1) h1 h2 (by rw [hR0.1.2.2.2.2 _ (hR0.1.1 _)]; exact h3) h4 h5 rfl rfl hd hk
def zmax (x y : Int) : Int := if x < y then y else x
def zmin (x y : Int) : Int := if y < x then y else x
theorem zmax_r {x y : Int} (hx : inR x) (hy : inR y) : inR (zmax x y) := by unfold zmax; split <;> assumption
theorem zmin_r {x y : Int} (hx : inR x) (hy : inR y) : inR (zmin x y) := by unfold zmin; split <;> assumption
theorem c_mmax (h : zv_Ok C cc own) (hc : zc_C C G μ0 nL ret rk fr lo nm xt) {index : Nat} {y : Int} (hx : inR x) (hy : inR y) (q1 : Cond.methodLink own index ⟨"java/lang/Math", "max", "(II)I"⟩ ∈ lw_all) (hfr : 1 ≤ fr) {w : Nat} (hst : (st.map fun v => v.category).sum = w) (hlo : w + 13 ≤ lo) (hd : decode cc pc = .ok (.invokestatic index, 3)) (kk : VV C d μ lv (iv (zmax x y) :: st) (pc + 3)) : VV C d μ lv (iv y :: iv x :: st) pc := by
  intro o ho H locs cells slots ls hR hl
  have hR0 := hR
  have hRm := hc.2.2.2.2.1
  rw [hc.2.2.2.2.2.1] at hR0
  have hk := kk o ho H locs cells slots ls hR hl
  have e : iv (zmax x y) = .int (if Int32.ofInt x < Int32.ofInt y then Int32.ofInt y else Int32.ofInt x) := by
    unfold iv zmax
    by_cases q : x < y
    · rw [if_pos q, if_pos ((oi_lt hx hy).mpr q)]
    · rw [if_neg q, if_neg (fun z => q ((oi_lt hx hy).mp z))]
  rw [e] at hk
  obtain ⟨-, -, -, -, -, -, r7, r8, r9, r10⟩ := hR0
  exact va_mmax h.1 h.2.1 (h.2.2.1.trans hl.1.symm) h.2.2.2.1 (h.2.2.2.2 _ q1) (h.2.2.2.2 _ q366) (h.2.2.2.2 _ q144) (h.2.2.2.2 _ q367) (by rw [hRm]; exact hfr) (by rw [hRm]; show _ + 13 ≤ lo; omega) (by rw [hRm]; show _ ≤ (μ0 0 1).toNat; omega) (by rw [hRm]; show _ ≤ (μ0 0 2).toNat; omega) hd hk
theorem c_mmin (h : zv_Ok C cc own) (hc : zc_C C G μ0 nL ret rk fr lo nm xt) {index : Nat} {y : Int} (hx : inR x) (hy : inR y) (q1 : Cond.methodLink own index ⟨"java/lang/Math", "min", "(II)I"⟩ ∈ lw_all) (hfr : 1 ≤ fr) {w : Nat} (hst : (st.map fun v => v.category).sum = w) (hlo : w + 13 ≤ lo) (hd : decode cc pc = .ok (.invokestatic index, 3)) (kk : VV C d μ lv (iv (zmin x y) :: st) (pc + 3)) : VV C d μ lv (iv y :: iv x :: st) pc := by
  intro o ho H locs cells slots ls hR hl
  have hR0 := hR
  have hRm := hc.2.2.2.2.1
  rw [hc.2.2.2.2.2.1] at hR0
  have hk := kk o ho H locs cells slots ls hR hl
  have e : iv (zmin x y) = .int (if Int32.ofInt y < Int32.ofInt x then Int32.ofInt y else Int32.ofInt x) := by
    unfold iv zmin
    by_cases q : y < x
    · rw [if_pos q, if_pos ((oi_lt hy hx).mpr q)]
    · rw [if_neg q, if_neg (fun z => q ((oi_lt hy hx).mp z))]
  rw [e] at hk
  obtain ⟨-, -, -, -, -, -, r7, r8, r9, r10⟩ := hR0
  exact va_mmin h.1 h.2.1 (h.2.2.1.trans hl.1.symm) h.2.2.2.1 (h.2.2.2.2 _ q1) (h.2.2.2.2 _ q403) (h.2.2.2.2 _ q144) (h.2.2.2.2 _ q404) (by rw [hRm]; exact hfr) (by rw [hRm]; show _ + 13 ≤ lo; omega) (by rw [hRm]; show _ ≤ (μ0 0 1).toNat; omega) (by rw [hRm]; show _ ≤ (μ0 0 2).toNat; omega) hd hk
end ZC
