set_option maxRecDepth 100000
/-! THE CLASS SIDE: rules for fields, arrays, new cells, casts, constants (written by wip/gen/crules.py) -/
theorem zc_Rel.upd {G : zc_G} {μ0 μ μ' : MEM} {H0 H H' : Heap} {locs : List Loc} {c s : Nat} (hR : zc_Rel G μ0 H0 μ H locs c s) {z : Int} {t : Nat} (hz : μ z (-1) = (t : Int)) (ht : t ≠ 0 ∧ (t ≠ 30 ∧ t ≠ 37) ∧ t ≠ 40 ∧ t ≠ 41) (hsz : H'.size = H.size) (ho : ∀ q : Nat, q ≠ (z - 1).toNat → H'[q]? = H[q]?)
    (hμ : ∀ y j, y ≠ z → μ' y j = μ y j) (htag : μ' z (-1) = μ z (-1)) (hrow : zc_row G μ' H' z) (i : Nat) : zc_Rel G μ0 H0 μ' H' (locs ++ [⟨(z - 1).toNat, i⟩]) c s := by
  obtain ⟨a1, a2, a3, a4, a5, a6, a7, a8, a9, a10⟩ := hR
  have hzp := zc_H_pos a1 hz ht.1 ht.2.1
  have hz0 : (0 : Int) ≠ z := by omega
  have htg : ∀ y, μ' y (-1) = μ y (-1) := fun y => by
    by_cases e : y = z
    · rw [e]; exact htag
    · exact hμ y _ e
  refine ⟨zc_H_upd a1 hz ht hsz ho hμ htag hrow, by omega, by rw [hμ _ _ hz0, hsz]; exact a3, fun q hq => by rw [htg]; exact a4 q hq, fun q hq hq0 => ?_, fun l hl => ?_, by rw [hμ _ _ hz0]; exact a7, by rw [hμ _ _ hz0]; exact a8, by rw [hμ _ _ hz0]; exact a9, by rw [hμ _ _ hz0]; exact a10⟩
  · rw [ho q ?_]
    · exact a5 q hq hq0
    · intro e
      have e2 : (q : Int) + 1 = z := by omega
      have := (a4 q hq).mpr hq0
      rw [e2, hz] at this
      omega
  · rcases List.mem_append.mp hl with w | w
    · exact a6 l w
    · rw [List.mem_singleton.mp w]
      by_cases hlt : (z - 1).toNat < H0.size
      · right
        intro e
        have := (a4 _ hlt).mpr e
        rw [show (((z - 1).toNat : Nat) : Int) + 1 = z by omega, hz] at this
        omega
      · exact Or.inl (Nat.not_lt.mp hlt)
theorem mnew_n {μ : MEM} {t n s y j : Int} (h1 : y ≠ μ 0 0) (h2 : y ≠ 0) : mnew μ t n s y j = μ y j := by
  unfold mnew; rw [if_neg h1, if_neg h2]
theorem zc_Rel.push {G : zc_G} {μ0 μ : MEM} {H0 H H' : Heap} {locs : List Loc} {c s N : Nat} {t n : Int} (hR : zc_Rel G μ0 H0 μ H locs c s) (hl : 1 ≤ μ 0 1 ∧ (N : Int) ≤ μ 0 2) (hsz : H'.size = H.size + 1) (ho : ∀ q : Nat, q < H.size → H'[q]? = H[q]?)
    (hrow : zc_row G (mnew μ t n N) H' ((H.size : Int) + 1)) : zc_Rel G μ0 H0 (mnew μ t n N) H' locs (c + 1) (s + N) := by
  obtain ⟨a1, a2, a3, a4, a5, a6, a7, a8, a9, a10⟩ := hR
  have h00 : mnew μ t n N 0 0 = μ 0 0 + 1 := by unfold mnew; rw [if_neg (by omega), if_pos rfl, if_pos rfl]
  have h01 : mnew μ t n N 0 1 = μ 0 1 - 1 := by unfold mnew; rw [if_neg (by omega), if_pos rfl, if_neg (by decide), if_pos rfl]
  have h02 : mnew μ t n N 0 2 = μ 0 2 - N := by unfold mnew; rw [if_neg (by omega), if_pos rfl, if_neg (by decide), if_neg (by decide), if_pos rfl]
  have h0m : mnew μ t n N 0 (-1) = μ 0 (-1) := by unfold mnew; rw [if_neg (by omega), if_pos rfl, if_neg (by decide), if_neg (by decide), if_neg (by decide)]
  have hm0 : μ 0 (-1) = 0 := by
    by_cases e : μ 0 (-1) = 0
    · exact e
    · rcases a1.2.1 0 e with w | w <;> omega
  refine ⟨zc_H_push a1 hsz ho (fun y j h1 h2 => mnew_n (by omega) h2) (by rw [h0m, hm0]) hrow, by omega, by rw [h00]; omega, fun q hq => by rw [mnew_n (by omega) (by omega)]; exact a4 q hq, fun q hq hq0 => by rw [ho q (by omega)]; exact a5 q hq hq0, a6, by rw [h01]; omega, by rw [h02]; omega, by rw [h01]; omega, by rw [h02]; omega⟩
def zc_fdb (t : Nat) (K : Int) (kd : Nat) (O n d : String) (fin : Bool) : Bool := decide (0 < zc_N t) && (List.range (zc_N t)).any fun k => decide (zc_T t k = (O, n, d, fin)) && (decide (zc_col t k = K) && decide (zc_kd t k = kd))
theorem zc_fd {t : Nat} {K : Int} {kd : Nat} {O n d : String} {fin : Bool} (h : zc_fdb t K kd O n d fin = true) : 0 < zc_N t ∧ ∃ k, k < zc_N t ∧ zc_T t k = (O, n, d, fin) ∧ zc_col t k = K ∧ zc_kd t k = kd := by
  unfold zc_fdb at h
  obtain ⟨h1, h2⟩ := Bool.and_eq_true_iff.mp h
  obtain ⟨k, hk, h3⟩ := List.any_eq_true.mp h2
  obtain ⟨h4, h5⟩ := Bool.and_eq_true_iff.mp h3
  obtain ⟨h5, h6⟩ := Bool.and_eq_true_iff.mp h5
  exact ⟨of_decide_eq_true h1, k, List.mem_range.mp hk, of_decide_eq_true h4, of_decide_eq_true h5, of_decide_eq_true h6⟩
/-- how a field is linked -/
def zc_lk (C : zv_Cx zc_O) (own : String) (index : Nat) (O n d : String) : Prop := ∃ ref, (∀ x, (zv_s C).fieldFound? O n d = some x → (zv_s C).fieldFound? ref n d = some x) ∧ ((Cond.fieldLink own index ref n d).before (zv_a C) (zv_s C) = true ∨ ∃ host, (Cond.fieldLinkNest own index ref n d host).before (zv_a C) (zv_s C) = true)
section ZC
variable {C : zv_Cx zc_O} {G : zc_G} {cc : ByteArray} {own : String} {μ0 : MEM} {nL : Nat} {ret : Option FieldType} {rk fr lo : Nat} {nm : String} {xt : List ExceptionTableEntry} {d d1 d2 : Option zc_O} {μ : MEM} {lv lv' : List (Nat × Value)} {st : List Value} {pc : Nat} {x y : Int}
theorem zc_lk1 (h : zv_Ok C cc own) {index : Nat} {O n ds : String} (q : Cond.fieldLink own index O n ds ∈ lw_all) : zc_lk C own index O n ds := ⟨O, fun _ z => z, Or.inl (h.2.2.2.2 _ q)⟩
theorem zc_lk2 (h : zv_Ok C cc own) {index : Nat} {ref O n ds : String} (q : Cond.fieldLink own index ref n ds ∈ lw_all) (q2 : Cond.sameField ref O n ds ∈ lw_all) : zc_lk C own index O n ds := ⟨ref, fun z hz => u_same (h.2.2.2.2 _ q2) z hz, Or.inl (h.2.2.2.2 _ q)⟩
theorem zc_lk3 (hc : zc_C C G μ0 nL ret rk fr lo nm xt) {index : Nat} {O n ds host : String} (q : (own, index, O, n, ds, host) ∈ zc_nF) : zc_lk C own index O n ds := ⟨O, fun _ z => z, Or.inr ⟨host, (hc.1.2.2.2.1 _ q).use rfl⟩⟩
theorem zc_lk4 (h : zv_Ok C cc own) (hc : zc_C C G μ0 nL ret rk fr lo nm xt) {index : Nat} {ref O n ds host : String} (q : (own, index, ref, n, ds, host) ∈ zc_nF) (q2 : Cond.sameField ref O n ds ∈ lw_all) : zc_lk C own index O n ds := ⟨ref, fun z hz => u_same (h.2.2.2.2 _ q2) z hz, Or.inr ⟨host, (hc.1.2.2.2.1 _ q).use rfl⟩⟩
theorem c_aload_n (h : zv_Ok C cc own) (j : Nat) {kk : Fin 4} {i : Nat} (hd : decode cc pc = .ok (.aload_n kk, 1)) (hi : (kk : Nat) = i) (hj : lv[j]? = some (i, zc_rv G x)) (k : VV C d μ lv (zc_rv G x :: st) (pc + 1)) : VV C d μ lv st pc := by
  intro o ho H locs cells slots ls hR hl
  have hk := k o ho H locs cells slots ls hR hl
  have hat := lv_at hl j hj
  rcases zc_rv_or G x with e | ⟨a, e⟩
  · rw [e] at hk hat; exact lv_aload_nN h.1 h.2.1 hd hi hat hk
  · rw [e] at hk hat; exact lv_aload_n h.1 h.2.1 hd hi hat hk
theorem c_aload (h : zv_Ok C cc own) (j : Nat) {i : Nat} (hd : decode cc pc = .ok (.aload i, 2)) (hj : lv[j]? = some (i, zc_rv G x)) (k : VV C d μ lv (zc_rv G x :: st) (pc + 2)) : VV C d μ lv st pc := by
  intro o ho H locs cells slots ls hR hl
  have hk := k o ho H locs cells slots ls hR hl
  have hat := lv_at hl j hj
  rcases zc_rv_or G x with e | ⟨a, e⟩
  · rw [e] at hk hat; exact lv_aloadN h.1 h.2.1 hd hat hk
  · rw [e] at hk hat; exact lv_aload h.1 h.2.1 hd hat hk
theorem c_astore_n (h : zv_Ok C cc own) {i : Nat} {kk : Fin 4} (hd : decode cc pc = .ok (.astore_n kk, 1)) (hi : (kk : Nat) = i) (hn : i < zv_n C) (hl' : (i, zc_rv G x) :: lv.filter (fun q => !(q.1 == i) && !(q.1 + 1 == i && q.2.category == 2)) = lv') (k : VV C d μ lv' st (pc + 1)) : VV C d μ lv (zc_rv G x :: st) pc := by
  subst hl'
  intro o ho H locs cells slots ls hR hl
  rcases zc_rv_or G x with e | ⟨a, e⟩
  · rw [e]; exact lv_astore_nN h.1 h.2.1 hd hi hl hn rfl (fun ls' h2 => k o ho H locs cells slots ls' hR (by rw [e]; exact h2))
  · rw [e]; exact lv_astore_n h.1 h.2.1 hd hi hl hn rfl (fun ls' h2 => k o ho H locs cells slots ls' hR (by rw [e]; exact h2))
theorem c_astore (h : zv_Ok C cc own) {i : Nat} (hd : decode cc pc = .ok (.astore i, 2)) (hn : i < zv_n C) (hl' : (i, zc_rv G x) :: lv.filter (fun q => !(q.1 == i) && !(q.1 + 1 == i && q.2.category == 2)) = lv') (k : VV C d μ lv' st (pc + 2)) : VV C d μ lv (zc_rv G x :: st) pc := by
  subst hl'
  intro o ho H locs cells slots ls hR hl
  rcases zc_rv_or G x with e | ⟨a, e⟩
  · rw [e]; exact lv_astoreN h.1 h.2.1 hd hl hn rfl (fun ls' h2 => k o ho H locs cells slots ls' hR (by rw [e]; exact h2))
  · rw [e]; exact lv_astore h.1 h.2.1 hd hl hn rfl (fun ls' h2 => k o ho H locs cells slots ls' hR (by rw [e]; exact h2))
theorem c_null (G : zc_G) (h : zv_Ok C cc own) (hd : decode cc pc = .ok (.aconst_null, 1)) (k : VV C d μ lv (zc_rv G 0 :: st) (pc + 1)) : VV C d μ lv st pc := fun o ho H locs cells slots ls hR hl => lv_null h.1 h.2.1 hd (k o ho H locs cells slots ls hR hl)
theorem c_ifnull (h : zv_Ok C cc own) {off : Int} (tgt : Nat) (hd : decode cc pc = .ok (.ifnull off, 3)) (ht : (pc : Int) + off = (tgt : Int)) (k1 : VV C d1 μ lv st tgt) (k2 : VV C d2 μ lv st (pc + 3)) : VV C (if x = 0 then d1 else d2) μ lv (zc_rv G x :: st) pc := by
  intro o ho H locs cells slots ls hR hl
  by_cases e : x = 0
  · rw [if_pos e] at ho
    subst e
    exact lv_ifnullN h.1 h.2.1 hd ht (k1 o ho H locs cells slots ls hR hl)
  · rw [if_neg e] at ho
    rw [zc_rv_n G e]
    exact lv_ifnull h.1 h.2.1 hd (k2 o ho H locs cells slots ls hR hl)
theorem c_ifnonnull (h : zv_Ok C cc own) {off : Int} (tgt : Nat) (hd : decode cc pc = .ok (.ifnonnull off, 3)) (ht : (pc : Int) + off = (tgt : Int)) (k1 : VV C d1 μ lv st (pc + 3)) (k2 : VV C d2 μ lv st tgt) : VV C (if x = 0 then d1 else d2) μ lv (zc_rv G x :: st) pc := by
  intro o ho H locs cells slots ls hR hl
  by_cases e : x = 0
  · rw [if_pos e] at ho
    subst e
    exact lv_ifnonnullN h.1 h.2.1 hd (k1 o ho H locs cells slots ls hR hl)
  · rw [if_neg e] at ho
    rw [zc_rv_n G e]
    exact lv_ifnonnull h.1 h.2.1 hd ht (k2 o ho H locs cells slots ls hR hl)
theorem zc_ra_inj {G : zc_G} {x y : Int} (hx : 0 ≤ x) (hy : 0 ≤ y) : zc_ra G x = zc_ra G y ↔ x = y := by
  unfold zc_ra
  by_cases a : x = 0 <;> by_cases b : y = 0
  · simp [a, b]
  · rw [if_pos a, if_neg b, if_pos (by omega)]; simp; omega
  · rw [if_neg a, if_pos b, if_pos (by omega)]; simp; omega
  · rw [if_neg a, if_neg b, if_pos (by omega), if_pos (by omega)]
    simp only [Option.some.injEq]
    omega
theorem c_acmp_eq (h : zv_Ok C cc own) {off : Int} (tgt : Nat) (hd : decode cc pc = .ok (.if_acmp .eq off, 3)) (ht : (pc : Int) + off = (tgt : Int)) (k1 : VV C d1 μ lv st tgt) (k2 : VV C d2 μ lv st (pc + 3)) : VV C (ck (0 ≤ x ∧ 0 ≤ y) (if x = y then d1 else d2)) μ lv (zc_rv G y :: zc_rv G x :: st) pc := by
  refine r_ck (fun hxy => ?_)
  intro o ho H locs cells slots ls hR hl
  exact lv_acmp_eq h.1 h.2.1 hd ht (fun e => k1 o (by rw [if_pos ((zc_ra_inj hxy.1 hxy.2).mp e)] at ho; exact ho) H locs cells slots ls hR hl) (fun e => k2 o (by rw [if_neg (fun q => e ((zc_ra_inj hxy.1 hxy.2).mpr q))] at ho; exact ho) H locs cells slots ls hR hl)
theorem c_acmp_ne (h : zv_Ok C cc own) {off : Int} (tgt : Nat) (hd : decode cc pc = .ok (.if_acmp .ne off, 3)) (ht : (pc : Int) + off = (tgt : Int)) (k1 : VV C d1 μ lv st (pc + 3)) (k2 : VV C d2 μ lv st tgt) : VV C (ck (0 ≤ x ∧ 0 ≤ y) (if x = y then d1 else d2)) μ lv (zc_rv G y :: zc_rv G x :: st) pc := by
  refine r_ck (fun hxy => ?_)
  intro o ho H locs cells slots ls hR hl
  exact lv_acmp_ne h.1 h.2.1 hd ht (fun e => k2 o (by rw [if_neg (fun q => e ((zc_ra_inj hxy.1 hxy.2).mpr q))] at ho; exact ho) H locs cells slots ls hR hl) (fun e => k1 o (by rw [if_pos ((zc_ra_inj hxy.1 hxy.2).mp e)] at ho; exact ho) H locs cells slots ls hR hl)
theorem zc_ne0 {H : Heap} (hH : zc_H G μ H) {t : Nat} (hz : μ x (-1) = (t : Int)) (ht : t ≠ 0) : x ≠ 0 := by
  intro e
  subst e
  rcases hH.2.1 0 (by omega) with w | w <;> omega
/-- a field is read -/
theorem c_get (h : zv_Ok C cc own) (hc : zc_C C G μ0 nL ret rk fr lo nm xt) {index : Nat} {O n ds : String} {fin : Bool} (ts : List Nat) (K : Int) (kd : Nat) (hlk : zc_lk C own index O n ds) (hts : zt ts (μ x (-1)) = true) (hq : ts.all (fun t => zc_fdb t K kd O n ds fin) = true) (hd : decode cc pc = .ok (.getfield index, 3))
    (kk : ∀ v, zc_fok G kd v (μ x K) → VV C d μ lv (v :: st) (pc + 3)) : VV C d μ lv (zc_rv G x :: st) pc := by
  obtain ⟨t, ht, hz⟩ := zt_mem hts
  obtain ⟨hN, k, hk, hT, hcol, hkd⟩ := zc_fd (List.all_eq_true.mp hq t ht)
  intro o ho H locs cells slots ls hR hl
  have hR0 := hR
  obtain ⟨hK, hn0, hr0, hlk0, hRm, e1, e2, hxt, hL, hnm⟩ := hc
  rw [e1] at hR0
  have hx0 : x ≠ 0 := zc_ne0 hR0.1 hz (fun e => by rw [e] at hN; exact absurd hN (by decide))
  obtain ⟨f, ⟨cell, a1, a2, a3, a4⟩, hf⟩ := (hR0.1.2.2.1 x t hz).1 hN
  obtain ⟨hS, hfc, kC, hkC, hkind⟩ := hK.1 t hN
  obtain ⟨cf, kf, fi, fd, hi, hsl⟩ := hS k hk
  have hst := (u_facts hfc hkC (u_lays h.2.2.2.2 (zc_in hN) hk) hi).1
  rw [hT] at hi
  have hff := hf k hk
  rw [hcol, hkd] at hff
  rw [zc_rv_n G hx0]
  obtain ⟨ref, hsame, hl1 | ⟨host, hl1⟩⟩ := hlk
  · exact W.getf h.1 h.2.1 h.2.2.2.1 hl1 (hsame _ hi) hst a1 (by rw [a3]; intro q; cases q) (by rw [hsl]; exact a4 k hk) rfl rfl hd (kk _ hff o ho H locs cells slots ls hR hl)
  · exact va_Wgetf h.1 h.2.1 h.2.2.2.1 hl1 (hsame _ hi) hst a1 (by rw [a3]; intro q; cases q) (by rw [hsl]; exact a4 k hk) rfl rfl hd (kk _ hff o ho H locs cells slots ls hR hl)
theorem c_getI (h : zv_Ok C cc own) (hc : zc_C C G μ0 nL ret rk fr lo nm xt) {index : Nat} {O n ds : String} {fin : Bool} (ts : List Nat) (K : Int) (hlk : zc_lk C own index O n ds) (hts : zt ts (μ x (-1)) = true) (hq : ts.all (fun t => zc_fdb t K 0 O n ds fin) = true) (hd : decode cc pc = .ok (.getfield index, 3))
    (kk : inR (μ x K) → VV C d μ lv (iv (μ x K) :: st) (pc + 3)) : VV C d μ lv (zc_rv G x :: st) pc := c_get h hc ts K 0 hlk hts hq hd (fun v hv => by rw [hv.1]; exact kk hv.2)
theorem c_getZ (h : zv_Ok C cc own) (hc : zc_C C G μ0 nL ret rk fr lo nm xt) {index : Nat} {O n ds : String} {fin : Bool} (ts : List Nat) (K : Int) (hlk : zc_lk C own index O n ds) (hts : zt ts (μ x (-1)) = true) (hq : ts.all (fun t => zc_fdb t K 1 O n ds fin) = true) (hd : decode cc pc = .ok (.getfield index, 3))
    (kk : isB (μ x K) → VV C d μ lv (iv (μ x K) :: st) (pc + 3)) : VV C d μ lv (zc_rv G x :: st) pc := c_get h hc ts K 1 hlk hts hq hd (fun v hv => by rw [hv.1]; exact kk hv.2)
theorem c_getJ (h : zv_Ok C cc own) (hc : zc_C C G μ0 nL ret rk fr lo nm xt) {index : Nat} {O n ds : String} {fin : Bool} (ts : List Nat) (K : Int) (hlk : zc_lk C own index O n ds) (hts : zt ts (μ x (-1)) = true) (hq : ts.all (fun t => zc_fdb t K 2 O n ds fin) = true) (hd : decode cc pc = .ok (.getfield index, 3))
    (kk : inL (μ x K) → VV C d μ lv (jv (μ x K) :: st) (pc + 3)) : VV C d μ lv (zc_rv G x :: st) pc := c_get h hc ts K 2 hlk hts hq hd (fun v hv => by rw [hv.1]; exact kk hv.2)
theorem c_getR (h : zv_Ok C cc own) (hc : zc_C C G μ0 nL ret rk fr lo nm xt) {index : Nat} {O n ds : String} {fin : Bool} (ts : List Nat) (K : Int) (hlk : zc_lk C own index O n ds) (hts : zt ts (μ x (-1)) = true) (hq : ts.all (fun t => zc_fdb t K 9 O n ds fin) = true) (hd : decode cc pc = .ok (.getfield index, 3))
    (kk : VV C d μ lv (zc_rv G (μ x K) :: st) (pc + 3)) : VV C d μ lv (zc_rv G x :: st) pc := c_get h hc ts K 9 hlk hts hq hd (fun v hv => by rw [show v = zc_rv G (μ x K) from hv]; exact kk)
/-- a field is written -/
theorem c_put (h : zv_Ok C cc own) (hc : zc_C C G μ0 nL ret rk fr lo nm xt) {index : Nat} {O n ds : String} (ts : List Nat) (K : Int) (kd : Nat) (fin : Bool) (hlk : zc_lk C own index O n ds) (hts : zt ts (μ x (-1)) = true) (hq : ts.all (fun t => zc_fdb t K kd O n ds fin) = true) (hfin : fin = false ∨ (nm = "<init>" ∧ O = own ∧ fin = true)) {ty : FieldType} (hty : parseFieldDescriptor ds = some ty) {v : Value} (hn : narrow ty v = v) (hfit : fits ty v = true) (hv : zc_fok G kd v y) (hd : decode cc pc = .ok (.putfield index, 3)) {kd' : MEM → Option zc_O}
    (kk : ∀ μ', μ' = mup μ x K y → VV C (kd' μ') μ' lv st (pc + 3)) : VV C (nu (mup μ x K y) kd') μ lv (v :: zc_rv G x :: st) pc := by
  obtain ⟨t, ht, hz⟩ := zt_mem hts
  obtain ⟨hN, k, hk, hT, hcol, hkd⟩ := zc_fd (List.all_eq_true.mp hq t ht)
  intro o ho H locs cells slots ls hR hl
  have hR0 := hR
  obtain ⟨hK, hn0, hr0, hlk0, hRm, e1, e2, hxt, hL, hnm⟩ := hc
  rw [e1] at hR0
  have htt : t ≠ 0 ∧ (t ≠ 30 ∧ t ≠ 37) ∧ t ≠ 40 ∧ t ≠ 41 := by
    refine ⟨?_, ⟨?_, ?_⟩, ?_, ?_⟩ <;> (intro e; rw [e] at hN; exact absurd hN (by decide))
  have hxp := zc_H_pos hR0.1 hz htt.1 htt.2.1
  have hx1 : 0 < x := by omega
  obtain ⟨f, ⟨cell, a1, a2, a3, a4⟩, hf⟩ := (hR0.1.2.2.1 x t hz).1 hN
  obtain ⟨hS, hfc, kC, hkC, hkind⟩ := hK.1 t hN
  obtain ⟨cf, kf, fi, fd, hi, hsl⟩ := hS k hk
  have hkt := h.2.2.2.2
  have hst := (u_facts hfc hkC (u_lays hkt (zc_in hN) hk) hi).1
  have hlay := hkt _ (zc_in hN _ (u_in_lay hk))
  unfold u_lay at hlay
  have hKK : va_K ((fun _ => zc_cid G t), (fun _ => zc_sl G t)) [(zc_R t, zc_T t, zc_N t)] [] (zv_s C) := ⟨fun c q hq => by
    match c, hq with
    | 0, hq => cases hq; exact hK.1 t hN
    | c + 1, hq => simp at hq, fun k q hq => by simp at hq⟩
  have hap := va_apart (own := own) (ci := 0) hkt (zc_in hN) (zc_ty t) (zc_tyok hN) (zc_nm hN) hKK rfl
  have hK0 := zc_colpos hN k hk
  rw [hcol] at hK0
  have a1' : H[(x - 1).toNat]? = some cell := by rw [← zc_ad_p hx1]; exact a1
  rw [zc_rv_p G hx1]
  have fini : ∀ (H' : Heap), H'[(x - 1).toNat]? = some (cell.setSlot fd.slot v) → H'.size = H.size → (∀ q, q ≠ (x - 1).toNat → H'[q]? = H[q]?) → zv_W C H' (locs ++ [⟨(x - 1).toNat, fd.slot⟩]) cells slots o (F0 (zv_m C) (pc + 3) ls st) := by
    intro H' b1 b2 b3
    refine kk _ rfl o ho H' _ cells slots ls ?_ hl
    rw [e1]
    refine zc_Rel.upd (μ' := mup μ x K y) hR0 hz htt b2 b3 (fun y' j hy' => mup_n μ y (fun q => hy' q.1)) (mup_n μ y (fun q => by omega)) ?_ _
    intro t' ht'
    have e3 : mup μ x K y x (-1) = μ x (-1) := mup_n μ y (fun q => by omega)
    rw [e3, hz] at ht'
    have e4 : t = t' := by omega
    subst e4
    have n30 : ¬ (30 ≤ t ∧ t ≤ 36) := fun q => by
      have h9 := zc_tg hN
      simp only [zc_tags, List.mem_cons, List.not_mem_nil, or_false] at h9
      omega
    refine ⟨fun _ => ⟨updV f k v, ⟨cell.setSlot fd.slot v, by rw [zc_ad_p hx1]; exact b1, a2, a3, fun j hj => by rw [hsl]; exact t_set a4 hap hk v j hj⟩, fun j hj => ?_⟩, fun q1 q2 => absurd ⟨by omega, q2⟩ n30, fun q => absurd q htt.2.2.1, fun q => absurd q htt.2.1.1, fun q => q.elim (fun w => absurd w htt.2.1.2) (fun w => absurd hN (by rw [w]; decide))⟩
    by_cases ej : j = k
    · subst ej
      rw [hcol, hkd, mup_s]
      unfold updV
      rw [if_pos rfl]
      exact hv
    · rw [mup_n μ y (fun q => ej (zc_colinj hN j hj k hk (by rw [q.2, hcol])))]
      unfold updV
      rw [if_neg ej]
      exact hf j hj
  obtain ⟨ref, hsame, hl1⟩ := hlk
  rcases hfin with hf0 | ⟨hi0, hO, hf0⟩
  · rw [if_neg (by rw [hT, hf0]; simp)] at hlay
    rw [hT] at hi hlay
    have h6 := u_store hfc hkC hkind hlay hi hty hn hfit
    rcases hl1 with hl1 | ⟨host, hl1⟩
    · exact W.putK h.1 h.2.1 (f := fd) ⟨h.2.2.2.1, hl1, ⟨_, _, _, hsame _ hi⟩, hst⟩ (by rw [a2]; exact h6) a1' a3 (by rw [hsl]; exact k2_hasslot (a4 k hk)) rfl rfl hd fini
    · exact va_WputK h.1 h.2.1 h.2.2.2.1 hl1 (hsame _ hi) hst (by rw [a2]; exact h6) a1' a3 (by rw [hsl]; exact k2_hasslot (a4 k hk)) rfl rfl hd fini
  · rw [if_pos (by rw [hT, hf0])] at hlay
    rw [hT] at hi hlay
    have hcf : (zv_m C).cls = cf := by
      obtain ⟨_, _, c', _, _, _, -, -, hf', -, -, -, hown2, -⟩ := Cond.laysFinal_spec hlay
      have e1 : c' = cf := by have := hi.symm.trans hf'; simp at this; exact this.1.symm
      rw [hO] at hown2
      rw [← e1]; exact Option.some.inj (h.2.2.2.1.symm.trans hown2)
    have h6 := u_fits hfc hkC hkind (Or.inr hlay) hi hty hn hfit
    rcases hl1 with hl1 | ⟨host, hl1⟩
    · exact W.putFinK h.1 h.2.1 h.2.2.2.1 hl1 (hsame _ hi) hst hcf (by rw [hnm, hi0]) (by rw [a2]; exact h6) a1' a3 (by rw [hsl]; exact k2_hasslot (a4 k hk)) rfl rfl hd fini
    · have ha : (x - 1).toNat < H.size := (Array.getElem?_eq_some_iff.mp a1').1
      refine va_Wputf h.1 h.2.1 h.2.2.2.1 hl1 (hsame _ hi) hst (Or.inr ⟨hcf, by rw [hnm, hi0]⟩) a1' (by rw [a3]; exact fun q => by cases q) (by rw [hsl]; exact k2_hasslot (a4 k hk)) (by rw [a2] at *; exact h6.1) (by rw [a3, a2]; exact h6.2) rfl rfl hd ?_
      exact fini _ (by rw [Array.getElem?_setIfInBounds, if_pos rfl, if_pos ha]) (by simp) (fun q hq => by rw [Array.getElem?_setIfInBounds, if_neg (Ne.symm hq)])
theorem c_putI (h : zv_Ok C cc own) (hc : zc_C C G μ0 nL ret rk fr lo nm xt) {index : Nat} {O n : String} (ts : List Nat) (K : Int) (fin : Bool) (hlk : zc_lk C own index O n "I") (hts : zt ts (μ x (-1)) = true) (hq : ts.all (fun t => zc_fdb t K 0 O n "I" fin) = true) (hfin : fin = false ∨ (nm = "<init>" ∧ O = own ∧ fin = true)) (hy : inR y) (hd : decode cc pc = .ok (.putfield index, 3)) {kd' : MEM → Option zc_O}
    (kk : ∀ μ', μ' = mup μ x K y → VV C (kd' μ') μ' lv st (pc + 3)) : VV C (nu (mup μ x K y) kd') μ lv (iv y :: zc_rv G x :: st) pc := c_put h hc ts K 0 fin hlk hts hq hfin (ty := .int) (by decide +kernel) rfl rfl ⟨rfl, hy⟩ hd kk
def zw (x : Int) : Int := (Int32.ofInt x).toInt
theorem zw_iv (x : Int) : iv (zw x) = iv x := by unfold iv zw; rw [Int32.ofInt_toInt]
theorem c_putIw (h : zv_Ok C cc own) (hc : zc_C C G μ0 nL ret rk fr lo nm xt) {index : Nat} {O n : String} (ts : List Nat) (K : Int) (fin : Bool) (hlk : zc_lk C own index O n "I") (hts : zt ts (μ x (-1)) = true) (hq : ts.all (fun t => zc_fdb t K 0 O n "I" fin) = true) (hfin : fin = false ∨ (nm = "<init>" ∧ O = own ∧ fin = true)) (hd : decode cc pc = .ok (.putfield index, 3)) {kd' : MEM → Option zc_O}
    (kk : ∀ μ', μ' = mup μ x K (zw y) → VV C (kd' μ') μ' lv st (pc + 3)) : VV C (nu (mup μ x K (zw y)) kd') μ lv (iv y :: zc_rv G x :: st) pc := by
  rw [← zw_iv y]
  exact c_putI h hc ts K fin hlk hts hq hfin (inR_t _) hd kk
theorem c_putZ (h : zv_Ok C cc own) (hc : zc_C C G μ0 nL ret rk fr lo nm xt) {index : Nat} {O n : String} (ts : List Nat) (K : Int) (fin : Bool) (hlk : zc_lk C own index O n "Z") (hts : zt ts (μ x (-1)) = true) (hq : ts.all (fun t => zc_fdb t K 1 O n "Z" fin) = true) (hfin : fin = false ∨ (nm = "<init>" ∧ O = own ∧ fin = true)) (hy : isB y) (hd : decode cc pc = .ok (.putfield index, 3)) {kd' : MEM → Option zc_O}
    (kk : ∀ μ', μ' = mup μ x K y → VV C (kd' μ') μ' lv st (pc + 3)) : VV C (nu (mup μ x K y) kd') μ lv (iv y :: zc_rv G x :: st) pc := c_put h hc ts K 1 fin hlk hts hq hfin (ty := .boolean) (by decide +kernel) (zv_nB hy).1 (zv_nB hy).2 ⟨rfl, hy⟩ hd kk
theorem c_putJ (h : zv_Ok C cc own) (hc : zc_C C G μ0 nL ret rk fr lo nm xt) {index : Nat} {O n : String} (ts : List Nat) (K : Int) (fin : Bool) (hlk : zc_lk C own index O n "J") (hts : zt ts (μ x (-1)) = true) (hq : ts.all (fun t => zc_fdb t K 2 O n "J" fin) = true) (hfin : fin = false ∨ (nm = "<init>" ∧ O = own ∧ fin = true)) (hy : inL y) (hd : decode cc pc = .ok (.putfield index, 3)) {kd' : MEM → Option zc_O}
    (kk : ∀ μ', μ' = mup μ x K y → VV C (kd' μ') μ' lv st (pc + 3)) : VV C (nu (mup μ x K y) kd') μ lv (jv y :: zc_rv G x :: st) pc := c_put h hc ts K 2 fin hlk hts hq hfin (ty := .long) (by decide +kernel) rfl rfl ⟨rfl, hy⟩ hd kk
theorem zc_rvn (G : zc_G) (ty : FieldType) (h : (∃ n, ty = .object n) ∨ ∃ t, ty = .array t) (x : Int) : narrow ty (zc_rv G x) = zc_rv G x ∧ fits ty (zc_rv G x) = true := by
  rcases zc_rv_or G x with e | ⟨a, e⟩ <;> rw [e] <;> rcases h with ⟨n, rfl⟩ | ⟨t, rfl⟩ <;> exact ⟨rfl, rfl⟩
theorem c_putR (h : zv_Ok C cc own) (hc : zc_C C G μ0 nL ret rk fr lo nm xt) {index : Nat} {O n ds : String} (ts : List Nat) (K : Int) (fin : Bool) (hlk : zc_lk C own index O n ds) (hts : zt ts (μ x (-1)) = true) (hq : ts.all (fun t => zc_fdb t K 9 O n ds fin) = true) (hfin : fin = false ∨ (nm = "<init>" ∧ O = own ∧ fin = true)) {ty : FieldType} (hty : parseFieldDescriptor ds = some ty) (hrt : (∃ n, ty = .object n) ∨ ∃ t, ty = .array t) (hd : decode cc pc = .ok (.putfield index, 3)) {kd' : MEM → Option zc_O}
    (kk : ∀ μ', μ' = mup μ x K y → VV C (kd' μ') μ' lv st (pc + 3)) : VV C (nu (mup μ x K y) kd') μ lv (zc_rv G y :: zc_rv G x :: st) pc := c_put h hc ts K 9 fin hlk hts hq hfin hty (zc_rvn G ty hrt y).1 (zc_rvn G ty hrt y).2 rfl hd kk
end ZC

