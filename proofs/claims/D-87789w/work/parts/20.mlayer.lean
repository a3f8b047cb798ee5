/-! THE MODEL's MEMORY: σ (-1) k: its scalar field k; σ k i: element i of its array field k (k: the field's number in names/X1). Written by wip/gen/mlayer.py -/
set_option maxRecDepth 100000
def zm_kd : Nat → Nat := fun k => match k with
  | 0 => 3
  | 1 => 0
  | 2 => 3
  | 3 => 0
  | 4 => 0
  | 5 => 0
  | 6 => 0
  | 7 => 0
  | 8 => 0
  | 9 => 1
  | 10 => 4
  | 11 => 3
  | 12 => 5
  | 13 => 5
  | 14 => 5
  | 15 => 5
  | 16 => 5
  | 17 => 5
  | 18 => 5
  | 19 => 4
  | 20 => 4
  | 21 => 3
  | 22 => 5
  | 23 => 5
  | 24 => 5
  | 25 => 5
  | 26 => 5
  | 27 => 5
  | 28 => 5
  | 29 => 5
  | 30 => 5
  | 31 => 5
  | 32 => 5
  | 33 => 6
  | 34 => 6
  | 35 => 4
  | 36 => 6
  | 37 => 5
  | 38 => 5
  | 39 => 5
  | 40 => 5
  | 41 => 5
  | 42 => 5
  | 43 => 5
  | 44 => 5
  | 45 => 5
  | 46 => 5
  | 47 => 5
  | 48 => 5
  | 49 => 5
  | 50 => 5
  | 51 => 0
  | 52 => 1
  | 53 => 0
  | 54 => 5
  | 55 => 4
  | 56 => 4
  | 57 => 6
  | 58 => 6
  | 59 => 1
  | 60 => 2
  | 61 => 2
  | 62 => 0
  | 63 => 5
  | 64 => 0
  | 65 => 0
  | 66 => 5
  | 67 => 5
  | 68 => 0
  | 69 => 5
  | 70 => 4
  | 71 => 4
  | 72 => 4
  | 73 => 5
  | 74 => 4
  | 75 => 5
  | 76 => 5
  | 77 => 5
  | 78 => 5
  | 79 => 5
  | 80 => 5
  | 81 => 4
  | 82 => 5
  | 83 => 5
  | 84 => 0
  | 85 => 1
  | 86 => 0
  | 87 => 0
  | 88 => 3
  | 89 => 5
  | 90 => 5
  | 91 => 5
  | 92 => 5
  | 93 => 5
  | 94 => 5
  | 95 => 0
  | 96 => 3
  | 97 => 5
  | 98 => 0
  | 99 => 1
  | 100 => 0
  | 101 => 5
  | _ => 9
def zm_ln : Nat → Nat := fun k => match k with
  | 0 => 6000
  | 2 => 6000
  | 10 => 2
  | 11 => 12000
  | 12 => 2
  | 13 => 1200
  | 14 => 1200
  | 15 => 1200
  | 16 => 1200
  | 17 => 1200
  | 18 => 1200
  | 19 => 1200
  | 20 => 1200
  | 21 => 4000
  | 22 => 2
  | 23 => 2
  | 24 => 2
  | 25 => 2
  | 26 => 2
  | 27 => 60
  | 28 => 60
  | 29 => 60
  | 30 => 60
  | 31 => 2400
  | 32 => 2400
  | 33 => 60
  | 34 => 60
  | 35 => 60
  | 36 => 2400
  | 37 => 2
  | 38 => 1600
  | 39 => 1600
  | 40 => 1600
  | 41 => 1600
  | 42 => 1600
  | 43 => 1600
  | 44 => 1600
  | 45 => 1600
  | 46 => 1600
  | 47 => 12800
  | 48 => 12800
  | 49 => 1700
  | 50 => 2
  | 54 => 8
  | 55 => 8
  | 56 => 8
  | 57 => 8
  | 58 => 8
  | 63 => 31
  | 66 => 8000
  | 67 => 8000
  | 69 => 600
  | 70 => 600
  | 71 => 600
  | 72 => 600
  | 73 => 12
  | 74 => 12
  | 75 => 12
  | 76 => 12
  | 77 => 12
  | 78 => 48
  | 79 => 48
  | 80 => 48
  | 81 => 48
  | 82 => 48
  | 83 => 48
  | 88 => 240000
  | 89 => 4000
  | 90 => 4000
  | 91 => 4000
  | 92 => 4000
  | 93 => 600
  | 94 => 600
  | 96 => 2000
  | 97 => 2000
  | 101 => 600
  | _ => 0
abbrev zm_G : Type := ClassId × (Nat → Nat) × Nat × (Nat → Nat) × (Nat → ClassId)
abbrev zm_h (G : zm_G) : Nat := G.2.2.1
abbrev zm_al (G : zm_G) : Nat → Nat := G.2.2.2.1
def zm_ev (kd : Nat) (x : Int) : Value := match kd with
  | 6 => jv x
  | _ => iv x
def zm_fv (G : zm_G) (σ : MEM) (k : Nat) : Value := match zm_kd k with
  | 0 => iv (σ (-1) k)
  | 1 => iv (σ (-1) k)
  | 2 => jv (σ (-1) k)
  | _ => .ref (zm_al G k)
def zm_ty (kd : Nat) : FieldType := match kd with
  | 3 => .byte
  | 4 => .boolean
  | 5 => .int
  | _ => .long
def zm_rg (kd : Nat) (x : Int) : Prop := match kd with
  | 0 => inR x
  | 5 => inR x
  | 1 => isB x
  | 4 => isB x
  | 3 => isY x
  | _ => inL x
def zm_H (G : zm_G) (σ : MEM) (H : Heap) : Prop := t_OB (zm_h G) G.1 102 G.2.1 H (zm_fv G σ) ∧ (∀ k, k < 102 → 3 ≤ zm_kd k → H[zm_al G k]? = some (arrV (G.2.2.2.2 (zm_kd k)) (zm_ln k) (fun i => zm_ev (zm_kd k) (σ k i)))) ∧ (∀ k, k < 102 → zm_kd k < 3 → zm_rg (zm_kd k) (σ (-1) k)) ∧ (∀ k, k < 102 → 3 ≤ zm_kd k → ∀ i : Nat, i < zm_ln k → zm_rg (zm_kd k) (σ k i))
def zm_D (G : zm_G) : Prop := (∀ j k, j < 102 → k < 102 → 3 ≤ zm_kd j → 3 ≤ zm_kd k → zm_al G j = zm_al G k → j = k) ∧ ∀ k, k < 102 → 3 ≤ zm_kd k → zm_al G k ≠ zm_h G
def zm_K (G : zm_G) (U : State) : Prop := u_Kn U RX1 TX1 102 G.1 G.2.1 ∧ ∀ kd, 3 ≤ kd → kd ≤ 6 → ArrOfT U (G.2.2.2.2 kd) (zm_ty kd)
theorem zm_K.moved {G : zm_G} {u U : State} (hvm : u.vm.Alike U.vm) (h : zm_K G u) : zm_K G U := ⟨u_Kn_moved hvm h.1, fun kd a b => arrOfT_moved hvm (h.2 kd a b)⟩
def zm_A (G : zm_G) (q : Nat) : Prop := q = zm_h G ∨ ∃ k, k < 102 ∧ 3 ≤ zm_kd k ∧ q = zm_al G k
def zm_Rel (G : zm_G) (s : State) (σ : MEM) (H : Heap) (locs : List Loc) (cells slots : Nat) : Prop := zm_H G σ H ∧ H.size = s.heap.size ∧ (∀ q : Nat, ¬ zm_A G q → H[q]? = s.heap[q]?) ∧ (∀ l ∈ locs, zm_A G l.base) ∧ cells = 0 ∧ slots = 0
/-- kinds of answers: 0 none, 1 int, 2 long, 3 boolean -/
def zm_rv (rk : Nat) (r : Int) : Option Value := match rk with
  | 0 => none
  | 2 => some (jv r)
  | _ => some (iv r)
def zm_rr (rk : Nat) (r : Int) : Prop := match rk with
  | 0 => r = 0
  | 1 => inR r
  | 2 => inL r
  | _ => isB r
abbrev zm_O : Type := Int × MEM
/-- a call, then the rest -/
def bd (d : Option zm_O) (k : Int → MEM → Option zm_O) : Option zm_O := d.bind (fun o => k o.1 o.2)
def zm_Qc (G : zm_G) (rk : Nat) (o : zm_O) : Array Value → State → Outcome → State → Prop := fun _ st oc t => oc = .returned (zm_rv rk o.1) ∧ zm_rr rk o.1 ∧ zm_H G o.2 t.heap ∧ t.heap.size = st.heap.size ∧ ∀ q : Nat, ¬ zm_A G q → t.heap[q]? = st.heap[q]?
def zm_Pc (G : zm_G) (σ : MEM) (av : List Value) : Array Value → State → Prop := va_Pc av (fun U => zm_H G σ U.heap ∧ zm_K G U)
abbrev zm_rm (fr lo : Nat) : Room := { frames := fr, cells := 0, slots := 0, locals := lo }
/-- THE CONTRACT of a method of the Model: from σ with the arguments av it comes to the answer o.1 and σ' = o.2 -/
def zm_Met (G : zm_G) (y : MethodName) (cc : ByteArray) (nL : Nat) (ret : Option FieldType) (rk fr lo : Nat) (σ : MEM) (av : List Value) (o : zm_O) : Prop := ∀ l : Launch, Met l y (ws_ y cc nL ret) (zm_rm fr lo) (zm_Pc G σ av) (zm_Qc G rk o) 0 0 (zm_A G)
/-- the context of a walk through a method of the Model -/
def zm_C (C : zv_Cx zm_O) (G : zm_G) (nL : Nat) (ret : Option FieldType) (rk fr lo : Nat) : Prop := zm_D G ∧ zm_K G (zv_s C) ∧ zv_n C = nL ∧ (zv_h C).sig.returnType = ret ∧ (zv_h C).locks = false ∧ zv_R C = zm_rm fr lo ∧ C.2.1 = zm_Rel G (zv_s C) ∧ C.2.2 = fun o => MQ (zv_b C) (zm_Qc G rk o) (zv_a C) (zv_s C) 0 0 (zm_A G)
theorem zm_intro {G : zm_G} {y : MethodName} {cc : ByteArray} {nL : Nat} {ret : Option FieldType} {rk fr lo : Nat} {σ : MEM} {av : List Value} {o : zm_O} {d : Option zm_O} {lv : List (Nat × Value)} (hD : zm_D G) (hd : d = some o) (hy : plainName y.cls = true) (hcls : y.cls = RX1) (hlen : (lg_sl av).length ≤ nL) (hlv : lv_args 0 av = lv)
    (body : ∀ C : zv_Cx zm_O, zv_Ok C cc RX1 → zm_C C G nL ret rk fr lo → VV C d σ lv [] 0) : zm_Met G y cc nL ret rk fr lo σ av o := by
  intro l
  refine Met.ofW (cc := cc) (maxL := nL) (ret := ret) hy rfl ?_
  intro p e s m args below meth c s₁ B hml hv
  obtain ⟨rfl, hP, hK⟩ := hv
  have hts := atoms_spec (ws := ws_ y cc nL ret) B.pre
  have hts : ∀ w ∈ lw_all, w.before _ s = true := fun w h => hts w (List.mem_cons_of_mem _ h)
  have hown : s.vm.findClass RX1 = some m.cls := hcls ▸ findClass_of_methodNamed B.named
  have hl := lv_entry av (n := nL) hlen
  rw [lg_entry_eq]
  rw [hlv] at hl
  exact body ((p, l, e, zm_rm fr lo, s, m, av.toArray, below, meth, c, nL), zm_Rel G s, fun o => MQ below (zm_Qc G rk o) av.toArray s 0 0 (zm_A G)) ⟨B.exec, B.bytes, hml, hown, hts⟩ ⟨hD, hK, rfl, B.returns, B.notSynchronized, rfl, rfl, rfl⟩ o hd s.heap [] 0 0 _ ⟨hP, rfl, fun _ _ => rfl, fun l h => (by cases h), rfl, rfl⟩ hl
section ZM
variable {C : zv_Cx zm_O} {G : zm_G} {cc : ByteArray} {nL : Nat} {ret : Option FieldType} {rk fr lo : Nat} {d : Option zm_O} {σ : MEM} {lv : List (Nat × Value)} {st : List Value} {pc : Nat} {x y : Int}
theorem zm_get (h : zv_Ok C cc RX1) (hc : zm_C C G nL ret rk fr lo) {index : Nat} (k : Nat) (hk : k < 102) (q : Cond.fieldLink RX1 index "TreePressModel" (TX1 k).2.1 (TX1 k).2.2.1 ∈ lw_all) (hq : (TX1 k).1 = "TreePressModel") (hd : decode cc pc = .ok (.getfield index, 3))
    (kk : zm_rg (zm_kd k) (σ (-1) k) ∨ 3 ≤ zm_kd k → VV C d σ lv (zm_fv G σ k :: st) (pc + 3)) : VV C d σ lv (.ref (zm_h G) :: st) pc := by
  intro o ho H locs cells slots ls hR hl
  obtain ⟨hD, hK, hn, hr, hlk, hRm, e1, e2⟩ := hc
  have hR0 := hR
  rw [e1] at hR0
  have hz : zm_rg (zm_kd k) (σ (-1) k) ∨ 3 ≤ zm_kd k := by
    rcases Nat.lt_or_ge (zm_kd k) 3 with a | a
    · exact Or.inl (hR0.1.2.2.1 k hk a)
    · exact Or.inr a
  have hP : va_P ((fun _ => G.1), (fun _ => G.2.1)) [(RX1, TX1, 102)] [(zm_h G, .inr (0, (List.range 102).map (zm_fv G σ)))] H := by
    intro j w hw
    match j, hw with
    | 0, hw =>
      cases hw
      refine ⟨_, rfl, ?_⟩
      obtain ⟨cell, a1, a2, a3, a4⟩ := hR0.1.1
      refine ⟨cell, a1, a2, a3, fun i hi => ?_⟩
      rw [a4 i hi]
      simp [vp_V, hi]
    | j + 1, hw => simp at hw
  have hKK : va_K ((fun _ => G.1), (fun _ => G.2.1)) [(RX1, TX1, 102)] [] (zv_s C) := ⟨fun c q hq => by
    match c, hq with
    | 0, hq => cases hq; exact hK.1
    | c + 1, hq => simp at hq, fun k q hq => by simp at hq⟩
  exact va_get (C := RX1) (T := TX1) (N := 102) h.1 h.2.1 h.2.2.2.2 in_X1 h.2.2.2.1 hKK hP 0 rfl rfl k hk (h.2.2.2.2 _ q) (fun z hz => by rw [hq] at hz; exact hz) (v := zm_fv G σ k) (by simp [hk]) hd (kk hz o ho H locs cells slots ls hR hl)
theorem zm_getI (h : zv_Ok C cc RX1) (hc : zm_C C G nL ret rk fr lo) {index : Nat} (k : Nat) (K : Int) (hk : k < 102) (hkd : zm_kd k = 0) (hK : (k : Int) = K) (q : Cond.fieldLink RX1 index "TreePressModel" (TX1 k).2.1 (TX1 k).2.2.1 ∈ lw_all) (hq : (TX1 k).1 = "TreePressModel") (hd : decode cc pc = .ok (.getfield index, 3))
    (kk : inR (σ (-1) K) → VV C d σ lv (iv (σ (-1) K) :: st) (pc + 3)) : VV C d σ lv (.ref (zm_h G) :: st) pc := by
  subst hK
  refine zm_get h hc k hk q hq hd (fun z => ?_)
  rw [hkd] at z
  rw [show zm_fv G σ k = iv (σ (-1) k) by simp only [zm_fv, hkd]]
  exact kk (z.resolve_right (by omega))
theorem zm_getZ (h : zv_Ok C cc RX1) (hc : zm_C C G nL ret rk fr lo) {index : Nat} (k : Nat) (K : Int) (hk : k < 102) (hkd : zm_kd k = 1) (hK : (k : Int) = K) (q : Cond.fieldLink RX1 index "TreePressModel" (TX1 k).2.1 (TX1 k).2.2.1 ∈ lw_all) (hq : (TX1 k).1 = "TreePressModel") (hd : decode cc pc = .ok (.getfield index, 3))
    (kk : isB (σ (-1) K) → VV C d σ lv (iv (σ (-1) K) :: st) (pc + 3)) : VV C d σ lv (.ref (zm_h G) :: st) pc := by
  subst hK
  refine zm_get h hc k hk q hq hd (fun z => ?_)
  rw [hkd] at z
  rw [show zm_fv G σ k = iv (σ (-1) k) by simp only [zm_fv, hkd]]
  exact kk (z.resolve_right (by omega))
theorem zm_getJ (h : zv_Ok C cc RX1) (hc : zm_C C G nL ret rk fr lo) {index : Nat} (k : Nat) (K : Int) (hk : k < 102) (hkd : zm_kd k = 2) (hK : (k : Int) = K) (q : Cond.fieldLink RX1 index "TreePressModel" (TX1 k).2.1 (TX1 k).2.2.1 ∈ lw_all) (hq : (TX1 k).1 = "TreePressModel") (hd : decode cc pc = .ok (.getfield index, 3))
    (kk : inL (σ (-1) K) → VV C d σ lv (jv (σ (-1) K) :: st) (pc + 3)) : VV C d σ lv (.ref (zm_h G) :: st) pc := by
  subst hK
  refine zm_get h hc k hk q hq hd (fun z => ?_)
  rw [hkd] at z
  rw [show zm_fv G σ k = jv (σ (-1) k) by simp only [zm_fv, hkd]]
  exact kk (z.resolve_right (by omega))
theorem zm_getA (h : zv_Ok C cc RX1) (hc : zm_C C G nL ret rk fr lo) {index : Nat} (k : Nat) (hk : k < 102) (hkd : zm_fv G σ k = .ref (zm_al G k)) (q : Cond.fieldLink RX1 index "TreePressModel" (TX1 k).2.1 (TX1 k).2.2.1 ∈ lw_all) (hq : (TX1 k).1 = "TreePressModel") (hd : decode cc pc = .ok (.getfield index, 3))
    (kk : VV C d σ lv (.ref (zm_al G k) :: st) (pc + 3)) : VV C d σ lv (.ref (zm_h G) :: st) pc := by
  refine zm_get h hc k hk q hq hd (fun z => ?_)
  rw [hkd]
  exact kk

theorem zm_fv_up (G : zm_G) (σ : MEM) (k j : Nat) (v : Int) (hk : zm_kd k < 3) : updV (zm_fv G σ) k (zm_fv G (mup σ (-1) k v) k) j = zm_fv G (mup σ (-1) k v) j := by
  unfold updV
  by_cases e : j = k
  · rw [if_pos e, e]
  · rw [if_neg e]
    have : mup σ (-1) k v (-1) j = σ (-1) j := mup_n σ v (by omega)
    unfold zm_fv
    rw [this]
theorem zm_put (h : zv_Ok C cc RX1) (hc : zm_C C G nL ret rk fr lo) {index : Nat} (k : Nat) (hk : k < 102) (hkd : zm_kd k < 3) {ty : FieldType} (q : Cond.fieldLink RX1 index "TreePressModel" (TX1 k).2.1 (TX1 k).2.2.1 ∈ lw_all) (hq : (TX1 k).1 = "TreePressModel") (hfin : (TX1 k).2.2.2 = false) (hty : parseFieldDescriptor (TX1 k).2.2.1 = some ty) {v : Int} (hn : narrow ty (zm_fv G (mup σ (-1) k v) k) = zm_fv G (mup σ (-1) k v) k) (hfit : fits ty (zm_fv G (mup σ (-1) k v) k) = true) (hrg : zm_rg (zm_kd k) v) (hd : decode cc pc = .ok (.putfield index, 3))
    (kk : VV C d (mup σ (-1) k v) lv st (pc + 3)) : VV C d σ lv (zm_fv G (mup σ (-1) k v) k :: .ref (zm_h G) :: st) pc := by
  intro o ho H locs cells slots ls hR hl
  obtain ⟨hD, hK, hn0, hr, hlk, hRm, e1, e2⟩ := hc
  have hR0 := hR
  rw [e1] at hR0
  obtain ⟨⟨⟨cell, a1, a2, a3, a4⟩, hA, hS1, hS2⟩, hz, hfr, hlo, hc0, hs0⟩ := hR0
  obtain ⟨hS, hfc, kC, hkC, hkind⟩ := hK.1
  obtain ⟨cf, kf, fi, f, hi, hsl⟩ := hS k hk
  have hts := h.2.2.2.2
  have hlay := hts _ (in_X1 _ (u_in_lay hk))
  unfold u_lay at hlay
  rw [if_neg (by rw [hfin]; decide)] at hlay
  have hst := (u_facts hfc hkC (u_lays hts in_X1 hk) hi).1
  have h6 := u_store hfc hkC hkind hlay hi hty hn hfit
  have hKK : va_K ((fun _ => G.1), (fun _ => G.2.1)) [(RX1, TX1, 102)] [] (zv_s C) := ⟨fun c q hq => by
    match c, hq with
    | 0, hq => cases hq; exact hK.1
    | c + 1, hq => simp at hq, fun k q hq => by simp at hq⟩
  have hap := va_apart (own := RX1) (ci := 0) hts in_X1 tyX1 tyX1_ok nmX1 hKK rfl
  refine W.putK h.1 h.2.1 (f := f) ⟨h.2.2.2.1, hts _ q, ⟨_, _, _, by rw [hq] at hi; exact hi⟩, hst⟩ (by rw [a2]; exact h6) a1 a3 (by rw [hsl]; exact k2_hasslot (a4 k hk)) rfl rfl hd fun H' b1 b2 b3 => ?_
  rw [hsl] at b1 ⊢
  refine kk o ho H' _ cells slots ls ?_ hl
  rw [e1]
  refine ⟨⟨⟨_, b1, a2, a3, fun j hj => ?_⟩, fun j hj hkj => ?_, fun j hj hkj => ?_, fun j hj hkj i hi => ?_⟩, by rw [b2]; exact hz, fun w hw => ?_, fun w hw => ?_, hc0, hs0⟩
  · have := t_set a4 hap hk (zm_fv G (mup σ (-1) k v) k) j hj
    rw [this, zm_fv_up G σ k j v hkd]
  · rw [b3 _ (hD.2 j hj hkj), hA j hj hkj]
    congr 2
  · by_cases e : j = k
    · subst e
      rw [mup_s]
      exact hrg
    · rw [mup_n σ v (by omega)]
      exact hS1 j hj hkj
  · have : mup σ (-1) k v j i = σ j i := mup_n σ v (by omega)
    rw [this]
    exact hS2 j hj hkj i hi
  · rw [b3 w (fun e => hw (Or.inl e))]
    exact hfr w hw
  · rcases List.mem_append.mp hw with z | z
    · exact hlo w z
    · rw [List.mem_singleton.mp z]
      exact Or.inl rfl
theorem zm_nB {x : Int} (h : isB x) : narrow .boolean (iv x) = iv x ∧ fits .boolean (iv x) = true := by
  rcases bit_B h with rfl | rfl <;> exact ⟨by decide +kernel, by decide +kernel⟩
theorem zm_nY {x : Int} (h : isY x) : narrow .byte (iv x) = iv x := by
  show narrow .byte (.int _) = .int _
  rw [narrow_byte]
  congr 1
  apply Int32.toInt_inj.mp
  rw [Int8.toInt_toInt32, Int32.toInt_toInt8, oi_t h.r]
  have := h.1; have := h.2
  exact Int.bmod_eq_of_le (by omega) (by omega)
theorem zm_putI (h : zv_Ok C cc RX1) (hc : zm_C C G nL ret rk fr lo) {index : Nat} (k : Nat) (K : Int) (hk : k < 102) (hkd : zm_kd k = 0) (hK : (k : Int) = K) (q : Cond.fieldLink RX1 index "TreePressModel" (TX1 k).2.1 (TX1 k).2.2.1 ∈ lw_all) (hq : (TX1 k).1 = "TreePressModel" ∧ (TX1 k).2.2.2 = false ∧ parseFieldDescriptor (TX1 k).2.2.1 = some .int) (hx : inR x) (hd : decode cc pc = .ok (.putfield index, 3)) {kd : MEM → Option zm_O}
    (kk : ∀ σ', σ' = mup σ (-1) K x → VV C (kd σ') σ' lv st (pc + 3)) : VV C (nu (mup σ (-1) K x) kd) σ lv (iv x :: .ref (zm_h G) :: st) pc := by
  subst hK
  have e : zm_fv G (mup σ (-1) k x) k = iv x := by simp only [zm_fv, hkd, mup_s]
  have := zm_put (d := kd (mup σ (-1) k x)) (v := x) h hc k hk (by omega) q hq.1 hq.2.1 hq.2.2 (by rw [e]; rfl) (by rw [e]; rfl) (by rw [hkd]; exact hx) hd (kk _ rfl)
  rw [e] at this
  exact this
theorem zm_putZ (h : zv_Ok C cc RX1) (hc : zm_C C G nL ret rk fr lo) {index : Nat} (k : Nat) (K : Int) (hk : k < 102) (hkd : zm_kd k = 1) (hK : (k : Int) = K) (q : Cond.fieldLink RX1 index "TreePressModel" (TX1 k).2.1 (TX1 k).2.2.1 ∈ lw_all) (hq : (TX1 k).1 = "TreePressModel" ∧ (TX1 k).2.2.2 = false ∧ parseFieldDescriptor (TX1 k).2.2.1 = some .boolean) (hx : isB x) (hd : decode cc pc = .ok (.putfield index, 3)) {kd : MEM → Option zm_O}
    (kk : ∀ σ', σ' = mup σ (-1) K x → VV C (kd σ') σ' lv st (pc + 3)) : VV C (nu (mup σ (-1) K x) kd) σ lv (iv x :: .ref (zm_h G) :: st) pc := by
  subst hK
  have e : zm_fv G (mup σ (-1) k x) k = iv x := by simp only [zm_fv, hkd, mup_s]
  have := zm_put (d := kd (mup σ (-1) k x)) (v := x) h hc k hk (by omega) q hq.1 hq.2.1 hq.2.2 (by rw [e]; exact (zm_nB hx).1) (by rw [e]; exact (zm_nB hx).2) (by rw [hkd]; exact hx) hd (kk _ rfl)
  rw [e] at this
  exact this
theorem zm_putJ (h : zv_Ok C cc RX1) (hc : zm_C C G nL ret rk fr lo) {index : Nat} (k : Nat) (K : Int) (hk : k < 102) (hkd : zm_kd k = 2) (hK : (k : Int) = K) (q : Cond.fieldLink RX1 index "TreePressModel" (TX1 k).2.1 (TX1 k).2.2.1 ∈ lw_all) (hq : (TX1 k).1 = "TreePressModel" ∧ (TX1 k).2.2.2 = false ∧ parseFieldDescriptor (TX1 k).2.2.1 = some .long) (hx : inL x) (hd : decode cc pc = .ok (.putfield index, 3)) {kd : MEM → Option zm_O}
    (kk : ∀ σ', σ' = mup σ (-1) K x → VV C (kd σ') σ' lv st (pc + 3)) : VV C (nu (mup σ (-1) K x) kd) σ lv (jv x :: .ref (zm_h G) :: st) pc := by
  subst hK
  have e : zm_fv G (mup σ (-1) k x) k = jv x := by simp only [zm_fv, hkd, mup_s]
  have := zm_put (d := kd (mup σ (-1) k x)) (v := x) h hc k hk (by omega) q hq.1 hq.2.1 hq.2.2 (by rw [e]; rfl) (by rw [e]; rfl) (by rw [hkd]; exact hx) hd (kk _ rfl)
  rw [e] at this
  exact this
theorem zm_ix {i : Int} {n : Nat} (h : 0 ≤ i ∧ i < (n : Int)) (hn : n < 2147483648) : (Int32.ofInt i).toNatClampNeg = i.toNat ∧ ¬ (Int32.ofInt i < 0 ∨ n ≤ (Int32.ofInt i).toNatClampNeg) := by
  have hi : inR i := ⟨by omega, by omega⟩
  have e : (Int32.ofInt i).toNatClampNeg = i.toNat := by
    rw [← Int32.toNat_toInt, oi_t hi]
  refine ⟨e, ?_⟩
  rw [e, oi_lt0 hi]
  omega

theorem zm_ldB (h : zv_Ok C cc RX1) (hc : zm_C C G nL ret rk fr lo) (k : Nat) (K N : Int) (hk : k < 102) (hkd : zm_kd k = 3) (hK : (k : Int) = K) (hN : (zm_ln k : Int) = N) (hN2 : zm_ln k < 2147483648) (hd : decode cc pc = .ok (.baload, 1))
    (kk : 0 ≤ x ∧ x < N → isY (σ K x) → VV C d σ lv (iv (σ K x) :: st) (pc + 1)) : VV C (ck (0 ≤ x ∧ x < N) d) σ lv (iv x :: .ref (zm_al G k) :: st) pc := by
  subst hK; subst hN
  refine r_ck (fun hx => ?_)
  intro o ho H locs cells slots ls hR hl
  obtain ⟨hD, hK, hn0, hr, hlk, hRm, e1, e2⟩ := hc
  have hR0 := hR
  rw [e1] at hR0
  have hcell := hR0.1.2.1 k hk (by omega)
  obtain ⟨i1, i2⟩ := zm_ix hx hN2
  have hxn : ((x.toNat : Nat) : Int) = x := by omega
  have hrg := hR0.1.2.2.2 k hk (by omega) x.toNat (by omega)
  rw [hkd, hxn] at hrg
  refine W.bald h.1 h.2.1 hcell (by rw [hkd]; exact hK.2 3 (by omega) (by omega) _ _) (fun q => by cases q) (by rw [arrV_size]; exact i2) (v := iv (σ k x)) ?_ rfl rfl hd (kk hx hrg o ho H locs cells slots ls hR hl)
  rw [i1, arrV_read _ _ (by omega), hkd, hxn]
  rfl
theorem zm_ldZ (h : zv_Ok C cc RX1) (hc : zm_C C G nL ret rk fr lo) (k : Nat) (K N : Int) (hk : k < 102) (hkd : zm_kd k = 4) (hK : (k : Int) = K) (hN : (zm_ln k : Int) = N) (hN2 : zm_ln k < 2147483648) (hd : decode cc pc = .ok (.baload, 1))
    (kk : 0 ≤ x ∧ x < N → isB (σ K x) → VV C d σ lv (iv (σ K x) :: st) (pc + 1)) : VV C (ck (0 ≤ x ∧ x < N) d) σ lv (iv x :: .ref (zm_al G k) :: st) pc := by
  subst hK; subst hN
  refine r_ck (fun hx => ?_)
  intro o ho H locs cells slots ls hR hl
  obtain ⟨hD, hK, hn0, hr, hlk, hRm, e1, e2⟩ := hc
  have hR0 := hR
  rw [e1] at hR0
  have hcell := hR0.1.2.1 k hk (by omega)
  obtain ⟨i1, i2⟩ := zm_ix hx hN2
  have hxn : ((x.toNat : Nat) : Int) = x := by omega
  have hrg := hR0.1.2.2.2 k hk (by omega) x.toNat (by omega)
  rw [hkd, hxn] at hrg
  refine W.zald h.1 h.2.1 hcell (by rw [hkd]; exact hK.2 4 (by omega) (by omega) _ _) (fun q => by cases q) (by rw [arrV_size]; exact i2) (v := iv (σ k x)) ?_ rfl rfl hd (kk hx hrg o ho H locs cells slots ls hR hl)
  rw [i1, arrV_read _ _ (by omega), hkd, hxn]
  rfl
theorem zm_ldI (h : zv_Ok C cc RX1) (hc : zm_C C G nL ret rk fr lo) (k : Nat) (K N : Int) (hk : k < 102) (hkd : zm_kd k = 5) (hK : (k : Int) = K) (hN : (zm_ln k : Int) = N) (hN2 : zm_ln k < 2147483648) (hd : decode cc pc = .ok (.iaload, 1))
    (kk : 0 ≤ x ∧ x < N → inR (σ K x) → VV C d σ lv (iv (σ K x) :: st) (pc + 1)) : VV C (ck (0 ≤ x ∧ x < N) d) σ lv (iv x :: .ref (zm_al G k) :: st) pc := by
  subst hK; subst hN
  refine r_ck (fun hx => ?_)
  intro o ho H locs cells slots ls hR hl
  obtain ⟨hD, hK, hn0, hr, hlk, hRm, e1, e2⟩ := hc
  have hR0 := hR
  rw [e1] at hR0
  have hcell := hR0.1.2.1 k hk (by omega)
  obtain ⟨i1, i2⟩ := zm_ix hx hN2
  have hxn : ((x.toNat : Nat) : Int) = x := by omega
  have hrg := hR0.1.2.2.2 k hk (by omega) x.toNat (by omega)
  rw [hkd, hxn] at hrg
  refine W.iald h.1 h.2.1 hcell (by rw [hkd]; exact hK.2 5 (by omega) (by omega) _ _) (fun q => by cases q) (by rw [arrV_size]; exact i2) (v := iv (σ k x)) ?_ rfl rfl hd (kk hx hrg o ho H locs cells slots ls hR hl)
  rw [i1, arrV_read _ _ (by omega), hkd, hxn]
  rfl
theorem zm_ldJ (h : zv_Ok C cc RX1) (hc : zm_C C G nL ret rk fr lo) (k : Nat) (K N : Int) (hk : k < 102) (hkd : zm_kd k = 6) (hK : (k : Int) = K) (hN : (zm_ln k : Int) = N) (hN2 : zm_ln k < 2147483648) (hd : decode cc pc = .ok (.laload, 1))
    (kk : 0 ≤ x ∧ x < N → inL (σ K x) → VV C d σ lv (jv (σ K x) :: st) (pc + 1)) : VV C (ck (0 ≤ x ∧ x < N) d) σ lv (iv x :: .ref (zm_al G k) :: st) pc := by
  subst hK; subst hN
  refine r_ck (fun hx => ?_)
  intro o ho H locs cells slots ls hR hl
  obtain ⟨hD, hK, hn0, hr, hlk, hRm, e1, e2⟩ := hc
  have hR0 := hR
  rw [e1] at hR0
  have hcell := hR0.1.2.1 k hk (by omega)
  obtain ⟨i1, i2⟩ := zm_ix hx hN2
  have hxn : ((x.toNat : Nat) : Int) = x := by omega
  have hrg := hR0.1.2.2.2 k hk (by omega) x.toNat (by omega)
  rw [hkd, hxn] at hrg
  refine W.lald h.1 h.2.1 hcell (by rw [hkd]; exact hK.2 6 (by omega) (by omega) _ _) (fun q => by cases q) (by rw [arrV_size]; exact i2) (v := jv (σ k x)) ?_ rfl rfl hd (kk hx hrg o ho H locs cells slots ls hR hl)
  rw [i1, arrV_read _ _ (by omega), hkd, hxn]
  rfl
theorem zm_stB (h : zv_Ok C cc RX1) (hc : zm_C C G nL ret rk fr lo) (k : Nat) (K N : Int) (hk : k < 102) (hkd : zm_kd k = 3) (hK : (k : Int) = K) (hN : (zm_ln k : Int) = N) (hN2 : zm_ln k < 2147483648) (hx2 : isY x) (hd : decode cc pc = .ok (.bastore, 1)) {kd : MEM → Option zm_O}
    (kk : 0 ≤ y ∧ y < N → ∀ σ', σ' = mup σ K y x → VV C (kd σ') σ' lv st (pc + 1)) : VV C (ck (0 ≤ y ∧ y < N) (nu (mup σ K y x) kd)) σ lv (iv x :: iv y :: .ref (zm_al G k) :: st) pc := by
  subst hK; subst hN
  refine r_ck (fun hx => ?_)
  intro o ho H locs cells slots ls hR hl
  obtain ⟨hD, hK, hn0, hr, hlk, hRm, e1, e2⟩ := hc
  have hR0 := hR
  rw [e1] at hR0
  obtain ⟨⟨⟨cell, a1, a2, a3, a4⟩, hA, hS1, hS2⟩, hz, hfr, hlo, hc0, hs0⟩ := hR0
  have hcell := hA k hk (by omega)
  obtain ⟨i1, i2⟩ := zm_ix hx hN2
  have hxn : ((y.toNat : Nat) : Int) = y := by omega
  refine W.bast h.1 h.2.1 hcell (by rw [hkd]; exact hK.2 3 (by omega) (by omega) _ _) (fun q => by cases q) (by rw [arrV_size]; exact i2) rfl rfl hd fun H' b1 b2 b3 => ?_
  refine kk hx _ rfl o ho H' _ cells slots ls ?_ hl
  rw [e1]
  rw [show narrow .byte (.int (Int32.ofInt x)) = .int (Int32.ofInt x) from zm_nY hx2] at b1
  refine ⟨⟨⟨cell, ?_, a2, a3, fun j hj => ?_⟩, fun j hj hkj => ?_, fun j hj hkj => ?_, fun j hj hkj i hi => ?_⟩, by rw [b2]; exact hz, fun w hw => ?_, fun w hw => ?_, hc0, hs0⟩
  · rw [b3 _ (fun e => hD.2 k hk (by omega) e.symm)]
    exact a1
  · rw [a4 j hj]
    have : mup σ k y x (-1) j = σ (-1) j := mup_n σ x (by omega)
    unfold zm_fv
    rw [this]
  · by_cases e : j = k
    · subst e
      rw [b1, i1]
      rw [arrV_store]
      congr 2
      funext i
      unfold updV
      by_cases e : i = y.toNat
      · rw [if_pos e, e, hxn, mup_s, hkd]
        rfl
      · rw [if_neg e, mup_n σ x (by omega)]
    · rw [b3 _ (fun z => e (hD.1 j k hj hk hkj (by omega) z)), hA j hj hkj]
      congr 2
      funext i
      rw [mup_n σ x (by omega)]
  · have : mup σ k y x (-1) j = σ (-1) j := mup_n σ x (by omega)
    rw [this]
    exact hS1 j hj hkj
  · by_cases e : j = k ∧ i = y.toNat
    · obtain ⟨ea, eb⟩ := e
      subst ea
      subst eb
      rw [hxn, mup_s, hkd]
      exact hx2
    · rw [mup_n σ x (by omega)]
      exact hS2 j hj hkj i hi
  · rw [b3 w (fun e => hw (Or.inr ⟨k, hk, by omega, e⟩))]
    exact hfr w hw
  · rcases List.mem_append.mp hw with z | z
    · exact hlo w z
    · rw [List.mem_singleton.mp z]
      exact Or.inr ⟨k, hk, by omega, rfl⟩
theorem zm_stZ (h : zv_Ok C cc RX1) (hc : zm_C C G nL ret rk fr lo) (k : Nat) (K N : Int) (hk : k < 102) (hkd : zm_kd k = 4) (hK : (k : Int) = K) (hN : (zm_ln k : Int) = N) (hN2 : zm_ln k < 2147483648) (hx2 : isB x) (hd : decode cc pc = .ok (.bastore, 1)) {kd : MEM → Option zm_O}
    (kk : 0 ≤ y ∧ y < N → ∀ σ', σ' = mup σ K y x → VV C (kd σ') σ' lv st (pc + 1)) : VV C (ck (0 ≤ y ∧ y < N) (nu (mup σ K y x) kd)) σ lv (iv x :: iv y :: .ref (zm_al G k) :: st) pc := by
  subst hK; subst hN
  refine r_ck (fun hx => ?_)
  intro o ho H locs cells slots ls hR hl
  obtain ⟨hD, hK, hn0, hr, hlk, hRm, e1, e2⟩ := hc
  have hR0 := hR
  rw [e1] at hR0
  obtain ⟨⟨⟨cell, a1, a2, a3, a4⟩, hA, hS1, hS2⟩, hz, hfr, hlo, hc0, hs0⟩ := hR0
  have hcell := hA k hk (by omega)
  obtain ⟨i1, i2⟩ := zm_ix hx hN2
  have hxn : ((y.toNat : Nat) : Int) = y := by omega
  refine W.zast h.1 h.2.1 hcell (by rw [hkd]; exact hK.2 4 (by omega) (by omega) _ _) (fun q => by cases q) (by rw [arrV_size]; exact i2) rfl rfl hd fun H' b1 b2 b3 => ?_
  refine kk hx _ rfl o ho H' _ cells slots ls ?_ hl
  rw [e1]
  rw [show narrow .boolean (.int (Int32.ofInt x)) = .int (Int32.ofInt x) from (zm_nB hx2).1] at b1
  refine ⟨⟨⟨cell, ?_, a2, a3, fun j hj => ?_⟩, fun j hj hkj => ?_, fun j hj hkj => ?_, fun j hj hkj i hi => ?_⟩, by rw [b2]; exact hz, fun w hw => ?_, fun w hw => ?_, hc0, hs0⟩
  · rw [b3 _ (fun e => hD.2 k hk (by omega) e.symm)]
    exact a1
  · rw [a4 j hj]
    have : mup σ k y x (-1) j = σ (-1) j := mup_n σ x (by omega)
    unfold zm_fv
    rw [this]
  · by_cases e : j = k
    · subst e
      rw [b1, i1]
      rw [arrV_store]
      congr 2
      funext i
      unfold updV
      by_cases e : i = y.toNat
      · rw [if_pos e, e, hxn, mup_s, hkd]
        rfl
      · rw [if_neg e, mup_n σ x (by omega)]
    · rw [b3 _ (fun z => e (hD.1 j k hj hk hkj (by omega) z)), hA j hj hkj]
      congr 2
      funext i
      rw [mup_n σ x (by omega)]
  · have : mup σ k y x (-1) j = σ (-1) j := mup_n σ x (by omega)
    rw [this]
    exact hS1 j hj hkj
  · by_cases e : j = k ∧ i = y.toNat
    · obtain ⟨ea, eb⟩ := e
      subst ea
      subst eb
      rw [hxn, mup_s, hkd]
      exact hx2
    · rw [mup_n σ x (by omega)]
      exact hS2 j hj hkj i hi
  · rw [b3 w (fun e => hw (Or.inr ⟨k, hk, by omega, e⟩))]
    exact hfr w hw
  · rcases List.mem_append.mp hw with z | z
    · exact hlo w z
    · rw [List.mem_singleton.mp z]
      exact Or.inr ⟨k, hk, by omega, rfl⟩
theorem zm_stI (h : zv_Ok C cc RX1) (hc : zm_C C G nL ret rk fr lo) (k : Nat) (K N : Int) (hk : k < 102) (hkd : zm_kd k = 5) (hK : (k : Int) = K) (hN : (zm_ln k : Int) = N) (hN2 : zm_ln k < 2147483648) (hx2 : inR x) (hd : decode cc pc = .ok (.iastore, 1)) {kd : MEM → Option zm_O}
    (kk : 0 ≤ y ∧ y < N → ∀ σ', σ' = mup σ K y x → VV C (kd σ') σ' lv st (pc + 1)) : VV C (ck (0 ≤ y ∧ y < N) (nu (mup σ K y x) kd)) σ lv (iv x :: iv y :: .ref (zm_al G k) :: st) pc := by
  subst hK; subst hN
  refine r_ck (fun hx => ?_)
  intro o ho H locs cells slots ls hR hl
  obtain ⟨hD, hK, hn0, hr, hlk, hRm, e1, e2⟩ := hc
  have hR0 := hR
  rw [e1] at hR0
  obtain ⟨⟨⟨cell, a1, a2, a3, a4⟩, hA, hS1, hS2⟩, hz, hfr, hlo, hc0, hs0⟩ := hR0
  have hcell := hA k hk (by omega)
  obtain ⟨i1, i2⟩ := zm_ix hx hN2
  have hxn : ((y.toNat : Nat) : Int) = y := by omega
  refine W.iast h.1 h.2.1 hcell (by rw [hkd]; exact hK.2 5 (by omega) (by omega) _ _) (fun q => by cases q) (by rw [arrV_size]; exact i2) rfl rfl hd fun H' b1 b2 b3 => ?_
  refine kk hx _ rfl o ho H' _ cells slots ls ?_ hl
  rw [e1]
  skip
  refine ⟨⟨⟨cell, ?_, a2, a3, fun j hj => ?_⟩, fun j hj hkj => ?_, fun j hj hkj => ?_, fun j hj hkj i hi => ?_⟩, by rw [b2]; exact hz, fun w hw => ?_, fun w hw => ?_, hc0, hs0⟩
  · rw [b3 _ (fun e => hD.2 k hk (by omega) e.symm)]
    exact a1
  · rw [a4 j hj]
    have : mup σ k y x (-1) j = σ (-1) j := mup_n σ x (by omega)
    unfold zm_fv
    rw [this]
  · by_cases e : j = k
    · subst e
      rw [b1, i1]
      rw [arrV_store]
      congr 2
      funext i
      unfold updV
      by_cases e : i = y.toNat
      · rw [if_pos e, e, hxn, mup_s, hkd]
        rfl
      · rw [if_neg e, mup_n σ x (by omega)]
    · rw [b3 _ (fun z => e (hD.1 j k hj hk hkj (by omega) z)), hA j hj hkj]
      congr 2
      funext i
      rw [mup_n σ x (by omega)]
  · have : mup σ k y x (-1) j = σ (-1) j := mup_n σ x (by omega)
    rw [this]
    exact hS1 j hj hkj
  · by_cases e : j = k ∧ i = y.toNat
    · obtain ⟨ea, eb⟩ := e
      subst ea
      subst eb
      rw [hxn, mup_s, hkd]
      exact hx2
    · rw [mup_n σ x (by omega)]
      exact hS2 j hj hkj i hi
  · rw [b3 w (fun e => hw (Or.inr ⟨k, hk, by omega, e⟩))]
    exact hfr w hw
  · rcases List.mem_append.mp hw with z | z
    · exact hlo w z
    · rw [List.mem_singleton.mp z]
      exact Or.inr ⟨k, hk, by omega, rfl⟩
theorem zm_stJ (h : zv_Ok C cc RX1) (hc : zm_C C G nL ret rk fr lo) (k : Nat) (K N : Int) (hk : k < 102) (hkd : zm_kd k = 6) (hK : (k : Int) = K) (hN : (zm_ln k : Int) = N) (hN2 : zm_ln k < 2147483648) (hx2 : inL x) (hd : decode cc pc = .ok (.lastore, 1)) {kd : MEM → Option zm_O}
    (kk : 0 ≤ y ∧ y < N → ∀ σ', σ' = mup σ K y x → VV C (kd σ') σ' lv st (pc + 1)) : VV C (ck (0 ≤ y ∧ y < N) (nu (mup σ K y x) kd)) σ lv (jv x :: iv y :: .ref (zm_al G k) :: st) pc := by
  subst hK; subst hN
  refine r_ck (fun hx => ?_)
  intro o ho H locs cells slots ls hR hl
  obtain ⟨hD, hK, hn0, hr, hlk, hRm, e1, e2⟩ := hc
  have hR0 := hR
  rw [e1] at hR0
  obtain ⟨⟨⟨cell, a1, a2, a3, a4⟩, hA, hS1, hS2⟩, hz, hfr, hlo, hc0, hs0⟩ := hR0
  have hcell := hA k hk (by omega)
  obtain ⟨i1, i2⟩ := zm_ix hx hN2
  have hxn : ((y.toNat : Nat) : Int) = y := by omega
  refine W.last h.1 h.2.1 hcell (by rw [hkd]; exact hK.2 6 (by omega) (by omega) _ _) (fun q => by cases q) (by rw [arrV_size]; exact i2) rfl rfl hd fun H' b1 b2 b3 => ?_
  refine kk hx _ rfl o ho H' _ cells slots ls ?_ hl
  rw [e1]
  skip
  refine ⟨⟨⟨cell, ?_, a2, a3, fun j hj => ?_⟩, fun j hj hkj => ?_, fun j hj hkj => ?_, fun j hj hkj i hi => ?_⟩, by rw [b2]; exact hz, fun w hw => ?_, fun w hw => ?_, hc0, hs0⟩
  · rw [b3 _ (fun e => hD.2 k hk (by omega) e.symm)]
    exact a1
  · rw [a4 j hj]
    have : mup σ k y x (-1) j = σ (-1) j := mup_n σ x (by omega)
    unfold zm_fv
    rw [this]
  · by_cases e : j = k
    · subst e
      rw [b1, i1]
      rw [arrV_store]
      congr 2
      funext i
      unfold updV
      by_cases e : i = y.toNat
      · rw [if_pos e, e, hxn, mup_s, hkd]
        rfl
      · rw [if_neg e, mup_n σ x (by omega)]
    · rw [b3 _ (fun z => e (hD.1 j k hj hk hkj (by omega) z)), hA j hj hkj]
      congr 2
      funext i
      rw [mup_n σ x (by omega)]
  · have : mup σ k y x (-1) j = σ (-1) j := mup_n σ x (by omega)
    rw [this]
    exact hS1 j hj hkj
  · by_cases e : j = k ∧ i = y.toNat
    · obtain ⟨ea, eb⟩ := e
      subst ea
      subst eb
      rw [hxn, mup_s, hkd]
      exact hx2
    · rw [mup_n σ x (by omega)]
      exact hS2 j hj hkj i hi
  · rw [b3 w (fun e => hw (Or.inr ⟨k, hk, by omega, e⟩))]
    exact hfr w hw
  · rcases List.mem_append.mp hw with z | z
    · exact hlo w z
    · rw [List.mem_singleton.mp z]
      exact Or.inr ⟨k, hk, by omega, rfl⟩
theorem zm_iret (h : zv_Ok C cc RX1) (hc : zm_C C G nL ret 1 fr lo) (hr : ret = some .int) (hx : inR x) (hd : decode cc pc = .ok (.ireturn, 1)) : VV C (some (x, σ)) σ lv [iv x] pc := by
  intro o ho H locs cells slots ls hR hl
  obtain ⟨hD, hK, hn0, hr0, hlk, hRm, e1, e2⟩ := hc
  rw [e1] at hR
  obtain ⟨hH, hz, hfr, hlo, hc0, hs0⟩ := hR
  subst hc0; subst hs0
  cases ho
  unfold zv_W
  rw [e2]
  exact W.iret h.1 h.2.1 (by rw [hr0, hr])  (fun t ht _ => ⟨rfl, hx, by rw [ht]; exact hH, by rw [ht]; exact hz, fun q hq => by rw [ht]; exact hfr q hq⟩) hlo hd hlk
theorem zm_zret (h : zv_Ok C cc RX1) (hc : zm_C C G nL ret 3 fr lo) (hr : ret = some .boolean) (hx : isB x) (hd : decode cc pc = .ok (.ireturn, 1)) : VV C (some (x, σ)) σ lv [iv x] pc := by
  intro o ho H locs cells slots ls hR hl
  obtain ⟨hD, hK, hn0, hr0, hlk, hRm, e1, e2⟩ := hc
  rw [e1] at hR
  obtain ⟨hH, hz, hfr, hlo, hc0, hs0⟩ := hR
  subst hc0; subst hs0
  cases ho
  unfold zv_W
  rw [e2]
  exact W.zret h.1 h.2.1 (by rw [hr0, hr]) (zm_nB hx).1 (fun t ht _ => ⟨rfl, hx, by rw [ht]; exact hH, by rw [ht]; exact hz, fun q hq => by rw [ht]; exact hfr q hq⟩) hlo hd hlk
theorem zm_jret (h : zv_Ok C cc RX1) (hc : zm_C C G nL ret 2 fr lo) (hr : ret = some .long) (hx : inL x) (hd : decode cc pc = .ok (.lreturn, 1)) : VV C (some (x, σ)) σ lv [jv x] pc := by
  intro o ho H locs cells slots ls hR hl
  obtain ⟨hD, hK, hn0, hr0, hlk, hRm, e1, e2⟩ := hc
  rw [e1] at hR
  obtain ⟨hH, hz, hfr, hlo, hc0, hs0⟩ := hR
  subst hc0; subst hs0
  cases ho
  unfold zv_W
  rw [e2]
  exact W.lret h.1 h.2.1 (by rw [hr0, hr])  (fun t ht _ => ⟨rfl, hx, by rw [ht]; exact hH, by rw [ht]; exact hz, fun q hq => by rw [ht]; exact hfr q hq⟩) hlo hd hlk
theorem zm_vret (h : zv_Ok C cc RX1) (hc : zm_C C G nL ret 0 fr lo) (hr : ret = none)  (hd : decode cc pc = .ok (.return_, 1)) : VV C (some (0, σ)) σ lv [] pc := by
  intro o ho H locs cells slots ls hR hl
  obtain ⟨hD, hK, hn0, hr0, hlk, hRm, e1, e2⟩ := hc
  rw [e1] at hR
  obtain ⟨hH, hz, hfr, hlo, hc0, hs0⟩ := hR
  subst hc0; subst hs0
  cases ho
  unfold zv_W
  rw [e2]
  exact W.vret h.1 h.2.1 (by rw [hr0, hr])  (fun t ht _ => ⟨rfl, rfl, by rw [ht]; exact hH, by rw [ht]; exact hz, fun q hq => by rw [ht]; exact hfr q hq⟩) hlo hd hlk
theorem zm_blind {G : zm_G} {σ : MEM} {av : List Value} : FrameBlind (zm_Pc G σ av) := fun a U g mk q => by
  obtain ⟨q0, q1, q2⟩ := q
  exact ⟨q0, q1, q2.moved (u := U) (U := U.calling g mk a) (Vm.Alike.refl U.vm)⟩
theorem zm_run {H : Heap} {locs : List Loc} {o1 o : zm_O} {rk' : Nat} {rest : List Value} {st0 : List Value} {a : Array Value} {ls : Array Slot} {cells slots : Nat} {K : zm_O → Option zm_O} (hc : zm_C C G nL ret rk fr lo) (hR : C.2.1 σ H locs cells slots) (hl : lv_has ls (zv_n C) lv) (ho : K o1 = some o)
    (hr : va_Run (zv_p C) (zv_l C) (zv_e C) (zv_R C) (zv_s C) (zv_m C) (zv_a C) (zv_b C) (zv_h C) (zv_c C) H locs cells slots 0 0 (F0 (zv_m C) pc ls st0) rest (zm_Qc G rk' o1 a) (zm_A G))
    (kk : ∀ r σ', zm_rr rk' r → VV C (K (r, σ')) σ' lv ((zm_rv rk' r).toList ++ rest) (pc + 3)) : zv_W C H locs cells slots o (F0 (zv_m C) pc ls st0) := by
  have hc' := hc
  obtain ⟨hD, hK, hn0, hr0, hlk, hRm, e1, e2⟩ := hc
  have hR0 := hR
  rw [e1] at hR0
  obtain ⟨hH, hz, hfr, hlo, hc0, hs0⟩ := hR0
  intro T hT X
  obtain ⟨v, st₀, t, T', L, h0, X', hL, t1, t2, ⟨q1, q2, q3, q4, q5⟩, hg⟩ := hr T hT X
  have hv : v = zm_rv rk' o1.1 := by cases q1; rfl
  subst hv
  obtain ⟨r, σ'⟩ := o1
  have hk := kk r σ' q2 o ho T'.heap (locs ++ L) (cells + 0) (slots + 0) ls (by
    rw [e1]
    refine ⟨by rw [t1]; exact q3, by rw [t1, q4, h0]; exact hz, fun q hq => by rw [t1, q5 q hq, h0]; exact hfr q hq, fun l hl => ?_, hc0, hs0⟩
    rcases List.mem_append.mp hl with z | z
    · exact hlo l z
    · exact hL l z) hl
  obtain ⟨t3, a1, b1⟩ := hk T' rfl X'
  exact ⟨t3, hg t3 a1, b1⟩
theorem zm_recv (hc : zm_C C G nL ret rk fr lo) {H : Heap} (h : zm_H G σ H) : ∃ cell : Cell, H[zm_h G]? = some cell ∧ cell.vm.isStatics = false ∧ (zv_s C).vm.findClass RX1 = some cell.cls := by
  obtain ⟨cell, a1, a2, a3, -⟩ := h.1
  exact ⟨cell, a1, by rw [a3]; rfl, by rw [a2]; exact hc.2.1.1.2.1⟩
theorem zm_callV (h : zv_Ok C cc RX1) (hc : zm_C C G nL ret rk fr lo) {y : MethodName} {bytes : ByteArray} {maxL rk' fr' lo' index n : Nat} {ret' : Option FieldType} {As stk : List Value} {den : Option zm_O} {K : zm_O → Option zm_O} (hM : ∀ o1, den = some o1 → zm_Met G y bytes maxL ret' rk' fr' lo' σ (.ref (zm_h G) :: As) o1)
    (q1 : Cond.methodLink RX1 index y ∈ lw_all) (q2 : Cond.instanceMethod y ∈ lw_all) (q3 : Cond.selects RX1 y y ∈ lw_all) (q4 : Cond.initialized RX1 ∈ lw_all) (q5 : Cond.code y bytes maxL ret' ∈ lw_all) (hy : y.cls = RX1 ∧ y.cls ≠ "java/lang/invoke/MethodHandle" ∧ y.cls ≠ "java/lang/invoke/VarHandle" ∧ (parseMethodDescriptor y.desc).map (fun d => d.parameters.length) = some n) (hroom : fr' + 1 ≤ fr ∧ 8 + (maxL + 11) + lo' ≤ lo) (hn : As.length = n) (hst : (st.map fun v => v.category).sum ≤ 8) (hs : stk = As.reverse ++ .ref (zm_h G) :: st) (hd : decode cc pc = .ok (.invokevirtual index, 3))
    (kk : ∀ r σ', zm_rr rk' r → VV C (K (r, σ')) σ' lv ((zm_rv rk' r).toList ++ st) (pc + 3)) : VV C (den.bind K) σ lv stk pc := by
  intro o ho H locs cells slots ls hR hl
  subst hs
  cases hden : den with
  | none => rw [hden] at ho; cases ho
  | some o1 =>
    rw [hden] at ho
    have hR0 := hR
    rw [hc.2.2.2.2.2.2.1] at hR0
    obtain ⟨hH, hz, hfr, hlo, hc0, hs0⟩ := hR0
    have hRm := hc.2.2.2.2.2.1
    refine zm_run hc hR hl ho (va_runV (As := As) (rest := st) ⟨h.1, h.2.1, h.2.2.1, h.2.2.2.1, h.2.2.2.2⟩ (hM o1 hden (zv_l C)) (cwV n h.2.2.2.2 (lw_V q1 q2 q3 q4 q5) rfl rfl rfl hy (by rw [hRm]; exact hroom)) ⟨zm_blind, zm_recv hc hH, fun U hU hW => ⟨rfl, by rw [hU]; exact hH, hc.2.1.moved hW.alike⟩⟩ rfl hn hl.1 rfl (lv_room hst) hd (by rw [hRm, hc0, hs0]; exact ⟨Nat.le_refl _, Nat.le_refl _⟩)) kk
theorem zm_callS (h : zv_Ok C cc RX1) (hc : zm_C C G nL ret rk fr lo) {y : MethodName} {bytes : ByteArray} {maxL rk' fr' lo' index n : Nat} {ret' : Option FieldType} {As stk : List Value} {den : Option zm_O} {K : zm_O → Option zm_O} (hM : ∀ o1, den = some o1 → zm_Met G y bytes maxL ret' rk' fr' lo' σ As o1)
    (q1 : Cond.methodLink RX1 index y ∈ lw_all) (q2 : Cond.static y ∈ lw_all) (q4 : Cond.initialized y.cls ∈ lw_all) (q5 : Cond.code y bytes maxL ret' ∈ lw_all) (hy : y.cls ≠ "java/lang/invoke/MethodHandle" ∧ y.cls ≠ "java/lang/invoke/VarHandle" ∧ (parseMethodDescriptor y.desc).map (fun d => d.parameters.length) = some n) (hroom : fr' + 1 ≤ fr ∧ 8 + (maxL + 11) + lo' ≤ lo) (hn : As.length = n) (hst : (st.map fun v => v.category).sum ≤ 8) (hs : stk = As.reverse ++ st) (hd : decode cc pc = .ok (.invokestatic index, 3))
    (kk : ∀ r σ', zm_rr rk' r → VV C (K (r, σ')) σ' lv ((zm_rv rk' r).toList ++ st) (pc + 3)) : VV C (den.bind K) σ lv stk pc := by
  intro o ho H locs cells slots ls hR hl
  subst hs
  cases hden : den with
  | none => rw [hden] at ho; cases ho
  | some o1 =>
    rw [hden] at ho
    have hR0 := hR
    rw [hc.2.2.2.2.2.2.1] at hR0
    obtain ⟨hH, hz, hfr, hlo, hc0, hs0⟩ := hR0
    have hRm := hc.2.2.2.2.2.1
    refine zm_run hc hR hl ho (va_runS (As := As) (rest := st) ⟨h.1, h.2.1, h.2.2.1, h.2.2.2.1, h.2.2.2.2⟩ (hM o1 hden (zv_l C)) (va_cwS n h.2.2.2.2 (lw_S q1 q2 q4 q5) rfl rfl rfl hy (by rw [hRm]; exact hroom)) ⟨zm_blind, fun U hU hW => ⟨rfl, by rw [hU]; exact hH, hc.2.1.moved hW.alike⟩⟩ rfl hn hl.1 rfl (lv_room hst) hd (by rw [hRm, hc0, hs0]; exact ⟨Nat.le_refl _, Nat.le_refl _⟩)) kk

theorem zm_cVv (h : zv_Ok C cc RX1) (hc : zm_C C G nL ret rk fr lo) {y : MethodName} {bytes : ByteArray} {maxL fr' lo' index n : Nat} {ret' : Option FieldType} {As stk : List Value} {den : Option zm_O} {K : Int → MEM → Option zm_O} (hM : ∀ o1, den = some o1 → zm_Met G y bytes maxL ret' 0 fr' lo' σ (.ref (zm_h G) :: As) o1)
    (q1 : Cond.methodLink RX1 index y ∈ lw_all) (q2 : Cond.instanceMethod y ∈ lw_all) (q3 : Cond.selects RX1 y y ∈ lw_all) (q4 : Cond.initialized RX1 ∈ lw_all) (q5 : Cond.code y bytes maxL ret' ∈ lw_all) (hy : y.cls = RX1 ∧ y.cls ≠ "java/lang/invoke/MethodHandle" ∧ y.cls ≠ "java/lang/invoke/VarHandle" ∧ (parseMethodDescriptor y.desc).map (fun d => d.parameters.length) = some n) (hroom : fr' + 1 ≤ fr ∧ 8 + (maxL + 11) + lo' ≤ lo) (hn : As.length = n) (hst : (st.map fun v => v.category).sum ≤ 8) (hs : stk = As.reverse ++ .ref (zm_h G) :: st) (hd : decode cc pc = .ok (.invokevirtual index, 3))
    (kk : ∀ σ', VV C (K 0 σ') σ' lv st (pc + 3)) : VV C (bd den K) σ lv stk pc := zm_callV h hc hM q1 q2 q3 q4 q5 hy hroom hn hst hs hd (fun r σ' hr => by rw [show r = 0 from hr]; exact kk σ')
theorem zm_cSv (h : zv_Ok C cc RX1) (hc : zm_C C G nL ret rk fr lo) {y : MethodName} {bytes : ByteArray} {maxL fr' lo' index n : Nat} {ret' : Option FieldType} {As stk : List Value} {den : Option zm_O} {K : Int → MEM → Option zm_O} (hM : ∀ o1, den = some o1 → zm_Met G y bytes maxL ret' 0 fr' lo' σ As o1)
    (q1 : Cond.methodLink RX1 index y ∈ lw_all) (q2 : Cond.static y ∈ lw_all) (q4 : Cond.initialized y.cls ∈ lw_all) (q5 : Cond.code y bytes maxL ret' ∈ lw_all) (hy : y.cls ≠ "java/lang/invoke/MethodHandle" ∧ y.cls ≠ "java/lang/invoke/VarHandle" ∧ (parseMethodDescriptor y.desc).map (fun d => d.parameters.length) = some n) (hroom : fr' + 1 ≤ fr ∧ 8 + (maxL + 11) + lo' ≤ lo) (hn : As.length = n) (hst : (st.map fun v => v.category).sum ≤ 8) (hs : stk = As.reverse ++ st) (hd : decode cc pc = .ok (.invokestatic index, 3))
    (kk : ∀ σ', VV C (K 0 σ') σ' lv st (pc + 3)) : VV C (bd den K) σ lv stk pc := zm_callS h hc hM q1 q2 q4 q5 hy hroom hn hst hs hd (fun r σ' hr => by rw [show r = 0 from hr]; exact kk σ')
theorem zm_cVi (h : zv_Ok C cc RX1) (hc : zm_C C G nL ret rk fr lo) {y : MethodName} {bytes : ByteArray} {maxL fr' lo' index n : Nat} {ret' : Option FieldType} {As stk : List Value} {den : Option zm_O} {K : Int → MEM → Option zm_O} (hM : ∀ o1, den = some o1 → zm_Met G y bytes maxL ret' 1 fr' lo' σ (.ref (zm_h G) :: As) o1)
    (q1 : Cond.methodLink RX1 index y ∈ lw_all) (q2 : Cond.instanceMethod y ∈ lw_all) (q3 : Cond.selects RX1 y y ∈ lw_all) (q4 : Cond.initialized RX1 ∈ lw_all) (q5 : Cond.code y bytes maxL ret' ∈ lw_all) (hy : y.cls = RX1 ∧ y.cls ≠ "java/lang/invoke/MethodHandle" ∧ y.cls ≠ "java/lang/invoke/VarHandle" ∧ (parseMethodDescriptor y.desc).map (fun d => d.parameters.length) = some n) (hroom : fr' + 1 ≤ fr ∧ 8 + (maxL + 11) + lo' ≤ lo) (hn : As.length = n) (hst : (st.map fun v => v.category).sum ≤ 8) (hs : stk = As.reverse ++ .ref (zm_h G) :: st) (hd : decode cc pc = .ok (.invokevirtual index, 3))
    (kk : ∀ r σ', inR r → VV C (K r σ') σ' lv (iv r :: st) (pc + 3)) : VV C (bd den K) σ lv stk pc := zm_callV h hc hM q1 q2 q3 q4 q5 hy hroom hn hst hs hd (fun r σ' hr => kk r σ' hr)
theorem zm_cSi (h : zv_Ok C cc RX1) (hc : zm_C C G nL ret rk fr lo) {y : MethodName} {bytes : ByteArray} {maxL fr' lo' index n : Nat} {ret' : Option FieldType} {As stk : List Value} {den : Option zm_O} {K : Int → MEM → Option zm_O} (hM : ∀ o1, den = some o1 → zm_Met G y bytes maxL ret' 1 fr' lo' σ As o1)
    (q1 : Cond.methodLink RX1 index y ∈ lw_all) (q2 : Cond.static y ∈ lw_all) (q4 : Cond.initialized y.cls ∈ lw_all) (q5 : Cond.code y bytes maxL ret' ∈ lw_all) (hy : y.cls ≠ "java/lang/invoke/MethodHandle" ∧ y.cls ≠ "java/lang/invoke/VarHandle" ∧ (parseMethodDescriptor y.desc).map (fun d => d.parameters.length) = some n) (hroom : fr' + 1 ≤ fr ∧ 8 + (maxL + 11) + lo' ≤ lo) (hn : As.length = n) (hst : (st.map fun v => v.category).sum ≤ 8) (hs : stk = As.reverse ++ st) (hd : decode cc pc = .ok (.invokestatic index, 3))
    (kk : ∀ r σ', inR r → VV C (K r σ') σ' lv (iv r :: st) (pc + 3)) : VV C (bd den K) σ lv stk pc := zm_callS h hc hM q1 q2 q4 q5 hy hroom hn hst hs hd (fun r σ' hr => kk r σ' hr)
theorem zm_cVj (h : zv_Ok C cc RX1) (hc : zm_C C G nL ret rk fr lo) {y : MethodName} {bytes : ByteArray} {maxL fr' lo' index n : Nat} {ret' : Option FieldType} {As stk : List Value} {den : Option zm_O} {K : Int → MEM → Option zm_O} (hM : ∀ o1, den = some o1 → zm_Met G y bytes maxL ret' 2 fr' lo' σ (.ref (zm_h G) :: As) o1)
    (q1 : Cond.methodLink RX1 index y ∈ lw_all) (q2 : Cond.instanceMethod y ∈ lw_all) (q3 : Cond.selects RX1 y y ∈ lw_all) (q4 : Cond.initialized RX1 ∈ lw_all) (q5 : Cond.code y bytes maxL ret' ∈ lw_all) (hy : y.cls = RX1 ∧ y.cls ≠ "java/lang/invoke/MethodHandle" ∧ y.cls ≠ "java/lang/invoke/VarHandle" ∧ (parseMethodDescriptor y.desc).map (fun d => d.parameters.length) = some n) (hroom : fr' + 1 ≤ fr ∧ 8 + (maxL + 11) + lo' ≤ lo) (hn : As.length = n) (hst : (st.map fun v => v.category).sum ≤ 8) (hs : stk = As.reverse ++ .ref (zm_h G) :: st) (hd : decode cc pc = .ok (.invokevirtual index, 3))
    (kk : ∀ r σ', inL r → VV C (K r σ') σ' lv (jv r :: st) (pc + 3)) : VV C (bd den K) σ lv stk pc := zm_callV h hc hM q1 q2 q3 q4 q5 hy hroom hn hst hs hd (fun r σ' hr => kk r σ' hr)
theorem zm_cSj (h : zv_Ok C cc RX1) (hc : zm_C C G nL ret rk fr lo) {y : MethodName} {bytes : ByteArray} {maxL fr' lo' index n : Nat} {ret' : Option FieldType} {As stk : List Value} {den : Option zm_O} {K : Int → MEM → Option zm_O} (hM : ∀ o1, den = some o1 → zm_Met G y bytes maxL ret' 2 fr' lo' σ As o1)
    (q1 : Cond.methodLink RX1 index y ∈ lw_all) (q2 : Cond.static y ∈ lw_all) (q4 : Cond.initialized y.cls ∈ lw_all) (q5 : Cond.code y bytes maxL ret' ∈ lw_all) (hy : y.cls ≠ "java/lang/invoke/MethodHandle" ∧ y.cls ≠ "java/lang/invoke/VarHandle" ∧ (parseMethodDescriptor y.desc).map (fun d => d.parameters.length) = some n) (hroom : fr' + 1 ≤ fr ∧ 8 + (maxL + 11) + lo' ≤ lo) (hn : As.length = n) (hst : (st.map fun v => v.category).sum ≤ 8) (hs : stk = As.reverse ++ st) (hd : decode cc pc = .ok (.invokestatic index, 3))
    (kk : ∀ r σ', inL r → VV C (K r σ') σ' lv (jv r :: st) (pc + 3)) : VV C (bd den K) σ lv stk pc := zm_callS h hc hM q1 q2 q4 q5 hy hroom hn hst hs hd (fun r σ' hr => kk r σ' hr)
theorem zm_cVz (h : zv_Ok C cc RX1) (hc : zm_C C G nL ret rk fr lo) {y : MethodName} {bytes : ByteArray} {maxL fr' lo' index n : Nat} {ret' : Option FieldType} {As stk : List Value} {den : Option zm_O} {K : Int → MEM → Option zm_O} (hM : ∀ o1, den = some o1 → zm_Met G y bytes maxL ret' 3 fr' lo' σ (.ref (zm_h G) :: As) o1)
    (q1 : Cond.methodLink RX1 index y ∈ lw_all) (q2 : Cond.instanceMethod y ∈ lw_all) (q3 : Cond.selects RX1 y y ∈ lw_all) (q4 : Cond.initialized RX1 ∈ lw_all) (q5 : Cond.code y bytes maxL ret' ∈ lw_all) (hy : y.cls = RX1 ∧ y.cls ≠ "java/lang/invoke/MethodHandle" ∧ y.cls ≠ "java/lang/invoke/VarHandle" ∧ (parseMethodDescriptor y.desc).map (fun d => d.parameters.length) = some n) (hroom : fr' + 1 ≤ fr ∧ 8 + (maxL + 11) + lo' ≤ lo) (hn : As.length = n) (hst : (st.map fun v => v.category).sum ≤ 8) (hs : stk = As.reverse ++ .ref (zm_h G) :: st) (hd : decode cc pc = .ok (.invokevirtual index, 3))
    (kk : ∀ r σ', isB r → VV C (K r σ') σ' lv (iv r :: st) (pc + 3)) : VV C (bd den K) σ lv stk pc := zm_callV h hc hM q1 q2 q3 q4 q5 hy hroom hn hst hs hd (fun r σ' hr => kk r σ' hr)
theorem zm_cSz (h : zv_Ok C cc RX1) (hc : zm_C C G nL ret rk fr lo) {y : MethodName} {bytes : ByteArray} {maxL fr' lo' index n : Nat} {ret' : Option FieldType} {As stk : List Value} {den : Option zm_O} {K : Int → MEM → Option zm_O} (hM : ∀ o1, den = some o1 → zm_Met G y bytes maxL ret' 3 fr' lo' σ As o1)
    (q1 : Cond.methodLink RX1 index y ∈ lw_all) (q2 : Cond.static y ∈ lw_all) (q4 : Cond.initialized y.cls ∈ lw_all) (q5 : Cond.code y bytes maxL ret' ∈ lw_all) (hy : y.cls ≠ "java/lang/invoke/MethodHandle" ∧ y.cls ≠ "java/lang/invoke/VarHandle" ∧ (parseMethodDescriptor y.desc).map (fun d => d.parameters.length) = some n) (hroom : fr' + 1 ≤ fr ∧ 8 + (maxL + 11) + lo' ≤ lo) (hn : As.length = n) (hst : (st.map fun v => v.category).sum ≤ 8) (hs : stk = As.reverse ++ st) (hd : decode cc pc = .ok (.invokestatic index, 3))
    (kk : ∀ r σ', isB r → VV C (K r σ') σ' lv (iv r :: st) (pc + 3)) : VV C (bd den K) σ lv stk pc := zm_callS h hc hM q1 q2 q4 q5 hy hroom hn hst hs hd (fun r σ' hr => kk r σ' hr)
end ZM
