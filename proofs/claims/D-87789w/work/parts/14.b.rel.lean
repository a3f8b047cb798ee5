set_option maxRecDepth 100000
/-! THE CLASS SIDE: relation, contract, entry, ends -/
abbrev isC (x : Int) : Prop := 0 ≤ x ∧ x ≤ 65535
theorem isC.r {x : Int} (h : isC x) : inR x := ⟨by have := h.1; omega, by have := h.2; omega⟩
theorem zv_nB {x : Int} (h : isB x) : narrow .boolean (iv x) = iv x ∧ fits .boolean (iv x) = true := by
  rcases bit_B h with rfl | rfl <;> exact ⟨by decide +kernel, by decide +kernel⟩
theorem zv_nY {x : Int} (h : isY x) : narrow .byte (iv x) = iv x := by
  show narrow .byte (.int _) = .int _
  rw [narrow_byte]
  congr 1
  apply Int32.toInt_inj.mp
  rw [Int8.toInt_toInt32, Int32.toInt_toInt8, oi_t h.r]
  have := h.1; have := h.2
  exact Int.bmod_eq_of_le (by omega) (by omega)
theorem zv_ix {i : Int} {n : Nat} (h : 0 ≤ i ∧ i < (n : Int)) (hn : n < 2147483648) : (Int32.ofInt i).toNatClampNeg = i.toNat ∧ ¬ (Int32.ofInt i < 0 ∨ n ≤ (Int32.ofInt i).toNatClampNeg) := by
  have hi : inR i := ⟨by omega, by omega⟩
  have e : (Int32.ofInt i).toNatClampNeg = i.toNat := by
    rw [← Int32.toNat_toInt, oi_t hi]
  refine ⟨e, ?_⟩
  rw [e, oi_lt0 hi]
  omega
theorem zc_kst.moved {G : zc_G} {s U : State} (hW : s.WarmedH U.vm) (h : zc_kst G s) : zc_kst G U := by
  obtain ⟨h1, h1a, h1b, h2, h3, h4, h5, h6, h7, h8, h9, h10, h11⟩ := h
  have ha := hW.alike
  exact ⟨fun q hq => (h1 q hq).warm hW, fun n a b => ⟨(h1a n a b).1.moved ha, (h1a n a b).2.1.moved ha, (h1a n a b).2.2.moved ha⟩, fun n hn => (h1b n hn).moved ha, h2.moved ha, h3.moved ha, h4.moved ha, h5.moved ha, h6.moved ha, h7.moved ha, h8.moved ha, h9.moved ha, h10.moved ha, fun x hx => (h11 x hx).warmD hW⟩
theorem zc_K.moved {G : zc_G} {s U : State} (hW : s.WarmedH U.vm) (h : zc_K G s) : zc_K G U := by
  obtain ⟨h1, h2, h3, h4, h5, h6, h7, h8, h9, h10⟩ := h
  have ha := hW.alike
  exact ⟨fun t ht => u_Kn_moved ha (h1 t ht), fun t a b => ⟨arrOfT_moved ha (h2 t a b).1, (h2 t a b).2.moved ha⟩, h3.moved ha, fun q hq => (h4 q hq).warmF hW, fun q hq => (h5 q hq).warmM hW, fun q hq => (h6 q hq).warmC hW, fun q hq => (h7 q hq).moved ha, h8.moved ha, h9.moved ha, h10.moved hW⟩
/-- since the heap H0 (memory μ0): the heap H holds μ, what is not ours is as it was -/
def zc_Rel (G : zc_G) (μ0 : MEM) (H0 : Heap) : MEM → Heap → List Loc → Nat → Nat → Prop := fun μ H locs cells slots =>
  zc_H G μ H ∧ H0.size ≤ H.size ∧ μ 0 0 = (H.size : Int) + 1 ∧ (∀ q : Nat, q < H0.size → (μ ((q : Int) + 1) (-1) = 0 ↔ μ0 ((q : Int) + 1) (-1) = 0)) ∧ (∀ q : Nat, q < H0.size → μ0 ((q : Int) + 1) (-1) = 0 → H[q]? = H0[q]?) ∧ (∀ l ∈ locs, H0.size ≤ l.base ∨ μ0 ((l.base : Int) + 1) (-1) ≠ 0) ∧ (cells : Int) = μ0 0 1 - μ 0 1 ∧ (slots : Int) = μ0 0 2 - μ 0 2 ∧ 0 ≤ μ 0 1 ∧ 0 ≤ μ 0 2
theorem zc_Rel.rf {G : zc_G} {μ : MEM} {H : Heap} (h : zc_H G μ H) (h0 : μ 0 0 = (H.size : Int) + 1) (h1 : 0 ≤ μ 0 1) (h2 : 0 ≤ μ 0 2) : zc_Rel G μ H μ H [] 0 0 :=
  ⟨h, Nat.le_refl _, h0, fun _ _ => Iff.rfl, fun _ _ _ => rfl, fun l hl => (by cases hl), by omega, by omega, h1, h2⟩
theorem zc_Rel.trans {G : zc_G} {μ0 μ μ' : MEM} {H0 H H' : Heap} {locs L : List Loc} {c s k n : Nat} (a : zc_Rel G μ0 H0 μ H locs c s) (b : zc_Rel G μ H μ' H' L k n) : zc_Rel G μ0 H0 μ' H' (locs ++ L) (c + k) (s + n) := by
  obtain ⟨a1, a2, a3, a4, a5, a6, a7, a8, a9, a10⟩ := a
  obtain ⟨b1, b2, b3, b4, b5, b6, b7, b8, b9, b10⟩ := b
  refine ⟨b1, by omega, b3, fun q hq => (b4 q (by omega)).trans (a4 q hq), fun q hq hz => ?_, fun l hl => ?_, by omega, by omega, b9, b10⟩
  · rw [b5 q (by omega) ((a4 q hq).mpr hz)]
    exact a5 q hq hz
  · rcases List.mem_append.mp hl with z | z
    · exact a6 l z
    · rcases b6 l z with w | w
      · left; omega
      · by_cases hlt : l.base < H0.size
        · right
          exact fun e => w ((a4 _ hlt).mpr e)
        · exact Or.inl (Nat.not_lt.mp hlt)
abbrev zc_O : Type := Int × Int × MEM
/-- a call, then the rest; what it throws goes on -/
def bc (d : Option zc_O) (k : Int → MEM → Option zc_O) : Option zc_O := d.bind (fun o => if o.1 = 0 then k o.2.1 o.2.2 else some o)
def zc_rt (G : zc_G) (rk : Nat) (r : Int) : Option Value := match rk with
  | 0 => none
  | 2 => some (jv r)
  | 4 => some (zc_rv G r)
  | _ => some (iv r)
def zc_rr (rk : Nat) (r : Int) : Prop := match rk with
  | 0 => r = 0
  | 1 => inR r
  | 2 => inL r
  | 3 => isB r
  | 5 => isC r
  | 6 => isY r
  | _ => True
def zc_out (G : zc_G) (rk : Nat) (o : zc_O) (oc : Outcome) : Prop := (o.1 = 0 ∧ oc = .returned (zc_rt G rk o.2.1) ∧ zc_rr rk o.2.1) ∨ (o.1 ≠ 0 ∧ 0 < o.2.1 ∧ oc = .threw (o.2.1 - 1).toNat)
abbrev zc_rm (fr lo : Nat) (μ : MEM) : Room := { frames := fr, cells := (μ 0 1).toNat, slots := (μ 0 2).toNat, locals := lo }
def zc_Pc (G : zc_G) (μ : MEM) (av : List Value) : Array Value → State → Prop := fun a U => a = av.toArray ∧ zc_H G μ U.heap ∧ μ 0 0 = (U.heap.size : Int) + 1 ∧ 0 ≤ μ 0 1 ∧ 0 ≤ μ 0 2 ∧ zc_K G U
def zc_Q (G : zc_G) (rk : Nat) (μ : MEM) (o : zc_O) : Array Value → State → Outcome → State → Prop := fun _ st oc t => zc_out G rk o oc ∧ ∃ L k n, zx_End st t L k n ∧ zc_Rel G μ st.heap o.2.2 t.heap L k n
def zc_L (l : Launch) : Prop := l.stackTraces = false
/-- THE CONTRACT of a method of the class side -/
def zc_Met (G : zc_G) (y : MethodName) (cc : ByteArray) (nL : Nat) (ret : Option FieldType) (rk fr lo : Nat) (μ : MEM) (av : List Value) (o : zc_O) : Prop := ∀ l : Launch, zc_L l → MetFree l y (headSpec (ws_ y cc nL ret) (zc_rm fr lo μ)) (zc_Pc G μ av) (fun _ _ _ _ _ => True) (zc_Q G rk μ o)
def zc_F (G : zc_G) (μ0 : MEM) (rk : Nat) (below : List Frame) (s : State) : zc_O → State → Prop := fun o t => ∃ oc, t.status = .running ∧ Ended t below oc ∧ zc_out G rk o oc ∧ ∃ L k n, zx_End s t L k n ∧ zc_Rel G μ0 s.heap o.2.2 t.heap L k n
/-- the context of a walk through a method of the class side -/
def zc_C (C : zv_Cx zc_O) (G : zc_G) (μ0 : MEM) (nL : Nat) (ret : Option FieldType) (rk fr lo : Nat) (nm : String) (xt : List ExceptionTableEntry) : Prop := zc_K G (zv_s C) ∧ zv_n C = nL ∧ (zv_h C).sig.returnType = ret ∧ (zv_h C).locks = false ∧ zv_R C = zc_rm fr lo μ0 ∧ C.2.1 = zc_Rel G μ0 (zv_s C).heap ∧ C.2.2 = zc_F G μ0 rk (zv_b C) (zv_s C) ∧ (zv_c C).exceptionTable.toList = xt ∧ zc_L (zv_l C) ∧ (zv_h C).name = nm
theorem zc_intro {G : zc_G} {y : MethodName} {cc : ByteArray} {nL : Nat} {ret : Option FieldType} {rk fr lo : Nat} {μ : MEM} {av : List Value} {o : zc_O} {d : Option zc_O} {lv : List (Nat × Value)} (hd : d = some o) (hy : plainName y.cls = true) (hlen : (lg_sl av).length ≤ nL) (hlv : lv_args 0 av = lv)
    (body : ∀ C : zv_Cx zc_O, zv_Ok C cc y.cls → zc_C C G μ nL ret rk fr lo y.name [] → VV C d μ lv [] 0) : zc_Met G y cc nL ret rk fr lo μ av o := by
  intro l hL
  refine MetFree.of_bodyS (code := cc) (maxLocals := nL) (ret := ret) hy ?_ ?_
  · intro args s m h hn
    obtain ⟨meth, c, h1, h2, h3, h4, h5, h6, -, -⟩ := Cond.code_spec hn (atoms_spec (ws := ws_ y cc nL ret) h _ List.mem_cons_self)
    exact ⟨meth, c, h1, h2, h3, h4, h5, h6⟩
  · intro p e s m args below meth c s₁ B hml hP _
    have hh0 : s₁.heap = s.heap := by rw [B.state]; rfl
    obtain ⟨rfl, hH, h0, h1, h2, hK⟩ := hP
    have hts0 := atoms_spec (ws := ws_ y cc nL ret) B.pre
    have hts : ∀ w ∈ lw_all, w.before _ s = true := fun w h => hts0 w (List.mem_cons_of_mem _ h)
    have hown : s.vm.findClass y.cls = some m.cls := findClass_of_methodNamed B.named
    have hl := lv_entry av (n := nL) hlen
    rw [hlv] at hl
    have hxt : c.exceptionTable.toList = [] := by
      have := B.noHandlers (hts0 _ List.mem_cons_self)
      simpa [Array.isEmpty] using this
    have hnm : meth.name = y.name := (name_of_methodNamed B.named B.method).1
    have X := Stand.of_body B
    have key := body ((p, l, e, zc_rm fr lo μ, s, m, av.toArray, below, meth, c, nL), zc_Rel G μ s.heap, zc_F G μ rk below s) ⟨B.exec, B.bytes, hml, hown, hts⟩ ⟨hK, rfl, B.returns, B.notSynchronized, rfl, rfl, rfl, hxt, hL, hnm⟩ o hd s.heap [] 0 0 _ (zc_Rel.rf hH h0 h1 h2) hl
    rw [← lg_entry_eq] at key
    obtain ⟨t, a1, oc, b1, b2, b3, b4⟩ := key s₁ hh0 X
    exact ⟨t, oc, a1, b1, b2, b3, b4⟩
theorem zc_Wmono {p : Program} {l : Launch} {e : Env} {R : Room} {s : State} {m : MethodId} {args : Array Value} {below : List Frame} {meth : Method} {c : Code} {H : Heap} {locs : List Loc} {cells slots : Nat} {Q Q' : State → Prop} {g : JFrame} (h : ∀ t, Q t → Q' t) (k : W p l e R s m args below meth c H locs cells slots Q g) : W p l e R s m args below meth c H locs cells slots Q' g :=
  fun T hT X => (let ⟨t, a, b⟩ := k T hT X; ⟨t, a, h t b⟩)
section ZC
variable {C : zv_Cx zc_O} {G : zc_G} {cc : ByteArray} {own : String} {μ0 : MEM} {nL : Nat} {ret : Option FieldType} {rk fr lo : Nat} {nm : String} {xt : List ExceptionTableEntry} {d d1 d2 : Option zc_O} {μ : MEM} {lv lv' : List (Nat × Value)} {st : List Value} {pc : Nat} {x y : Int}
theorem zc_endF {H : Heap} {locs : List Loc} {cells slots : Nat} {rk : Nat} {o : zc_O} {s : State} {below : List Frame} {a : Array Value} {v : Option Value} (hR : zc_Rel G μ0 s.heap o.2.2 H locs cells slots) (ho : o.1 = 0) (hv : v = zc_rt G rk o.2.1) (hr : zc_rr rk o.2.1) :
    ∀ t, MQ below (fun _ _ oc t => oc = .returned v ∧ t.heap = H) a s cells slots (fun q => s.heap.size ≤ q ∨ μ0 ((q : Int) + 1) (-1) ≠ 0) t → zc_F G μ0 rk below s o t := by
  intro t ⟨oc, h1, h2, ⟨h3, h4⟩, L, ⟨_, h5, h6⟩, h7⟩
  subst h3
  refine ⟨_, h1, h2, Or.inl ⟨ho, by rw [hv], hr⟩, L, cells, slots, ⟨h5, h6⟩, ?_⟩
  obtain ⟨a1, a2, a3, a4, a5, a6, a7, a8, a9, a10⟩ := hR
  rw [h4]
  exact ⟨a1, a2, a3, a4, a5, fun l hl => h7 l hl, a7, a8, a9, a10⟩
theorem c_iret (h : zv_Ok C cc own) (hc : zc_C C G μ0 nL ret 1 fr lo nm xt) (hr : ret = some .int) (hx : inR x) (hd : decode cc pc = .ok (.ireturn, 1)) : VV C (some (0, x, μ)) μ lv [iv x] pc := by
  intro o ho H locs cells slots ls hR hl
  obtain ⟨hK, hn0, hr0, hlk, hRm, e1, e2, hxt, hL, hnm⟩ := hc
  rw [e1] at hR
  cases ho
  unfold zv_W
  rw [e2]
  exact zc_Wmono (zc_endF hR rfl rfl hx) (W.iret h.1 h.2.1 (by rw [hr0, hr]) (fun t ht _ => ⟨rfl, ht⟩) hR.2.2.2.2.2.1 hd hlk)
theorem c_zret (h : zv_Ok C cc own) (hc : zc_C C G μ0 nL ret 3 fr lo nm xt) (hr : ret = some .boolean) (hx : isB x) (hd : decode cc pc = .ok (.ireturn, 1)) : VV C (some (0, x, μ)) μ lv [iv x] pc := by
  intro o ho H locs cells slots ls hR hl
  obtain ⟨hK, hn0, hr0, hlk, hRm, e1, e2, hxt, hL, hnm⟩ := hc
  rw [e1] at hR
  cases ho
  unfold zv_W
  rw [e2]
  exact zc_Wmono (zc_endF hR rfl rfl hx) (W.zret h.1 h.2.1 (by rw [hr0, hr]) (zv_nB hx).1 (fun t ht _ => ⟨rfl, ht⟩) hR.2.2.2.2.2.1 hd hlk)
theorem c_jret (h : zv_Ok C cc own) (hc : zc_C C G μ0 nL ret 2 fr lo nm xt) (hr : ret = some .long) (hx : inL x) (hd : decode cc pc = .ok (.lreturn, 1)) : VV C (some (0, x, μ)) μ lv [jv x] pc := by
  intro o ho H locs cells slots ls hR hl
  obtain ⟨hK, hn0, hr0, hlk, hRm, e1, e2, hxt, hL, hnm⟩ := hc
  rw [e1] at hR
  cases ho
  unfold zv_W
  rw [e2]
  exact zc_Wmono (zc_endF hR rfl rfl hx) (W.lret h.1 h.2.1 (by rw [hr0, hr]) (fun t ht _ => ⟨rfl, ht⟩) hR.2.2.2.2.2.1 hd hlk)
theorem c_vret (h : zv_Ok C cc own) (hc : zc_C C G μ0 nL ret 0 fr lo nm xt) (hr : ret = none) (hd : decode cc pc = .ok (.return_, 1)) : VV C (some (0, 0, μ)) μ lv [] pc := by
  intro o ho H locs cells slots ls hR hl
  obtain ⟨hK, hn0, hr0, hlk, hRm, e1, e2, hxt, hL, hnm⟩ := hc
  rw [e1] at hR
  cases ho
  unfold zv_W
  rw [e2]
  exact zc_Wmono (zc_endF hR rfl rfl rfl) (W.vret h.1 h.2.1 (by rw [hr0, hr]) (fun t ht _ => ⟨rfl, ht⟩) hR.2.2.2.2.2.1 hd hlk)
theorem zv_nC {x : Int} (h : isC x) : narrow .char (iv x) = iv x := by
  have := (pk_charN (q := x.toNat) (by have := h.1; have := h.2; omega)).1
  have e : iv x = .int (nI x.toNat) := by
    unfold iv nI
    congr 1
    rw [show x = ((x.toNat : Nat) : Int) by have := h.1; omega]
    rfl
  rw [e]
  exact this
theorem c_cret (h : zv_Ok C cc own) (hc : zc_C C G μ0 nL ret 5 fr lo nm xt) (hr : ret = some .char) (hx : isC x) (hd : decode cc pc = .ok (.ireturn, 1)) : VV C (some (0, x, μ)) μ lv [iv x] pc := by
  intro o ho H locs cells slots ls hR hl
  obtain ⟨hK, hn0, hr0, hlk, hRm, e1, e2, hxt, hL, hnm⟩ := hc
  rw [e1] at hR
  cases ho
  unfold zv_W
  rw [e2]
  exact zc_Wmono (zc_endF hR rfl rfl hx) (W.zret h.1 h.2.1 (by rw [hr0, hr]) (zv_nC hx) (fun t ht _ => ⟨rfl, ht⟩) hR.2.2.2.2.2.1 hd hlk)
theorem c_bret (h : zv_Ok C cc own) (hc : zc_C C G μ0 nL ret 6 fr lo nm xt) (hr : ret = some .byte) (hx : isY x) (hd : decode cc pc = .ok (.ireturn, 1)) : VV C (some (0, x, μ)) μ lv [iv x] pc := by
  intro o ho H locs cells slots ls hR hl
  obtain ⟨hK, hn0, hr0, hlk, hRm, e1, e2, hxt, hL, hnm⟩ := hc
  rw [e1] at hR
  cases ho
  unfold zv_W
  rw [e2]
  exact zc_Wmono (zc_endF hR rfl rfl hx) (W.zret h.1 h.2.1 (by rw [hr0, hr]) (zv_nY hx) (fun t ht _ => ⟨rfl, ht⟩) hR.2.2.2.2.2.1 hd hlk)
theorem c_aret (h : zv_Ok C cc own) (hc : zc_C C G μ0 nL ret 4 fr lo nm xt) {rt : FieldType} (hr : ret = some rt) (hrt : (∃ n, rt = .object n) ∨ ∃ t, rt = .array t) (hd : decode cc pc = .ok (.areturn, 1)) : VV C (some (0, x, μ)) μ lv [zc_rv G x] pc := by
  intro o ho H locs cells slots ls hR hl
  obtain ⟨hK, hn0, hr0, hlk, hRm, e1, e2, hxt, hL, hnm⟩ := hc
  rw [e1] at hR
  cases ho
  unfold zv_W
  rw [e2]
  exact zc_Wmono (zc_endF hR rfl rfl trivial) (W.aret h.1 h.2.1 (by rw [hr0, hr]) hrt (zc_rv_or G x) (fun t ht _ => ⟨rfl, ht⟩) hR.2.2.2.2.2.1 hd hlk)
theorem c_athrow (h : zv_Ok C cc own) (hc : zc_C C G μ0 nL ret rk fr lo nm xt) (hx : ∀ z ∈ xt, covers z pc = false) (hd : decode cc pc = .ok (.athrow, 1)) : VV C (ck (0 < x) (some (1, x, μ))) μ lv (zc_rv G x :: st) pc := by
  refine r_ck (fun hx0 => ?_)
  intro o ho H locs cells slots ls hR hl
  obtain ⟨hK, hn0, hr0, hlk, hRm, e1, e2, hxt, hL, hnm⟩ := hc
  rw [e1] at hR
  cases ho
  unfold zv_W
  rw [e2]
  intro T hT X
  obtain ⟨a1, a2, a3, a4, a5⟩ := X.athrowLeaves h.1 (g := F0 (zv_m C) pc ls (zc_rv G x :: st)) rfl rfl rfl (by rw [hxt]; exact hx) (a := (x - 1).toNat) (rest := st) (by rw [zc_rv_p G hx0]) (by rw [h.2.1]; exact hd) hlk
  refine ⟨_, a1, _, a2, a3, Or.inr ⟨by simp, hx0, rfl⟩, locs, cells, slots, ⟨a4, a5⟩, ?_⟩
  rw [show (T.setFrames (.throwing (x - 1).toNat :: zv_b C)).heap = H from hT]
  exact hR
end ZC
