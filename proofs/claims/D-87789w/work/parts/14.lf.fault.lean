set_option maxRecDepth 100000
/-! A FAULT IS MADE -/
theorem zc_H_updF {G : zc_G} {μ μ' : MEM} {H H' : Heap} (h : zc_H G μ H) {z : Int} (hz : μ z (-1) = 22) (hz' : μ' z (-1) = 7) (hsz : H'.size = H.size) (ho : ∀ q : Nat, q ≠ (z - 1).toNat → H'[q]? = H[q]?)
    (hμ : ∀ y j, y ≠ z → μ' y j = μ y j) (hrow : zc_row G μ' H' z) : zc_H G μ' H' := by
  have hzp := zc_H_pos h (t := 22) hz (by decide) (by decide)
  obtain ⟨hg, h1, h2, h3, h4⟩ := h
  refine ⟨hg, fun x hx => ?_, fun x => ?_, by omega, fun q hq => by rw [ho q (by omega)]; exact h4 q hq⟩
  · by_cases e : x = z
    · left; omega
    · rw [hμ x _ e] at hx ⊢
      rw [hsz]
      exact h1 x hx
  · by_cases e : x = z
    · rw [e]; exact hrow
    · refine zc_row_kept (h2 x) (fun j => hμ x j e) (ho _ (zc_ad_ne (μ := μ) (H := H) hg hzp.1 e)) (fun y hy => ?_) (fun _ y hy _ => ?_)
      · by_cases ey : y = z
        · rw [ey, hz']; decide
        · rw [hμ y _ ey]; exact hy
      have hne : (y : Int) + 1 ≠ z := by
        intro q
        rw [q, hz] at hy
        omega
      exact ⟨ho y (by omega), hμ _ _ hne, hμ _ _ hne⟩
theorem zc_Rel.updF {G : zc_G} {μ0 μ μ' : MEM} {H0 H H' : Heap} {locs L : List Loc} {c s : Nat} (hR : zc_Rel G μ0 H0 μ H locs c s) {z : Int} (hz : μ z (-1) = 22) (hz' : μ' z (-1) = 7) (hsz : H'.size = H.size) (ho : ∀ q : Nat, q ≠ (z - 1).toNat → H'[q]? = H[q]?)
    (hμ : ∀ y j, y ≠ z → μ' y j = μ y j) (hrow : zc_row G μ' H' z) (hL : ∀ l ∈ L, l.base = (z - 1).toNat) : zc_Rel G μ0 H0 μ' H' (locs ++ L) c s := by
  obtain ⟨a1, a2, a3, a4, a5, a6, a7, a8, a9, a10⟩ := hR
  have hzp := zc_H_pos a1 (t := 22) hz (by decide) (by decide)
  have hz0 : (0 : Int) ≠ z := by omega
  have htg : ∀ y, μ' y (-1) = 0 ↔ μ y (-1) = 0 := fun y => by
    by_cases e : y = z
    · rw [e, hz, hz']; decide
    · rw [hμ y _ e]
  refine ⟨zc_H_updF a1 hz hz' hsz ho hμ hrow, by omega, by rw [hμ _ _ hz0, hsz]; exact a3, fun q hq => (htg _).trans (a4 q hq), fun q hq hq0 => ?_, fun l hl => ?_, by rw [hμ _ _ hz0]; exact a7, by rw [hμ _ _ hz0]; exact a8, by rw [hμ _ _ hz0]; exact a9, by rw [hμ _ _ hz0]; exact a10⟩
  · rw [ho q ?_]
    · exact a5 q hq hq0
    · intro e
      have e2 : (q : Int) + 1 = z := by omega
      have := (a4 q hq).mpr hq0
      rw [e2, hz] at this
      omega
  · rcases List.mem_append.mp hl with w | w
    · exact a6 l w
    · rw [hL l w]
      by_cases hlt : (z - 1).toNat < H0.size
      · right
        intro e
        have := (a4 _ hlt).mpr e
        rw [show (((z - 1).toNat : Nat) : Int) + 1 = z by omega, hz] at this
        omega
      · exact Or.inl (Nat.not_lt.mp hlt)
theorem zc_introH {G : zc_G} {y : MethodName} {cc : ByteArray} {nL : Nat} {ret : Option FieldType} {rk fr lo : Nat} {μ : MEM} {av : List Value} {o : zc_O} {d : Option zc_O} {lv : List (Nat × Value)} (hd : d = some o) (hy : plainName y.cls = true) (hlen : (lg_sl av).length ≤ nL) (hlv : lv_args 0 av = lv)
    (body : ∀ C : zv_Cx zc_O, zv_Ok C cc y.cls → zc_C C G μ nL ret rk fr lo y.name [] → zc_H G μ (zv_s C).heap → VV C d μ lv [] 0) : zc_Met G y cc nL ret rk fr lo μ av o := by
  intro l hL
  refine MetFree.of_bodyS (code := cc) (maxLocals := nL) (ret := ret) hy ?_ ?_
  · intro args s m h hn
    obtain ⟨meth, c, h1, h2, h3, h4, h5, h6, -, -⟩ := Cond.code_spec hn (atoms_spec (ws := ws_ y cc nL ret) h _ List.mem_cons_self)
    exact ⟨meth, c, h1, h2, h3, h4, h5, h6⟩
  · intro p e s m args below meth c s₁ B hml hP _
    have hh0 : s₁.heap = s.heap := by rw [B.state]; rfl
    obtain ⟨rfl, hH, h0, h1, h2, hK⟩ := hP
    have hts0 := atoms_spec (ws := ws_ y cc nL ret) B.pre
    have hts : ∀ w ∈ lw_all, w.before _ s = true := fun w h => hts0 w (List.mem_cons_of_mem _ h)
    have hown : s.vm.findClass y.cls = some m.cls := findClass_of_methodNamed B.named
    have hl := lv_entry av (n := nL) hlen
    rw [hlv] at hl
    have hxt : c.exceptionTable.toList = [] := by
      have := B.noHandlers (hts0 _ List.mem_cons_self)
      simpa [Array.isEmpty] using this
    have hnm : meth.name = y.name := (name_of_methodNamed B.named B.method).1
    have X := Stand.of_body B
    have key := body ((p, l, e, zc_rm fr lo μ, s, m, av.toArray, below, meth, c, nL), zc_Rel G μ s.heap, zc_F G μ rk below s) ⟨B.exec, B.bytes, hml, hown, hts⟩ ⟨hK, rfl, B.returns, B.notSynchronized, rfl, rfl, rfl, hxt, hL, hnm⟩ hH o hd s.heap [] 0 0 _ (zc_Rel.rf hH h0 h1 h2) hl
    rw [← lg_entry_eq] at key
    obtain ⟨t, a1, oc, b1, b2, b3, b4⟩ := key s₁ hh0 X
    exact ⟨t, oc, a1, b1, b2, b3, b4⟩
section ZC
variable {C : zv_Cx zc_O} {G : zc_G} {cc : ByteArray} {own : String} {μ0 : MEM} {nL : Nat} {ret : Option FieldType} {rk fr lo : Nat} {nm : String} {xt : List ExceptionTableEntry} {d d1 d2 : Option zc_O} {μ : MEM} {lv lv' : List (Nat × Value)} {st : List Value} {pc : Nat} {x : Int}
theorem zc_lyW {U : State} {A : Array Value} (h : zc_ly G U) (hh : ∀ q : Nat, q < (zc_h0 G).size → U.heap[q]? = (zc_h0 G)[q]?) {n ds : String} (hm : (n, ds) ∈ [("UNASSIGNED_STACK", "[Ljava/lang/StackTraceElement;"), ("SUPPRESSED_SENTINEL", "Ljava/util/List;")]) : (Cond.laysStatic "java/lang/Throwable" n ds).before A U = true := by
  obtain ⟨c, k, i, f, a, cell, h1, h2, h3, h4, h5, h6, h7, h8, h9, h10⟩ := h _ hm
  have h5' : U.heap[a]? = some cell := by rw [hh a (Array.getElem?_eq_some_iff.mp h5).1]; exact h5
  simp only at h2
  simp [Cond.before, Cond.holds, Cond.value, h1, h2, h4, h5', h3, h6, h7, h8, h9]
theorem zc_thr (h : zv_Ok C cc own) (hK : zc_K G (zv_s C)) (hh : ∀ q : Nat, q < (zc_h0 G).size → (zv_s C).heap[q]? = (zc_h0 G)[q]?) : ∀ w ∈ Bundle.throwableAtoms, w.before (zv_a C) (zv_s C) = true := by
  have hwd := h.2.2.2.2
  intro w hw
  simp only [Bundle.throwableAtoms, List.mem_cons, List.not_mem_nil, or_false] at hw
  rcases hw with rfl | rfl | rfl | rfl | rfl | rfl | rfl | rfl | rfl | rfl | rfl | rfl | rfl | rfl | rfl | rfl | rfl | rfl | rfl | rfl | rfl | rfl | rfl | rfl
  · exact hwd _ q150
  · exact hwd _ q598
  · exact hwd _ q607
  · exact hwd _ q609
  · exact hwd _ q612
  · exact hwd _ q614
  · exact hwd _ q599
  · exact hwd _ q600
  · exact hwd _ q173
  · exact hwd _ q174
  · exact hwd _ q601
  · exact hwd _ q606
  · exact hwd _ q610
  · exact hwd _ q630
  · exact hwd _ q588
  · exact hwd _ q631
  · exact hwd _ q590
  · exact hwd _ q632
  · exact hwd _ q592
  · exact hwd _ q602
  · exact zc_lyW hK.2.2.1 hh (by simp [Bundle.steD])
  · exact hwd _ q604
  · exact zc_lyW hK.2.2.1 hh (by simp [Bundle.listD])
  · exact hwd _ q594
theorem zc_chain (h : zv_Ok C cc own) (hK : zc_K G (zv_s C)) : ∀ w ∈ Bundle.chain0Atoms "java/lang/RuntimeException" ["java/lang/Exception"], w.before (zv_a C) (zv_s C) = true := by
  have hwd := h.2.2.2.2
  obtain ⟨h1, h1a, h1b, h2, h3, h4, h5, h6, h7, h8, h9, h10, h11⟩ := hK.2.2.2.2.2.2.2.2.2
  intro w hw
  simp only [Bundle.chain0Atoms, Bundle.passAtoms, List.mem_append, List.mem_cons, List.not_mem_nil, or_false] at hw
  rcases hw with (rfl | rfl | rfl | rfl | rfl) | (rfl | rfl | rfl | rfl | rfl)
  · exact hwd _ q619
  · exact hwd _ q620
  · exact hwd _ q621
  · exact hwd _ q622
  · exact (h11 ⟨"java/lang/Exception", "<init>", "()V"⟩ (by decide)).use rfl
  · exact hwd _ q622
  · exact hwd _ q623
  · exact hwd _ q624
  · exact hwd _ q599
  · exact (h11 ⟨"java/lang/Throwable", "<init>", "()V"⟩ (by decide)).use rfl
set_option maxHeartbeats 1000000
theorem c_rtinit (h : zv_Ok C cc own) (hc : zc_C C G μ0 nL ret rk fr lo nm xt) (hh0 : zc_H G μ0 (zv_s C).heap) {index : Nat} (hx : μ x (-1) = 22 ∧ μ x 6 = 0 ∧ μ x 7 = 0) (ql : Cond.methodLink own index ⟨"java/lang/RuntimeException", "<init>", "()V"⟩ ∈ lw_all) (hfr : 5 ≤ fr) {w : Nat} (hst : (st.map fun v => v.category).sum = w) (hlo : w + 67 ≤ lo) (hd : decode cc pc = .ok (.invokespecial index, 3)) {kd' : MEM → Option zc_O}
    (kk : ∀ μ', μ' = mup μ x (-1) 7 → VV C (kd' μ') μ' lv st (pc + 3)) : VV C (nu (mup μ x (-1) 7) kd') μ lv (zc_rv G x :: st) pc := by
  intro o ho H locs cells slots ls hR hl
  have hR0 := hR
  obtain ⟨hK, hn0, hr0, hlk, hRm, e1, e2, hxt, hL, hnm⟩ := hc
  rw [e1] at hR0
  have hxp := zc_H_pos hR0.1 (t := 22) hx.1 (by decide) (by decide)
  have hx1 : 0 < x := by omega
  obtain ⟨cell, c1, c2, c3, c4, c5, -, c7⟩ : zc_fr G H x := ((hR0.1.2.2.1 x 22 hx.1).2.2.2.2 (Or.inr rfl)).elim (fun z => absurd z.1 (by decide)) (fun z => z.2)
  rw [zc_ad_p hx1] at c1
  intro T hT X
  have hwd := h.2.2.2.2
  have hh : ∀ q : Nat, q < (zc_h0 G).size → (zv_s C).heap[q]? = (zc_h0 G)[q]? := hh0.2.2.2.2
  have howns : (zv_e C).platform.frameOwnsMonitors = true := by rw [X.admits.platform]
  have hfin : (zv_e C).platform.finalization = false := by rw [X.admits.platform]
  have hpl : (zv_e C).platform.magicAccessors = ({} : Platform).magicAccessors := by rw [X.admits.platform]
  have htr : (zv_e C).platform.stackTraces = false := by rw [X.admits.platform]; exact hL
  obtain ⟨B, Z, L, LZ, Y⟩ := ThrowableC.of_atoms (args := zv_a C) howns hfin hpl (zc_thr h hK hh)
  obtain ⟨P1, Ps, hlen, L1, hLs, hP1m, hlink1, hlink⟩ := Bundle.chain0 (args := zv_a C) hpl Y.init0 ["java/lang/Exception"] "java/lang/RuntimeException" (by decide) (by intro n hn; simp only [List.mem_singleton] at hn; rw [hn]; decide) (zc_chain h hK)
  have hN : 0 < zc_N 7 := by decide
  obtain ⟨hS, hfc, kC, hkC, hkind⟩ := hK.1 7 hN
  have hfc : (zv_s C).vm.findClass "TreePress$Fault" = some (zc_cid G 7) := hfc
  have hsl : ∀ k, k < 8 → SlotIs (zv_s C) (TX7 k).1 (TX7 k).2.1 (TX7 k).2.2.1 (zc_sl G 7 k) := hS
  have hKK : va_K ((fun _ => zc_cid G 7), (fun _ => zc_sl G 7)) [(zc_R 7, zc_T 7, zc_N 7)] [] (zv_s C) := ⟨fun c q hq => by
    match c, hq with
    | 0, hq => cases hq; exact hK.1 7 hN
    | c + 1, hq => simp at hq, fun k q hq => by simp at hq⟩
  have hap : ∀ a b, a < 8 → b < 8 → a ≠ b → zc_sl G 7 a ≠ zc_sl G 7 b := va_apart (own := own) (ci := 0) hwd (zc_in hN) (zc_ty 7) (zc_tyok hN) (zc_nm hN) hKK rfl
  have sC : B.fCause.slot = zc_sl G 7 0 := by
    obtain ⟨cf, kf, fi, fd, w1, w2⟩ := hsl 0 (by decide)
    have := Option.some.inj (Y.cause.symm.trans w1)
    simp only [Prod.mk.injEq] at this
    rw [this.2.2.2]; exact w2
  have sS : B.fStack.slot = zc_sl G 7 1 := by
    obtain ⟨cf, kf, fi, fd, w1, w2⟩ := hsl 1 (by decide)
    have := Option.some.inj (Y.stack.symm.trans w1)
    simp only [Prod.mk.injEq] at this
    rw [this.2.2.2]; exact w2
  have sP : B.fSupp.slot = zc_sl G 7 2 := by
    obtain ⟨cf, kf, fi, fd, w1, w2⟩ := hsl 2 (by decide)
    have := Option.some.inj (Y.supp.symm.trans w1)
    simp only [Prod.mk.injEq] at this
    rw [this.2.2.2]; exact w2
  obtain ⟨ci198, i198, fB, hk198, hg198, ha198, hsB, -, hnB, htB, hffB⟩ := Cond.ownField (args := zv_a C) (t := .object "java/lang/Object") Y.found L.cls (by decide +kernel) (hwd _ q597) (hwd _ q596) (zv_e C).platform hpl
  have sB : fB.slot = zc_sl G 7 4 := by
    obtain ⟨cf, kf, fi, fd, w1, w2⟩ := hsl 4 (by decide)
    have := Option.some.inj (hffB.symm.trans w1)
    simp only [Prod.mk.injEq] at this
    rw [this.2.2.2]; exact w2
  -- the statics
  obtain ⟨cu, ku, iu, fu, au, cellS, u1, u2, u3, u4, u5, u6, u7, u8, u9, ⟨u0, u10⟩⟩ := hK.2.2.1 ("UNASSIGNED_STACK", "[Ljava/lang/StackTraceElement;") (by simp)
  obtain ⟨cv, kv, iw, fv, av, cellV, v1, v2, v3, v4, v5, v6, v7, v8, v9, ⟨sen, v10⟩⟩ := hK.2.2.1 ("SUPPRESSED_SENTINEL", "Ljava/util/List;") (by simp)
  have eu := Option.some.inj (Y.unassigned.symm.trans u2)
  have ev := Option.some.inj (Y.sentinel.symm.trans v2)
  simp only [Prod.mk.injEq] at eu ev
  have eau : B.aS = au := by
    have := L.statics
    rw [eu.2.1, u4] at this
    exact (Option.some.inj this).symm
  have eav : B.aS = av := by
    have := L.statics
    rw [ev.2.1, v4] at this
    exact (Option.some.inj this).symm
  have hauL : au < (zc_h0 G).size := (Array.getElem?_eq_some_iff.mp u5).1
  have hcS : T.heap[B.aS]? = some cellS := by rw [hT, eau, hR0.1.2.2.2.2 _ hauL]; exact u5
  have hVS : cellV = cellS := by
    have : au = av := eau.symm.trans eav
    rw [← this, u5] at v5
    exact (Option.some.inj v5).symm
  have hneS : B.aS ≠ (x - 1).toNat := by
    rw [eau]
    have h9 : (zc_h0 G).size ≤ (x - 1).toNat := by omega
    exact Nat.ne_of_lt (Nat.lt_of_lt_of_le hauL h9)
  have hknownS : cellS.vm ≠ .unknown := fun e => by rw [e] at u6; cases u6
  have hsel0 : selectMethod (zv_e C).platform (zv_s C).vm cell.cls B.fill0 = .method B.fill0 := by
    obtain ⟨c2', r2, m2, q1, q2, q3, q4, -⟩ := Cond.selects_spec (hwd _ q585)
    cases Option.some.inj (q1.symm.trans hfc)
    cases Option.some.inj (q2.symm.trans (State.methodFound?_of_named Y.fill0 (by decide)))
    cases Option.some.inj (q3.symm.trans Y.fill0)
    rw [Launch.admits_selectMethod X.admits, c2]; exact q4
  have hselF : selectMethod (zv_e C).platform (zv_s C).vm cell.cls B.fill = .method B.fill := by
    obtain ⟨c2', r2, m2, q1, q2, q3, q4, -⟩ := Cond.selects_spec (hwd _ q586)
    cases Option.some.inj (q1.symm.trans hfc)
    cases Option.some.inj (q2.symm.trans (State.methodFound?_of_named Y.fill (by decide)))
    cases Option.some.inj (q3.symm.trans Y.fill)
    rw [Launch.admits_selectMethod X.admits, c2]; exact q4
  obtain ⟨tyC, -⟩ := Cond.laysAt (args := zv_a C) hfc hkC Y.cause (hwd _ q587)
  obtain ⟨tyS, -⟩ := Cond.laysAt (args := zv_a C) hfc hkC Y.stack (hwd _ q589)
  obtain ⟨tyP, -⟩ := Cond.laysAt (args := zv_a C) hfc hkC Y.supp (hwd _ q591)
  have hsz9 : ∀ k, k < 8 → zc_sl G 7 k < cell.slots.size := fun k hk => (Array.getElem?_eq_some_iff.mp (c7 k hk)).1
  have htC : Takes (zv_s C) cell B.fCause (.ref (x - 1).toNat) := ⟨by rw [sC]; exact hsz9 0 (by decide), by rw [c2, c3]; exact (Takes.of_laid hkC hkind tyC (by rw [Y.causeType]; rfl)).2⟩
  have htS : Takes (zv_s C) cell B.fStack u0.v := ⟨by rw [sS]; exact hsz9 1 (by decide), by rw [c2, c3]; exact (Takes.of_laid hkC hkind tyS (by rw [Y.stackType]; exact fits_refV_array _ u0)).2⟩
  have htP : Takes (zv_s C) cell B.fSupp sen.v := ⟨by rw [sP]; exact hsz9 2 (by decide), by rw [c2, c3]; exact (Takes.of_laid hkC hkind tyP (by rw [Y.suppType]; exact fits_refV_object _ sen)).2⟩
  have p1 := t_set c7 hap (k := 0) (by decide) (.ref (x - 1).toNat)
  have p2 := t_set p1 hap (k := 1) (by decide) u0.v
  have p3 := t_set p2 hap (k := 2) (by decide) sen.v
  have p4 := t_set p3 hap (k := 1) (by decide) u0.v
  rw [← sC, ← sS, ← sP] at p3 p4
  obtain ⟨tm, methC, cdC, kC1, vm₁, hnC, -, -, -, -, -, -, -, hW₁, st1⟩ := Steps.initCold (tb := (zv_p C).tables) (e := zv_e C) (below := zv_b C) (s := zv_s C) (U := T) X.here h.1 X.warmed hpl h.2.2.2.1 (t := ⟨"java/lang/RuntimeException", "<init>", "()V"⟩) rfl rfl (by decide)
    (hwd _ ql) (hwd _ q619) (hwd _ q620) (f := F0 (zv_m C) pc ls (zc_rv G x :: st)) rfl (a := (x - 1).toNat) (rest := st) (by rw [zc_rv_p G hx1]) (by rw [h.2.1]; exact hd)
  cases Option.some.inj (hnC.symm.trans hP1m)
  have X₁ := X.noted hW₁
  have hskip : SkipFacts B (zv_e C).platform (zv_s C) (fun u => u) u0 ((preparedCellV B.toThrowableT cell (x - 1).toNat u0 sen).withEntry (T.setVm vm₁).cur) :=
    ⟨{ ci198 := ci198, i198 := i198, fBack := fB }, ⟨hk198, hg198, ha198, hsB⟩, by
      have := p3 4 (by decide)
      rw [← sB] at this
      exact this, fun _ _ => rfl⟩
  obtain ⟨vm₂, X₂, st2⟩ := X₁.ctorPlainOffV h.1 (g := { F0 (zv_m C) pc ls (zc_rv G x :: st) with stack := st }) rfl (by rw [h.2.2.1]; exact hl.1) B L Z LZ (P1 :: Ps)
    (fun P hP => by rcases List.mem_cons.mp hP with rfl | hP; exact L1; exact hLs P hP) ⟨hlink1, hlink⟩ (u0 := u0) (sen := sen) (self := (x - 1).toNat) (cell := cell) (cellS := cellS)
    (show T.heap[(x - 1).toNat]? = some cell by rw [hT]; exact c1) (fun k => by rw [c3]; simp) (by rw [c3]; simp) c4 c5 hsel0 hselF hcS hneS hknownS (by rw [eu.2.2.2]; exact u10) (by rw [ev.2.2.2, ← hVS]; exact v10)
    htC htS htP Y.objLocals hskip htr [] (ig := .invokespecial index) (len := 3) (by rw [h.2.1]; exact hd)
    (by rw [hRm]; simp only [List.length_cons, hlen]; show 2 + 2 < fr; simp; omega) (by rw [hRm]; simp only [List.length_cons, hlen]; show 2 * 0 + (st.map fun v => v.category).sum + _ ≤ lo; simp; omega)
  have hlt : (x - 1).toNat < T.heap.size := by rw [hT]; exact (Array.getElem?_eq_some_iff.mp c1).1
  obtain ⟨TF, hTF⟩ : ∃ TF : State, TF = (((T.setVm vm₁).setVm vm₂).setCell (x - 1).toNat ((preparedCellV B.toThrowableT cell (x - 1).toNat u0 sen).setSlot B.fStack.slot u0.v)) := ⟨_, rfl⟩
  rw [← hTF] at X₂ st2
  have hU : TF.heap[(x - 1).toNat]? = some ((preparedCellV B.toThrowableT cell (x - 1).toNat u0 sen).setSlot B.fStack.slot u0.v) := by rw [hTF]; exact heapAt_setCell_self _ hlt
  have hUs : TF.heap.size = H.size := by
    rw [hTF, ← hT]
    show (T.heap.setIfInBounds _ _).size = _
    simp
  have hUo : ∀ q, q ≠ (x - 1).toNat → TF.heap[q]? = H[q]? := fun q hq => by
    rw [hTF, ← hT]
    show (T.heap.setIfInBounds _ _)[q]? = _
    rw [Array.getElem?_setIfInBounds_ne (Ne.symm hq)]
  have key := kk _ rfl o ho TF.heap _ cells slots ls (by
    rw [e1]
    refine zc_Rel.updF hR0 hx.1 (mup_s _ _ _ _) hUs hUo (fun y j hy => mup_n _ _ (fun q => hy q.1)) ?_ (L := [⟨(x - 1).toNat, B.fCause.slot⟩, ⟨(x - 1).toNat, B.fStack.slot⟩, ⟨(x - 1).toNat, B.fSupp.slot⟩, ⟨(x - 1).toNat, B.fStack.slot⟩]) (fun l hl => by
      simp only [List.mem_cons, List.not_mem_nil, or_false] at hl
      rcases hl with rfl | rfl | rfl | rfl <;> rfl)
    intro t ht
    rw [mup_s] at ht
    have e5 : 7 = t := by omega
    subst e5
    refine ⟨fun _ => ⟨updV (updV (updV (updV (fun k => defaultValue (zc_ty 7 k)) 0 (Value.ref (x - 1).toNat)) 1 u0.v) 2 sen.v) 1 u0.v, ⟨(preparedCellV B.toThrowableT cell (x - 1).toNat u0 sen).setSlot B.fStack.slot u0.v, by rw [zc_ad_p hx1]; exact hU, c2, c3, p4⟩, fun k hk => ?_⟩, fun q => absurd q (by decide), fun q => absurd q (by decide), fun q => absurd q (by decide), fun q => absurd q (by decide)⟩
    have hk8 : k < 8 := hk
    rcases (show k = 0 ∨ k = 1 ∨ k = 2 ∨ k = 3 ∨ k = 4 ∨ k = 5 ∨ k = 6 ∨ k = 7 by omega) with rfl | rfl | rfl | rfl | rfl | rfl | rfl | rfl
    · trivial
    · trivial
    · trivial
    · trivial
    · trivial
    · trivial
    · show _ = iv (mup μ x (-1) 7 x 6) ∧ inR (mup μ x (-1) 7 x 6)
      rw [mup_n _ _ (by omega), hx.2.1]
      exact ⟨rfl, by decide⟩
    · show _ = iv (mup μ x (-1) 7 x 7) ∧ inR (mup μ x (-1) 7 x 7)
      rw [mup_n _ _ (by omega), hx.2.2]
      exact ⟨rfl, by decide⟩) hl
  obtain ⟨t3, a1, b1⟩ := key TF rfl X₂
  exact ⟨t3, st1 _ (fun acts => by rw [doInvoke_state]; exact st2 _ a1), b1⟩
end ZC
theorem dX7_init_0 : decode cX7_init 0 = .ok (.aload_n 0, 1) := by decide +kernel
theorem dX7_init_1 : decode cX7_init 1 = .ok (.invokespecial 1, 3) := by decide +kernel
theorem dX7_init_4 : decode cX7_init 4 = .ok (.aload_n 0, 1) := by decide +kernel
theorem dX7_init_5 : decode cX7_init 5 = .ok (.iload_n 1, 1) := by decide +kernel
theorem dX7_init_6 : decode cX7_init 6 = .ok (.putfield 7, 3) := by decide +kernel
theorem dX7_init_9 : decode cX7_init 9 = .ok (.aload_n 0, 1) := by decide +kernel
theorem dX7_init_10 : decode cX7_init 10 = .ok (.iload_n 2, 1) := by decide +kernel
theorem dX7_init_11 : decode cX7_init 11 = .ok (.putfield 13, 3) := by decide +kernel
theorem dX7_init_14 : decode cX7_init 14 = .ok (.return_, 1) := by decide +kernel
theorem w_finit {G : zc_G} (μ : MEM) (x a b : Int) (ha : inR a) (hb : inR b) (o : zc_O) (hd : b_finit μ x a b = some o) : zc_Met G yX7_init cX7_init 3 none 0 6 120 μ [zc_rv G x, iv a, iv b] o := by
  obtain ⟨hx, hd⟩ := ck_i hd
  have hd2 : nu (mup μ x (-1) 7) (fun μ1 => nu (mup μ1 x 6 a) (fun μ2 => nu (mup μ2 x 7 b) (fun μ3 => some (0, 0, μ3)))) = some o := hd
  refine zc_introH hd2 (by decide) (by simp [lg_sl, zc_rv_cat, iv_cat, jv_cat]) (lv := [(0, zc_rv G x), (1, iv a), (2, iv b)]) (by simp [lv_args, zc_rv_cat, iv_cat, jv_cat]) (fun C h hc hh0 => ?_)
  have h : zv_Ok C cX7_init "TreePress$Fault" := h
  have hc : zc_C C G μ 3 (Option.none : Option FieldType) 0 6 120 "<init>" [] := hc
  refine c_aload_n (x := x) h 0 dX7_init_0 rfl rfl ?_
  refine c_rtinit h hc hh0 hx q618 (by omega) zc_s0 (by omega) dX7_init_1 (fun μ1 e1 => ?_)
  have t1 : zt [7] (μ1 x (-1)) = true := by rw [e1, mup_s]; decide
  refine c_aload_n (x := x) h 0 dX7_init_4 rfl rfl ?_
  refine r_iload_n h 1 dX7_init_5 rfl rfl ?_
  refine c_putI (x := x) (y := a) h hc [7] 6 true (zc_lk1 h q625) t1 (by decide) (Or.inr ⟨rfl, rfl, rfl⟩) ha dX7_init_6 (fun μ2 e2 => ?_)
  have t2 : zt [7] (μ2 x (-1)) = true := by rw [e2, mup_n _ _ (by omega)]; exact t1
  refine c_aload_n (x := x) h 0 dX7_init_9 rfl rfl ?_
  refine r_iload_n h 2 dX7_init_10 rfl rfl ?_
  refine c_putI (x := x) (y := b) h hc [7] 7 true (zc_lk1 h q627) t2 (by decide) (Or.inr ⟨rfl, rfl, rfl⟩) hb dX7_init_11 (fun μ3 e3 => ?_)
  exact c_vret h hc rfl dX7_init_14
