set_option maxRecDepth 100000
/-! THE CLASS SIDE: methods that catch -/
/-- a call whose Fault is caught -/
def bcc (d : Option zc_O) (k kc : Int → MEM → Option zc_O) : Option zc_O := d.bind (fun o => if o.1 = 0 then k o.2.1 o.2.2 else kc o.2.1 o.2.2)
/-- the contract of a method that has handlers -/
def zc_MetX (G : zc_G) (y : MethodName) (cc : ByteArray) (nL : Nat) (ret : Option FieldType) (hh : List (Nat × Nat × Nat × Nat)) (rk fr lo : Nat) (μ : MEM) (av : List Value) (o : zc_O) : Prop := ∀ l : Launch, zc_L l → MetFree l y (headSpec (wsW_ y cc nL ret hh) (zc_rm fr lo μ)) (zc_Pc G μ av) (fun _ _ _ _ _ => True) (zc_Q G rk μ o)
abbrev zc_zz (z : ExceptionTableEntry) (a b c d : Nat) : Prop := z.startPc = a ∧ z.endPc = b ∧ z.handlerPc = c ∧ z.catchType = d
theorem zc_cvN {z : ExceptionTableEntry} {a b c d pc : Nat} (h : zc_zz z a b c d) (hp : pc < a ∨ b ≤ pc) : ∀ y ∈ [z], covers y pc = false := by
  intro y hy
  cases List.mem_singleton.mp hy
  obtain ⟨h1, h2, -, -⟩ := h
  unfold covers
  simp [h1, h2]
  omega
theorem zc_cvY {z : ExceptionTableEntry} {a b c d pc : Nat} (h : zc_zz z a b c d) (hp : a ≤ pc ∧ pc < b) : covers z pc = true := by
  obtain ⟨h1, h2, -, -⟩ := h
  unfold covers
  simp [h1, h2]
  omega
theorem zc_introX {G : zc_G} {y : MethodName} {cc : ByteArray} {nL : Nat} {ret : Option FieldType} {a b c0 d0 : Nat} {rk fr lo : Nat} {μ : MEM} {av : List Value} {o : zc_O} {d : Option zc_O} {lv : List (Nat × Value)} (hd : d = some o) (hy : plainName y.cls = true) (hlen : (lg_sl av).length ≤ nL) (hlv : lv_args 0 av = lv)
    (body : ∀ (C : zv_Cx zc_O) (z : ExceptionTableEntry), zc_zz z a b c0 d0 → zv_Ok C cc y.cls → zc_C C G μ nL ret rk fr lo y.name [z] → VV C d μ lv [] 0) : zc_MetX G y cc nL ret [(a, b, c0, d0)] rk fr lo μ av o := by
  intro l hL
  refine MetFree.of_bodyS (code := cc) (maxLocals := nL) (ret := ret) hy ?_ ?_
  · intro args s m h hn
    obtain ⟨m', meth, c, h0, h1, h2, h3, h4, -, h5, h6, -⟩ := Cond.codeWith_spec (atoms_spec (ws := wsW_ y cc nL ret [(a, b, c0, d0)]) h _ List.mem_cons_self)
    cases Option.some.inj (h0.symm.trans hn)
    exact ⟨meth, c, h1, h2, h3, h4, h5, h6⟩
  · intro p e s m args below meth c s₁ B hml hP _
    have hh0 : s₁.heap = s.heap := by rw [B.state]; rfl
    obtain ⟨rfl, hH, h0, h1, h2, hK⟩ := hP
    have hts0 := atoms_spec (ws := wsW_ y cc nL ret [(a, b, c0, d0)]) B.pre
    have hts : ∀ w ∈ lw_all, w.before _ s = true := fun w h => hts0 w (List.mem_cons_of_mem _ h)
    have hown : s.vm.findClass y.cls = some m.cls := findClass_of_methodNamed B.named
    have hl := lv_entry av (n := nL) hlen
    rw [hlv] at hl
    obtain ⟨m', meth', c', g0, g1, g2, -, -, g5, -, -, -⟩ := Cond.codeWith_spec (hts0 _ List.mem_cons_self)
    cases Option.some.inj (g0.symm.trans B.named)
    cases Option.some.inj (g1.symm.trans B.method)
    have X := Stand.of_body B
    have gc : meth.code = some c := X.code
    cases Option.some.inj (g2.symm.trans gc)
    obtain ⟨z, hxt, hz⟩ : ∃ z, c.exceptionTable.toList = [z] ∧ zc_zz z a b c0 d0 := by
      cases e : c.exceptionTable.toList with
      | nil => rw [e] at g5; cases g5
      | cons z r =>
        rw [e] at g5
        cases r with
        | cons z2 r2 => simp at g5
        | nil =>
          simp only [List.map_cons, List.map_nil, List.cons.injEq, Prod.mk.injEq, and_true] at g5
          exact ⟨z, rfl, g5⟩
    have hnm : meth.name = y.name := (name_of_methodNamed B.named B.method).1
    have key := body ((p, l, e, zc_rm fr lo μ, s, m, av.toArray, below, meth, c, nL), zc_Rel G μ s.heap, zc_F G μ rk below s) z hz ⟨B.exec, B.bytes, hml, hown, hts⟩ ⟨hK, rfl, B.returns, B.notSynchronized, rfl, rfl, rfl, hxt, hL, hnm⟩ o hd s.heap [] 0 0 _ (zc_Rel.rf hH h0 h1 h2) hl
    rw [← lg_entry_eq] at key
    obtain ⟨t, a1, oc, b1, b2, b3, b4⟩ := key s₁ hh0 X
    exact ⟨t, oc, a1, b1, b2, b3, b4⟩
theorem zk_self (vm : Vm) (c : ClassId) : vm.assignable c c = true := by
  show vm.assignableAux _ c c = true
  unfold Vm.assignableAux
  simp
theorem zk_go {Q : Handler → Pre} {E : CtlPost} {e : Env} {d : Bool} {acts : List Action} {S : State} {f : JFrame} {a : Addr} {z : ExceptionTableEntry} {cell : Cell} (hx : covers z f.pc = true) (h0 : z.catchType ≠ 0) (hl : S.vm.ClassLinks e.platform f.method.cls z.catchType cell.cls) (hcell : S.heap[a]? = some cell) (hns : ∀ k, cell.vm ≠ .statics k) (hkt : ∃ k, (S.vm.noted f.method.cls z.catchType (.cls cell.cls)).classes[cell.cls]? = some k) :
    wp (findHandler.go f a [z]) Q E e d acts S ↔ Q (.found z.handlerPc) d acts (S.setVm (S.vm.noted f.method.cls z.catchType (.cls cell.cls))) := by
  obtain ⟨kt, hkt⟩ := hkt
  obtain ⟨ra, rt⟩ := (resolveClass_links e.toSetting hl).op (op := VmOp.resolveClass f.method.cls z.catchType) rfl
  have hfit := zk_self (S.vm.noted f.method.cls z.catchType (.cls cell.cls)) cell.cls
  simp only [covers] at hx
  simp [findHandler.go, hx, h0, ra, rt, hcell, hns, hkt, hfit, VmOp.dirties, VmOp.acts]
/-- the one row of the table catches -/
theorem zk_catch {p : Program} {l : Launch} {e : Env} {R : Room} {s : State} {m₀ : MethodId} {args : Array Value} {below : List Frame} {meth : Method} {c : Code} {T : State} {locs : List Loc} {cells slots : Nat} (X : Stand p l e R s m₀ args below meth c T locs cells slots) (a : Addr) {g : JFrame} (hg : g.method = m₀) {own name : String} (hown : s.vm.findClass own = some m₀.cls)
    {z : ExceptionTableEntry} (hxt : c.exceptionTable.toList = [z]) (hx : covers z g.pc = true) (h0 : z.catchType ≠ 0) (hlink : (Cond.classLink own z.catchType name).before args s = true) {cell : Cell} (hcT : s.vm.findClass name = some cell.cls) (hcell : T.heap[a]? = some cell) (hobj : cell.vm = .none) (hfit : s.vm.assignable cell.cls cell.cls = true) :
    ∃ vm', Stand p l e R s m₀ args below meth c (T.setVm vm') locs cells slots ∧ ∀ target, Steps p.tables e below ((T.setVm vm').setTop { g with pc := z.handlerPc, stack := [.ref a] }) target → Steps p.tables e below ((T.setTop g).pushFrame (.throwing a)) target := by
  have hpl : e.platform.magicAccessors = ({} : Platform).magicAccessors := by rw [X.admits.platform]
  obtain ⟨c', hc', hcl⟩ := Cond.classLink_spec hown hlink e.platform hpl
  cases hcT.symm.trans hc'
  obtain ⟨dk, _, _, kt, hd, _, _, _, _, hkt, _, hopen⟩ := hcl.here
  have hW' : s.WarmedH (T.vm.noted m₀.cls z.catchType (.cls cell.cls)) := X.warmed.noted hd hopen (State.rightAt_cls hcl)
  have hlT := X.warmed.classLinks hcl
  have hal2 : s.vm.Alike (T.vm.noted m₀.cls z.catchType (.cls cell.cls)) := hW'.alike
  obtain ⟨kt2, hkt2, -⟩ := hal2.2.2 _ _ hkt
  have hfit2 : (T.vm.noted m₀.cls z.catchType (.cls cell.cls)).assignable cell.cls cell.cls = true := by rw [hal2.assignable]; exact hfit
  have hns : ∀ k, cell.vm ≠ .statics k := fun k q => by rw [hobj] at q; cases q
  refine ⟨_, X.noted hW', fun target hrest => ?_⟩
  subst hg
  have hfind : ∀ (Q : Handler → Pre) (E : CtlPost) (d : Bool) (acts : List Action), wp (findHandler g a) Q E e d acts ((T.setTop g).pushFrame (.throwing a)) ↔ Q (.found z.handlerPc) d acts (((T.setTop g).pushFrame (.throwing a)).setVm (T.vm.noted g.method.cls z.catchType (.cls cell.cls))) := by
    intro Q E d acts
    rw [W.findHandler_eq (s := (T.setTop g).pushFrame (.throwing a)) (meth := meth) (code := c) X.method' X.code, hxt]
    exact zk_go (S := (T.setTop g).pushFrame (.throwing a)) hx h0 hlT hcell hns ⟨kt2, hkt2⟩
  have hstep : ∀ r, (stepThrowing e ((T.setTop g).pushFrame (.throwing a)) a (.java g :: r)).Is ((((T.setTop g).pushFrame (.throwing a)).setVm (T.vm.noted g.method.cls z.catchType (.cls cell.cls))).setFrames (.java { g with pc := z.handlerPc, stack := [.ref a] } :: r)) [] := by
    intro r
    simp only [stepThrowing, searchFrame, vmDo]
    generalize hr : Sem.go _ e false [] _ = res
    obtain ⟨as, rfl, ha⟩ := Sem.eq_ok_of hr (a := Handler.found z.handlerPc) (s' := ((T.setTop g).pushFrame (.throwing a)).setVm (T.vm.noted g.method.cls z.catchType (.cls cell.cls))) (acts' := []) (by simp [hfind _ _ _ _])
    exact ⟨rfl, ha⟩
  obtain ⟨hgo, hw⟩ := X.here.throwing a
  refine Steps.head hgo hw ?_
  rw [stepThread_throwing (frames_entered X.here.top _), (hstep _).1]
  obtain ⟨g₀, hg⟩ := Option.isSome_iff_exists.mp X.here.top
  obtain ⟨r, hr⟩ := State.topJava?_eq_some.mp hg
  have hr' : (T.setVm (T.vm.noted g.method.cls z.catchType (.cls cell.cls))).frames = .java g₀ :: r := hr
  rw [State.setTop_of_frames _ hr'] at hrest
  have h1 : ∀ F : List Frame, (T.setFrames F).setVm (T.vm.noted g.method.cls z.catchType (.cls cell.cls)) = (T.setVm (T.vm.noted g.method.cls z.catchType (.cls cell.cls))).setFrames F := fun _ => rfl
  rw [hr, List.tail_cons, State.pushFrame, State.setTop_of_frames _ hr, State.setFrames_setFrames, h1, State.setFrames_setFrames]
  exact hrest
section ZC
variable {C : zv_Cx zc_O} {G : zc_G} {cc : ByteArray} {own : String} {μ0 : MEM} {nL : Nat} {ret : Option FieldType} {rk fr lo : Nat} {nm : String} {z : ExceptionTableEntry} {d d1 d2 : Option zc_O} {μ : MEM} {lv lv' : List (Nat × Value)} {st : List Value} {pc : Nat} {x : Int}
theorem zc_callC (h : zv_Ok C cc own) (hc : zc_C C G μ0 nL ret rk fr lo nm [z]) {y : MethodName} {bytes : ByteArray} {maxL rk' fr' lo' : Nat} {ret' : Option FieldType} {av stk : List Value} (qc : Cond.code y bytes maxL ret' ∈ lw_all) (qi : Cond.initialized y.cls ∈ lw_all) (hfr : fr' + 1 ≤ fr) (hlo : 8 + (maxL + 11) + lo' ≤ lo) {w : Nat} (hst : (st.map fun v => v.category).sum = w) (hw : w ≤ 8) (hx : covers z pc = true) (hz0 : z.catchType ≠ 0) (hzl : Cond.classLink own z.catchType "TreePress$Fault" ∈ lw_all) {dd : Option zc_O} {k kc : Int → MEM → Option zc_O}
    (hM : ∀ o1, dd = some o1 → zc_Met G y bytes maxL ret' rk' fr' lo' μ av o1)
    (hinv : ∀ (H : Heap) (locs : List Loc) (cells slots : Nat) (ls : Array Slot), zc_Rel G μ0 (zv_s C).heap μ H locs cells slots → ls.size = nL → ∀ T : State, T.heap = H → Stand (zv_p C) (zv_l C) (zv_e C) (zv_R C) (zv_s C) (zv_m C) (zv_a C) (zv_b C) (zv_h C) (zv_c C) T locs cells slots → zc_Inv C T locs cells slots (F0 (zv_m C) pc ls stk) st y av.toArray)
    (kk : ∀ r μ', zc_rr rk' r → VV C (k r μ') μ' lv ((zc_rt G rk' r).toList ++ st) (pc + 3))
    (kx : ∀ r μ', zt [7] (μ' r (-1)) = true → VV C (kc r μ') μ' lv [zc_rv G r] z.handlerPc) : VV C (bcc dd k (fun r μ' => ck (zt [7] (μ' r (-1)) = true) (kc r μ'))) μ lv stk pc := by
  intro o ho H locs cells slots ls hR hl
  cases hdd : dd with
  | none => rw [hdd] at ho; cases ho
  | some o1 =>
    rw [hdd] at ho
    have hR0 := hR
    obtain ⟨hK, hn0, hr0, hlk, hRm, e1, e2, hxt, hL, hnm⟩ := hc
    rw [e1] at hR0
    obtain ⟨hH, -, h00, -, -, -, hcl, hsl, hc0, hs0⟩ := id hR0
    intro T hT X
    obtain ⟨mk, vm₁, ig, X₁, hnamed, hdg, hstep⟩ := hinv H locs cells slots ls hR0 (hl.1.trans hn0) T hT X
    have hW₁ : (zv_s C).WarmedH (T.setVm vm₁).vm := X₁.warmed
    have hwd : ∀ u ∈ lw_all, u.before av.toArray (T.setVm vm₁) = true := fun u hu => word_at hW₁ (lw_self u hu).2 (h.2.2.2.2 u hu)
    obtain ⟨methY, cY, hmY, hcY, -, hlY, -, -, -, -⟩ := Cond.code_spec hnamed (hwd _ qc)
    obtain ⟨oc, t, T', L, kn, nn, X', t1, t2, ⟨q1, q2⟩, ⟨qE, qR⟩, hsteps⟩ := zx_call (Wt := 8) (maxL := maxL) (g := { F0 (zv_m C) pc ls stk with stack := st }) (hM o1 hdd (zv_l C) hL) X₁ rfl (by rw [h.2.2.1]; exact hl.1) hdg (by show 2 * 0 + (st.map fun v => v.category).sum ≤ 8; omega) hnamed ⟨methY, cY, hmY, hcY, hlY⟩ (hwd _ qi)
      (by rw [hRm]; exact hfr) (by rw [hRm]; exact hlo) (atoms_intro fun u hu => (by
        rcases List.mem_cons.mp hu with z | z
        · rw [z]; exact hwd _ qc
        · exact hwd u z)) (by rw [hRm]; show cells + (μ 0 1).toNat ≤ (μ0 0 1).toNat; omega) (by rw [hRm]; show slots + (μ 0 2).toNat ≤ (μ0 0 2).toNat; omega)
      ⟨rfl, (show zc_H G μ T.heap by rw [hT]; exact hH), (show μ 0 0 = (T.heap.size : Int) + 1 by rw [hT]; exact h00), hc0, hs0, hK.moved (U := (T.setVm vm₁).calling _ mk _) hW₁⟩
      (E := fun oc t L k n => zx_End ((T.setVm vm₁).calling { F0 (zv_m C) pc ls stk with stack := st } mk av.toArray) t L k n ∧ zc_Rel G μ T.heap o1.2.2 t.heap L k n) (fun oc t ⟨_, L, k, n, z1, z2⟩ => ⟨L, k, n, z1, z1, z2⟩)
    rw [hT] at qR
    have hRel := zc_Rel.trans hR0 qR
    rcases q1 with ⟨w1, w2, w3⟩ | ⟨w1, w2, w3⟩
    · have ho' : k o1.2.1 o1.2.2 = some o := by
        have : bcc (some o1) k (fun r μ' => ck (zt [7] (μ' r (-1)) = true) (kc r μ')) = some o := ho
        unfold bcc at this
        simpa [w1] using this
      subst w2
      have key := kk _ _ w3 o ho' t.heap (locs ++ L) (cells + kn) (slots + nn) ls (by rw [e1]; exact hRel) hl
      obtain ⟨t3, a1, b1⟩ := key T' t1 X'
      exact ⟨t3, hstep t3 (hsteps.trans a1), b1⟩
    · have ho' : ck (zt [7] (o1.2.2 o1.2.1 (-1)) = true) (kc o1.2.1 o1.2.2) = some o := by
        have : bcc (some o1) k (fun r μ' => ck (zt [7] (μ' r (-1)) = true) (kc r μ')) = some o := ho
        unfold bcc at this
        simpa [w1] using this
      obtain ⟨h7, ho'⟩ := ck_i ho'
      subst w3
      obtain ⟨t7, ht7, hz7⟩ := zt_mem h7
      cases List.mem_singleton.mp ht7
      obtain ⟨cell, a1, a2, a3⟩ := zc_cell hK hRel.1 hz7 (by decide)
      rw [zc_ad_p w2] at a1
      have hfc : (zv_s C).vm.findClass "TreePress$Fault" = some cell.cls := a3
      obtain ⟨vm', XV, st9⟩ := zk_catch X' (o1.2.1 - 1).toNat (g := { F0 (zv_m C) pc ls stk with stack := st }) rfl h.2.2.2.1 hxt hx hz0 (h.2.2.2.2 _ hzl) hfc (by rw [t1]; exact a1) a2 (zk_self _ _)
      have key := kx _ _ h7 o ho' t.heap (locs ++ L) (cells + kn) (slots + nn) ls (by rw [e1]; exact hRel) hl
      rw [zc_rv_p G w2] at key
      obtain ⟨t3, a5, b5⟩ := key (T'.setVm vm') t1 XV
      exact ⟨t3, hstep t3 (hsteps.trans (st9 _ a5)), b5⟩
theorem c_callVC (h : zv_Ok C cc own) (hc : zc_C C G μ0 nL ret rk fr lo nm [z]) {y : MethodName} {bytes : ByteArray} {maxL rk' fr' lo' n index : Nat} {ret' : Option FieldType} {As stk : List Value} {dd : Option zc_O} {k kc : Int → MEM → Option zc_O} (hM : ∀ o1, dd = some o1 → zc_Met G y bytes maxL ret' rk' fr' lo' μ (zc_rv G x :: As) o1) (ts : List Nat) (hts : zt ts (μ x (-1)) = true) (hvt : ∀ t ∈ ts, t ∈ zc_vt) (ql : Cond.methodLink own index y ∈ lw_all) (qm : Cond.instanceMethod y ∈ lw_all) (qsel : ∀ t ∈ ts, Cond.selects (zc_nmt t) y y ∈ lw_all) (qc : Cond.code y bytes maxL ret' ∈ lw_all) (qi : Cond.initialized y.cls ∈ lw_all) (hfr : fr' + 1 ≤ fr) (hlo : 8 + (maxL + 11) + lo' ≤ lo) {w : Nat} (hst : (st.map fun v => v.category).sum = w) (hw : w ≤ 8) {a b c0 : Nat} (hz : zc_zz z a b c0 93) (hp : a ≤ pc ∧ pc < b) (hzl : Cond.classLink own 93 "TreePress$Fault" ∈ lw_all) (hy : zc_nMH y) (hn : (parseMethodDescriptor y.desc).map (fun d => d.parameters.length) = some n) (hA : As.length = n) (hs : stk = As.reverse ++ zc_rv G x :: st) (hd : decode cc pc = .ok (.invokevirtual index, 3))
    (kk : ∀ r μ', zc_rr rk' r → VV C (k r μ') μ' lv ((zc_rt G rk' r).toList ++ st) (pc + 3))
    (kx : ∀ r μ', zt [7] (μ' r (-1)) = true → VV C (kc r μ') μ' lv [zc_rv G r] c0) : VV C (bcc dd k (fun r μ' => ck (zt [7] (μ' r (-1)) = true) (kc r μ'))) μ lv stk pc := by
  subst hs
  refine zc_callC h hc qc qi hfr hlo hst hw (zc_cvY hz hp) (by rw [hz.2.2.2]; decide) (by rw [hz.2.2.2]; exact hzl) hM (fun H locs cells slots ls hR0 hls T hT X => ?_) kk (by rw [hz.2.2.1]; exact kx)
  obtain ⟨t, ht, hzt⟩ := zt_mem hts
  have hK := hc.1
  obtain ⟨cell, a1, a2, a3⟩ := zc_cell hK hR0.1 hzt (List.mem_cons_of_mem _ (hvt t ht))
  have hx0 : x ≠ 0 := zc_ne0 hR0.1 hzt (fun e => by have := hvt t ht; rw [e] at this; exact absurd this (by decide))
  have hwd := h.2.2.2.2
  obtain ⟨mk, methM, hnamed, hmethM, hstM, habM⟩ := Cond.instanceMethod_spec (hwd _ qm)
  obtain ⟨methM', cM, hmethM', -, -, -, -, -, -, hsigM⟩ := Cond.code_spec hnamed (hwd _ qc)
  cases hmethM.symm.trans hmethM'
  obtain ⟨c2, r2, m2, w1, w2, w3, w4, kP, hkP, hkPi⟩ := Cond.selects_spec (hwd _ (qsel t ht))
  cases a3.symm.trans w1
  cases (State.methodFound?_of_named hnamed hy).symm.trans w2
  cases hnamed.symm.trans w3
  have hselP : selectMethod (zv_e C).platform (zv_s C).vm cell.cls mk = .method mk := by rw [Launch.admits_selectMethod X.admits]; exact w4
  obtain ⟨vm₁, X₁, hstep₁⟩ := X.invokevirtual h.1 h.2.2.2.1 (hwd _ ql) hnamed hmethM hstM hkP hkPi hy (a := zc_ad G x) (cell := cell) (by rw [hT]; exact a1)
    (fun z e => by rw [a2] at e; cases e) hselP hmethM habM hkP hkPi (g := F0 (zv_m C) pc ls (As.reverse ++ zc_rv G x :: st)) rfl (argsL := As) (rest := st) (zc_len hn hA _ hsigM) (by rw [zc_rv_n G hx0]) (by rw [h.2.1]; exact hd)
  refine ⟨mk, vm₁, _, X₁, X₁.named hnamed, by rw [h.2.1]; exact hd, fun target hh => hstep₁ _ fun acts => ?_⟩
  rw [doInvoke_state]
  rw [zc_rv_n G hx0] at hh
  exact hh
end ZC
