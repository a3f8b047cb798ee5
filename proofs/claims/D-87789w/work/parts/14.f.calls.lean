set_option maxRecDepth 100000
/-! THE CLASS SIDE: calls (written by wip/gen/ccalls.py) -/
/-- the fuel of a loop -/
def zF : Nat := 100000
def zc_Inv (C : zv_Cx zc_O) (T : State) (locs : List Loc) (cells slots : Nat) (g : JFrame) (rest : List Value) (y : MethodName) (a : Array Value) : Prop := ∃ (mk : MethodId) (vm₁ : Vm) (ig : Instr), Stand (zv_p C) (zv_l C) (zv_e C) (zv_R C) (zv_s C) (zv_m C) (zv_a C) (zv_b C) (zv_h C) (zv_c C) (T.setVm vm₁) locs cells slots ∧ (T.setVm vm₁).methodNamed? y = some mk ∧ decode (zv_c C).code g.pc = .ok (ig, 3) ∧ ∀ target, Steps (zv_p C).tables (zv_e C) (zv_b C) (doInvoke (zv_e C) ((T.setVm vm₁).setTop { g with stack := rest }) [] mk a).1 target → Steps (zv_p C).tables (zv_e C) (zv_b C) (T.setTop g) target
section ZC
variable {C : zv_Cx zc_O} {G : zc_G} {cc : ByteArray} {own : String} {μ0 : MEM} {nL : Nat} {ret : Option FieldType} {rk fr lo : Nat} {nm : String} {xt : List ExceptionTableEntry} {d d1 d2 : Option zc_O} {μ : MEM} {lv lv' : List (Nat × Value)} {st : List Value} {pc : Nat} {x : Int}
/-- a call: what comes back goes on; what it throws, the method throws -/
theorem zc_callW (h : zv_Ok C cc own) (hc : zc_C C G μ0 nL ret rk fr lo nm xt) {y : MethodName} {bytes : ByteArray} {maxL rk' fr' lo' : Nat} {ret' : Option FieldType} {av stk : List Value} (qc : Cond.code y bytes maxL ret' ∈ lw_all) (qi : Cond.initialized y.cls ∈ lw_all) (hfr : fr' + 1 ≤ fr) (hlo : 8 + (maxL + 11) + lo' ≤ lo) {w : Nat} (hst : (st.map fun v => v.category).sum = w) (hw : w ≤ 8) (hx : ∀ z ∈ xt, covers z pc = false) {dd : Option zc_O} {k : Int → MEM → Option zc_O}
    (hM : ∀ o1, dd = some o1 → zc_Met G y bytes maxL ret' rk' fr' lo' μ av o1)
    (hinv : ∀ (H : Heap) (locs : List Loc) (cells slots : Nat) (ls : Array Slot), zc_Rel G μ0 (zv_s C).heap μ H locs cells slots → ls.size = nL → ∀ T : State, T.heap = H → Stand (zv_p C) (zv_l C) (zv_e C) (zv_R C) (zv_s C) (zv_m C) (zv_a C) (zv_b C) (zv_h C) (zv_c C) T locs cells slots → zc_Inv C T locs cells slots (F0 (zv_m C) pc ls stk) st y av.toArray)
    (kk : ∀ r μ', zc_rr rk' r → VV C (k r μ') μ' lv ((zc_rt G rk' r).toList ++ st) (pc + 3)) : VV C (bc dd k) μ lv stk pc := by
  intro o ho H locs cells slots ls hR hl
  cases hdd : dd with
  | none => rw [hdd] at ho; cases ho
  | some o1 =>
    rw [hdd] at ho
    have hR0 := hR
    obtain ⟨hK, hn0, hr0, hlk, hRm, e1, e2, hxt, hL, hnm⟩ := hc
    rw [e1] at hR0
    obtain ⟨hH, -, h00, -, -, -, hcl, hsl, hc0, hs0⟩ := id hR0
    intro T hT X
    obtain ⟨mk, vm₁, ig, X₁, hnamed, hdg, hstep⟩ := hinv H locs cells slots ls hR0 (hl.1.trans hn0) T hT X
    have hW₁ : (zv_s C).WarmedH (T.setVm vm₁).vm := X₁.warmed
    have hwd : ∀ u ∈ lw_all, u.before av.toArray (T.setVm vm₁) = true := fun u hu => word_at hW₁ (lw_self u hu).2 (h.2.2.2.2 u hu)
    obtain ⟨methY, cY, hmY, hcY, -, hlY, -, -, -, -⟩ := Cond.code_spec hnamed (hwd _ qc)
    obtain ⟨oc, t, T', L, kn, nn, X', t1, t2, ⟨q1, q2⟩, ⟨qE, qR⟩, hsteps⟩ := zx_call (Wt := 8) (maxL := maxL) (g := { F0 (zv_m C) pc ls stk with stack := st }) (hM o1 hdd (zv_l C) hL) X₁ rfl (by rw [h.2.2.1]; exact hl.1) hdg (by show 2 * 0 + (st.map fun v => v.category).sum ≤ 8; omega) hnamed ⟨methY, cY, hmY, hcY, hlY⟩ (hwd _ qi)
      (by rw [hRm]; exact hfr) (by rw [hRm]; exact hlo) (atoms_intro fun u hu => (by
        rcases List.mem_cons.mp hu with z | z
        · rw [z]; exact hwd _ qc
        · exact hwd u z)) (by rw [hRm]; show cells + (μ 0 1).toNat ≤ (μ0 0 1).toNat; omega) (by rw [hRm]; show slots + (μ 0 2).toNat ≤ (μ0 0 2).toNat; omega)
      ⟨rfl, (show zc_H G μ T.heap by rw [hT]; exact hH), (show μ 0 0 = (T.heap.size : Int) + 1 by rw [hT]; exact h00), hc0, hs0, hK.moved (U := (T.setVm vm₁).calling _ mk _) hW₁⟩
      (E := fun oc t L k n => zx_End ((T.setVm vm₁).calling { F0 (zv_m C) pc ls stk with stack := st } mk av.toArray) t L k n ∧ zc_Rel G μ T.heap o1.2.2 t.heap L k n) (fun oc t ⟨_, L, k, n, z1, z2⟩ => ⟨L, k, n, z1, z1, z2⟩)
    rw [hT] at qR
    have hRel := zc_Rel.trans hR0 qR
    rcases q1 with ⟨w1, w2, w3⟩ | ⟨w1, w2, w3⟩
    · have ho' : k o1.2.1 o1.2.2 = some o := by
        have : bc (some o1) k = some o := ho
        unfold bc at this
        simpa [w1] using this
      subst w2
      have key := kk _ _ w3 o ho' t.heap (locs ++ L) (cells + kn) (slots + nn) ls (by rw [e1]; exact hRel) hl
      obtain ⟨t3, a1, b1⟩ := key T' t1 X'
      exact ⟨t3, hstep t3 (hsteps.trans a1), b1⟩
    · have ho' : o1 = o := by
        have : bc (some o1) k = some o := ho
        unfold bc at this
        simpa [w1] using this
      subst ho'
      subst w3
      obtain ⟨b1, b2, b3, b4, b5⟩ := X'.leaveThrown (o1.2.1 - 1).toNat (g := { F0 (zv_m C) pc ls stk with stack := st }) rfl rfl rfl (by rw [hxt]; exact hx) hlk
      refine ⟨_, hstep _ (hsteps.trans b1), ?_⟩
      rw [e2]
      refine ⟨_, b2, b3, Or.inr ⟨w1, w2, rfl⟩, _, _, _, ⟨b4, b5⟩, ?_⟩
      rw [show (T'.setFrames (.throwing (o1.2.1 - 1).toNat :: zv_b C)).heap = t.heap from t1]
      exact hRel
theorem zc_len {y : MethodName} {n : Nat} (hn : (parseMethodDescriptor y.desc).map (fun d => d.parameters.length) = some n) {As : List Value} (hA : As.length = n) : ∀ sig, parseMethodDescriptor y.desc = some sig → As.length = sig.parameters.length := by
  intro sig hs
  rw [hs] at hn
  rw [hA]
  exact (Option.some.inj hn).symm
abbrev zc_nMH (y : MethodName) : Prop := y.cls ≠ "java/lang/invoke/MethodHandle" ∧ y.cls ≠ "java/lang/invoke/VarHandle"

theorem c_callS (h : zv_Ok C cc own) (hc : zc_C C G μ0 nL ret rk fr lo nm xt) {y : MethodName} {bytes : ByteArray} {maxL rk' fr' lo' n index : Nat} {ret' : Option FieldType} {As stk : List Value} {dd : Option zc_O} {k : Int → MEM → Option zc_O} (hM : ∀ o1, dd = some o1 → zc_Met G y bytes maxL ret' rk' fr' lo' μ As o1) (ql : Cond.methodLink own index y ∈ lw_all) (qs : Cond.static y ∈ lw_all) (qc : Cond.code y bytes maxL ret' ∈ lw_all) (qi : Cond.initialized y.cls ∈ lw_all) (hfr : fr' + 1 ≤ fr) (hlo : 8 + (maxL + 11) + lo' ≤ lo) {w : Nat} (hst : (st.map fun v => v.category).sum = w) (hw : w ≤ 8) (hx : ∀ z ∈ xt, covers z pc = false) (hy : zc_nMH y) (hn : (parseMethodDescriptor y.desc).map (fun d => d.parameters.length) = some n) (hA : As.length = n) (hs : stk = As.reverse ++ st) (hd : decode cc pc = .ok (.invokestatic index, 3))
    (kk : ∀ r μ', zc_rr rk' r → VV C (k r μ') μ' lv ((zc_rt G rk' r).toList ++ st) (pc + 3)) : VV C (bc dd k) μ lv stk pc := by
  subst hs
  refine zc_callW h hc qc qi hfr hlo hst hw hx hM (fun H locs cells slots ls hR0 hls T hT X => ?_) kk
  have hts := h.2.2.2.2
  obtain ⟨mk, hnamed⟩ := Cond.code_named (hts _ qc)
  obtain ⟨methM, cM, hmethM, -, -, -, -, -, -, hsigM⟩ := Cond.code_spec hnamed (hts _ qc)
  have hstatic : methM.isStatic = true := Cond.static_spec hnamed hmethM (hts _ qs)
  obtain ⟨kP, hkP, -⟩ := className_of_methodNamed hnamed
  have hinitP : kP.init = .initialized := Cond.initialized_spec (findClass_of_methodNamed hnamed) hkP (hts _ qi)
  obtain ⟨vm₁, X₁, hstep₁⟩ := X.invokestatic h.1 h.2.2.2.1 (hts _ ql) hnamed hmethM hstatic hkP hinitP hy (g := F0 (zv_m C) pc ls (As.reverse ++ st)) rfl (argsL := As) (rest := st) (zc_len hn hA _ hsigM) rfl (by rw [h.2.1]; exact hd)
  exact ⟨mk, vm₁, _, X₁, X₁.named hnamed, by rw [h.2.1]; exact hd, fun target hh => hstep₁ _ fun acts => by rw [doInvoke_state]; exact hh⟩
theorem c_callSN (h : zv_Ok C cc own) (hc : zc_C C G μ0 nL ret rk fr lo nm xt) {y : MethodName} {bytes : ByteArray} {maxL rk' fr' lo' n index : Nat} {ret' : Option FieldType} {As stk : List Value} {dd : Option zc_O} {k : Int → MEM → Option zc_O} (hM : ∀ o1, dd = some o1 → zc_Met G y bytes maxL ret' rk' fr' lo' μ As o1) {host : String} (ql : (own, index, y, host) ∈ zc_nM) (qs : Cond.static y ∈ lw_all) (qc : Cond.code y bytes maxL ret' ∈ lw_all) (qi : Cond.initialized y.cls ∈ lw_all) (hfr : fr' + 1 ≤ fr) (hlo : 8 + (maxL + 11) + lo' ≤ lo) {w : Nat} (hst : (st.map fun v => v.category).sum = w) (hw : w ≤ 8) (hx : ∀ z ∈ xt, covers z pc = false) (hy : zc_nMH y) (hn : (parseMethodDescriptor y.desc).map (fun d => d.parameters.length) = some n) (hA : As.length = n) (hs : stk = As.reverse ++ st) (hd : decode cc pc = .ok (.invokestatic index, 3))
    (kk : ∀ r μ', zc_rr rk' r → VV C (k r μ') μ' lv ((zc_rt G rk' r).toList ++ st) (pc + 3)) : VV C (bc dd k) μ lv stk pc := by
  subst hs
  refine zc_callW h hc qc qi hfr hlo hst hw hx hM (fun H locs cells slots ls hR0 hls T hT X => ?_) kk
  have hts := h.2.2.2.2
  obtain ⟨mk, hnamed⟩ := Cond.code_named (hts _ qc)
  obtain ⟨methM, cM, hmethM, -, -, -, -, -, -, hsigM⟩ := Cond.code_spec hnamed (hts _ qc)
  have hstatic : methM.isStatic = true := Cond.static_spec hnamed hmethM (hts _ qs)
  obtain ⟨kP, hkP, -⟩ := className_of_methodNamed hnamed
  have hinitP : kP.init = .initialized := Cond.initialized_spec (findClass_of_methodNamed hnamed) hkP (hts _ qi)
  obtain ⟨vm₁, X₁, hstep₁⟩ := X.invokestaticNest h.1 h.2.2.2.1 ((hc.1.2.2.2.2.1 _ ql).use rfl) hnamed hmethM hstatic hkP hinitP hy (g := F0 (zv_m C) pc ls (As.reverse ++ st)) rfl (argsL := As) (rest := st) (zc_len hn hA _ hsigM) rfl (by rw [h.2.1]; exact hd)
  exact ⟨mk, vm₁, _, X₁, X₁.named hnamed, by rw [h.2.1]; exact hd, fun target hh => hstep₁ _ fun acts => by rw [doInvoke_state]; exact hh⟩
theorem c_callI (h : zv_Ok C cc own) (hc : zc_C C G μ0 nL ret rk fr lo nm xt) {y : MethodName} {bytes : ByteArray} {maxL rk' fr' lo' n index : Nat}  {As stk : List Value} {dd : Option zc_O} {k : Int → MEM → Option zc_O} (hM : ∀ o1, dd = some o1 → zc_Met G y bytes maxL none rk' fr' lo' μ (zc_rv G x :: As) o1) (ts : List Nat) (hts9 : zt ts (μ x (-1)) = true) (hnz : 0 ∉ ts) (ql : Cond.methodLink own index y ∈ lw_all) (qm : Cond.instanceMethod y ∈ lw_all) (hin : y.name = "<init>") (qc : Cond.code y bytes maxL none ∈ lw_all) (qi : Cond.initialized y.cls ∈ lw_all) (hfr : fr' + 1 ≤ fr) (hlo : 8 + (maxL + 11) + lo' ≤ lo) {w : Nat} (hst : (st.map fun v => v.category).sum = w) (hw : w ≤ 8) (hx : ∀ z ∈ xt, covers z pc = false) (hy : zc_nMH y) (hn : (parseMethodDescriptor y.desc).map (fun d => d.parameters.length) = some n) (hA : As.length = n) (hs : stk = As.reverse ++ zc_rv G x :: st) (hd : decode cc pc = .ok (.invokespecial index, 3))
    (kk : ∀ r μ', zc_rr rk' r → VV C (k r μ') μ' lv ((zc_rt G rk' r).toList ++ st) (pc + 3)) : VV C (bc dd k) μ lv stk pc := by
  subst hs
  refine zc_callW h hc qc qi hfr hlo hst hw hx hM (fun H locs cells slots ls hR0 hls T hT X => ?_) kk
  have hts := h.2.2.2.2
  have hx0 : x ≠ 0 := by
    obtain ⟨t, ht, hz⟩ := zt_mem hts9
    exact zc_ne0 hR0.1 hz (fun e => hnz (by rw [← e]; exact ht))
  have hpl : (zv_e C).platform.magicAccessors = ({} : Platform).magicAccessors := by rw [X.admits.platform]
  obtain ⟨mk, methM, cM, kP, vm₁, hnamed, hmethM, hcodeM, -, hlocalsM, -, hkP, -, hW₁, hstep₁⟩ := Steps.initColdArgs (e := zv_e C) X.here h.1 X.warmed hpl h.2.2.2.1 hin hy (hts _ ql) (hts _ qm) (hts _ qc) (f := F0 (zv_m C) pc ls (As.reverse ++ zc_rv G x :: st)) rfl (argsL := As) (a := zc_ad G x) (rest := st) (zc_len hn hA) (by rw [zc_rv_n G hx0]) (by rw [h.2.1]; exact hd)
  have X₁ := X.noted hW₁
  refine ⟨mk, vm₁, _, X₁, X₁.named hnamed, by rw [h.2.1]; exact hd, fun target hh => hstep₁ _ fun acts => ?_⟩
  rw [doInvoke_state]
  rw [zc_rv_n G hx0] at hh
  exact hh
theorem c_callIN (h : zv_Ok C cc own) (hc : zc_C C G μ0 nL ret rk fr lo nm xt) {y : MethodName} {bytes : ByteArray} {maxL rk' fr' lo' n index : Nat}  {As stk : List Value} {dd : Option zc_O} {k : Int → MEM → Option zc_O} (hM : ∀ o1, dd = some o1 → zc_Met G y bytes maxL none rk' fr' lo' μ (zc_rv G x :: As) o1) (ts : List Nat) (hts9 : zt ts (μ x (-1)) = true) (hnz : 0 ∉ ts) {host : String} (ql : (own, index, y, host) ∈ zc_nM) (qm : Cond.instanceMethod y ∈ lw_all) (hin : y.name = "<init>") (qc : Cond.code y bytes maxL none ∈ lw_all) (qi : Cond.initialized y.cls ∈ lw_all) (hfr : fr' + 1 ≤ fr) (hlo : 8 + (maxL + 11) + lo' ≤ lo) {w : Nat} (hst : (st.map fun v => v.category).sum = w) (hw : w ≤ 8) (hx : ∀ z ∈ xt, covers z pc = false) (hy : zc_nMH y) (hn : (parseMethodDescriptor y.desc).map (fun d => d.parameters.length) = some n) (hA : As.length = n) (hs : stk = As.reverse ++ zc_rv G x :: st) (hd : decode cc pc = .ok (.invokespecial index, 3))
    (kk : ∀ r μ', zc_rr rk' r → VV C (k r μ') μ' lv ((zc_rt G rk' r).toList ++ st) (pc + 3)) : VV C (bc dd k) μ lv stk pc := by
  subst hs
  refine zc_callW h hc qc qi hfr hlo hst hw hx hM (fun H locs cells slots ls hR0 hls T hT X => ?_) kk
  have hts := h.2.2.2.2
  have hx0 : x ≠ 0 := by
    obtain ⟨t, ht, hz⟩ := zt_mem hts9
    exact zc_ne0 hR0.1 hz (fun e => hnz (by rw [← e]; exact ht))
  have hpl : (zv_e C).platform.magicAccessors = ({} : Platform).magicAccessors := by rw [X.admits.platform]
  obtain ⟨mk, methM, cM, kP, vm₁, hnamed, hmethM, hcodeM, -, hlocalsM, -, hkP, -, hW₁, hstep₁⟩ := Steps.initColdArgsNest (e := zv_e C) X.here h.1 X.warmed hpl h.2.2.2.1 hin hy ((hc.1.2.2.2.2.1 _ ql).use rfl) (hts _ qm) (hts _ qc) (f := F0 (zv_m C) pc ls (As.reverse ++ zc_rv G x :: st)) rfl (argsL := As) (a := zc_ad G x) (rest := st) (zc_len hn hA) (by rw [zc_rv_n G hx0]) (by rw [h.2.1]; exact hd)
  have X₁ := X.noted hW₁
  refine ⟨mk, vm₁, _, X₁, X₁.named hnamed, by rw [h.2.1]; exact hd, fun target hh => hstep₁ _ fun acts => ?_⟩
  rw [doInvoke_state]
  rw [zc_rv_n G hx0] at hh
  exact hh
theorem c_callV (h : zv_Ok C cc own) (hc : zc_C C G μ0 nL ret rk fr lo nm xt) {y : MethodName} {bytes : ByteArray} {maxL rk' fr' lo' n index : Nat} {ret' : Option FieldType} {As stk : List Value} {dd : Option zc_O} {k : Int → MEM → Option zc_O} (hM : ∀ o1, dd = some o1 → zc_Met G y bytes maxL ret' rk' fr' lo' μ (zc_rv G x :: As) o1) (ts : List Nat) (hts : zt ts (μ x (-1)) = true) (hvt : ∀ t ∈ ts, t ∈ zc_vt) (ql : Cond.methodLink own index y ∈ lw_all) (qm : Cond.instanceMethod y ∈ lw_all) (qsel : ∀ t ∈ ts, Cond.selects (zc_nmt t) y y ∈ lw_all) (qc : Cond.code y bytes maxL ret' ∈ lw_all) (qi : Cond.initialized y.cls ∈ lw_all) (hfr : fr' + 1 ≤ fr) (hlo : 8 + (maxL + 11) + lo' ≤ lo) {w : Nat} (hst : (st.map fun v => v.category).sum = w) (hw : w ≤ 8) (hx : ∀ z ∈ xt, covers z pc = false) (hy : zc_nMH y) (hn : (parseMethodDescriptor y.desc).map (fun d => d.parameters.length) = some n) (hA : As.length = n) (hs : stk = As.reverse ++ zc_rv G x :: st) (hd : decode cc pc = .ok (.invokevirtual index, 3))
    (kk : ∀ r μ', zc_rr rk' r → VV C (k r μ') μ' lv ((zc_rt G rk' r).toList ++ st) (pc + 3)) : VV C (bc dd k) μ lv stk pc := by
  subst hs
  refine zc_callW h hc qc qi hfr hlo hst hw hx hM (fun H locs cells slots ls hR0 hls T hT X => ?_) kk
  obtain ⟨t, ht, hz⟩ := zt_mem hts
  have hK := hc.1
  obtain ⟨cell, a1, a2, a3⟩ := zc_cell hK hR0.1 hz (List.mem_cons_of_mem _ (hvt t ht))
  have hx0 : x ≠ 0 := zc_ne0 hR0.1 hz (fun e => by have := hvt t ht; rw [e] at this; exact absurd this (by decide))
  have hwd := h.2.2.2.2
  obtain ⟨mk, methM, hnamed, hmethM, hstM, habM⟩ := Cond.instanceMethod_spec (hwd _ qm)
  obtain ⟨methM', cM, hmethM', -, -, -, -, -, -, hsigM⟩ := Cond.code_spec hnamed (hwd _ qc)
  cases hmethM.symm.trans hmethM'
  obtain ⟨c2, r2, m2, w1, w2, w3, w4, kP, hkP, hkPi⟩ := Cond.selects_spec (hwd _ (qsel t ht))
  cases a3.symm.trans w1
  cases (State.methodFound?_of_named hnamed hy).symm.trans w2
  cases hnamed.symm.trans w3
  have hselP : selectMethod (zv_e C).platform (zv_s C).vm cell.cls mk = .method mk := by rw [Launch.admits_selectMethod X.admits]; exact w4
  obtain ⟨vm₁, X₁, hstep₁⟩ := X.invokevirtual h.1 h.2.2.2.1 (hwd _ ql) hnamed hmethM hstM hkP hkPi hy (a := zc_ad G x) (cell := cell) (by rw [hT]; exact a1)
    (fun z e => by rw [a2] at e; cases e) hselP hmethM habM hkP hkPi (g := F0 (zv_m C) pc ls (As.reverse ++ zc_rv G x :: st)) rfl (argsL := As) (rest := st) (zc_len hn hA _ hsigM) (by rw [zc_rv_n G hx0]) (by rw [h.2.1]; exact hd)
  refine ⟨mk, vm₁, _, X₁, X₁.named hnamed, by rw [h.2.1]; exact hd, fun target hh => hstep₁ _ fun acts => ?_⟩
  rw [doInvoke_state]
  rw [zc_rv_n G hx0] at hh
  exact hh
theorem c_callVN (h : zv_Ok C cc own) (hc : zc_C C G μ0 nL ret rk fr lo nm xt) {y : MethodName} {bytes : ByteArray} {maxL rk' fr' lo' n index : Nat} {ret' : Option FieldType} {As stk : List Value} {dd : Option zc_O} {k : Int → MEM → Option zc_O} (hM : ∀ o1, dd = some o1 → zc_Met G y bytes maxL ret' rk' fr' lo' μ (zc_rv G x :: As) o1) (ts : List Nat) (hts : zt ts (μ x (-1)) = true) (hvt : ∀ t ∈ ts, t ∈ zc_vt) {host : String} (ql : (own, index, y, host) ∈ zc_nM) (qm : Cond.instanceMethod y ∈ lw_all) (qsel : ∀ t ∈ ts, Cond.selects (zc_nmt t) y y ∈ lw_all) (qc : Cond.code y bytes maxL ret' ∈ lw_all) (qi : Cond.initialized y.cls ∈ lw_all) (hfr : fr' + 1 ≤ fr) (hlo : 8 + (maxL + 11) + lo' ≤ lo) {w : Nat} (hst : (st.map fun v => v.category).sum = w) (hw : w ≤ 8) (hx : ∀ z ∈ xt, covers z pc = false) (hy : zc_nMH y) (hn : (parseMethodDescriptor y.desc).map (fun d => d.parameters.length) = some n) (hA : As.length = n) (hs : stk = As.reverse ++ zc_rv G x :: st) (hd : decode cc pc = .ok (.invokevirtual index, 3))
    (kk : ∀ r μ', zc_rr rk' r → VV C (k r μ') μ' lv ((zc_rt G rk' r).toList ++ st) (pc + 3)) : VV C (bc dd k) μ lv stk pc := by
  subst hs
  refine zc_callW h hc qc qi hfr hlo hst hw hx hM (fun H locs cells slots ls hR0 hls T hT X => ?_) kk
  obtain ⟨t, ht, hz⟩ := zt_mem hts
  have hK := hc.1
  obtain ⟨cell, a1, a2, a3⟩ := zc_cell hK hR0.1 hz (List.mem_cons_of_mem _ (hvt t ht))
  have hx0 : x ≠ 0 := zc_ne0 hR0.1 hz (fun e => by have := hvt t ht; rw [e] at this; exact absurd this (by decide))
  have hwd := h.2.2.2.2
  obtain ⟨mk, methM, hnamed, hmethM, hstM, habM⟩ := Cond.instanceMethod_spec (hwd _ qm)
  obtain ⟨methM', cM, hmethM', -, -, -, -, -, -, hsigM⟩ := Cond.code_spec hnamed (hwd _ qc)
  cases hmethM.symm.trans hmethM'
  obtain ⟨c2, r2, m2, w1, w2, w3, w4, kP, hkP, hkPi⟩ := Cond.selects_spec (hwd _ (qsel t ht))
  cases a3.symm.trans w1
  cases (State.methodFound?_of_named hnamed hy).symm.trans w2
  cases hnamed.symm.trans w3
  have hselP : selectMethod (zv_e C).platform (zv_s C).vm cell.cls mk = .method mk := by rw [Launch.admits_selectMethod X.admits]; exact w4
  obtain ⟨vm₁, X₁, hstep₁⟩ := X.invokevirtualNest h.1 h.2.2.2.1 ((hc.1.2.2.2.2.1 _ ql).use rfl) hnamed hmethM hstM hkP hkPi hy (a := zc_ad G x) (cell := cell) (by rw [hT]; exact a1)
    (fun z e => by rw [a2] at e; cases e) hselP hmethM habM hkP hkPi (g := F0 (zv_m C) pc ls (As.reverse ++ zc_rv G x :: st)) rfl (argsL := As) (rest := st) (zc_len hn hA _ hsigM) (by rw [zc_rv_n G hx0]) (by rw [h.2.1]; exact hd)
  refine ⟨mk, vm₁, _, X₁, X₁.named hnamed, by rw [h.2.1]; exact hd, fun target hh => hstep₁ _ fun acts => ?_⟩
  rw [doInvoke_state]
  rw [zc_rv_n G hx0] at hh
  exact hh
theorem c_callU (h : zv_Ok C cc own) (hc : zc_C C G μ0 nL ret rk fr lo nm xt) {y : MethodName} {bytes : ByteArray} {maxL rk' fr' lo' n index : Nat} {ret' : Option FieldType} {As stk : List Value} {dd : Option zc_O} {k : Int → MEM → Option zc_O} {xm : MethodName} {owner : String} (hM : ∀ o1, dd = some o1 → zc_Met G y bytes maxL ret' rk' fr' lo' μ (zc_rv G x :: As) o1) (ts : List Nat) (hts : zt ts (μ x (-1)) = true) (hvt : ∀ t ∈ ts, t ∈ zc_vt) (ql : Cond.methodLink own index xm ∈ lw_all) (qsame : Cond.sameMethod xm.cls owner xm.name xm.desc ∈ lw_all) (hdec : va_Decl (zv_s C) ⟨owner, xm.name, xm.desc⟩) (how : owner ≠ "java/lang/invoke/MethodHandle" ∧ owner ≠ "java/lang/invoke/VarHandle") (qm : Cond.instanceMethod y ∈ lw_all) (qsel : ∀ t ∈ ts, Cond.selects (zc_nmt t) xm y ∈ lw_all) (qc : Cond.code y bytes maxL ret' ∈ lw_all) (qi : Cond.initialized y.cls ∈ lw_all) (hfr : fr' + 1 ≤ fr) (hlo : 8 + (maxL + 11) + lo' ≤ lo) {w : Nat} (hst : (st.map fun v => v.category).sum = w) (hw : w ≤ 8) (hx : ∀ z ∈ xt, covers z pc = false) (hn : (parseMethodDescriptor xm.desc).map (fun d => d.parameters.length) = some n) (hA : As.length = n) (hs : stk = As.reverse ++ zc_rv G x :: st) (hd : decode cc pc = .ok (.invokevirtual index, 3))
    (kk : ∀ r μ', zc_rr rk' r → VV C (k r μ') μ' lv ((zc_rt G rk' r).toList ++ st) (pc + 3)) : VV C (bc dd k) μ lv stk pc := by
  subst hs
  refine zc_callW h hc qc qi hfr hlo hst hw hx hM (fun H locs cells slots ls hR0 hls T hT X => ?_) kk
  obtain ⟨t, ht, hz⟩ := zt_mem hts
  have hK := hc.1
  obtain ⟨cell, a1, a2, a3⟩ := zc_cell hK hR0.1 hz (List.mem_cons_of_mem _ (hvt t ht))
  have hx0 : x ≠ 0 := zc_ne0 hR0.1 hz (fun e => by have := hvt t ht; rw [e] at this; exact absurd this (by decide))
  have hwd := h.2.2.2.2
  obtain ⟨r0, r, hn9, hrm, hstR, hsigR⟩ := hdec
  obtain ⟨cn, ck, r1, hcn, hck, hni, hf, hn1⟩ := Cond.sameMethod_found (hwd _ qsame)
  cases hn9.symm.trans hn1
  obtain ⟨mk, methM, hnamed, hmethM, -, habM⟩ := Cond.instanceMethod_spec (hwd _ qm)
  obtain ⟨c2, r2, m2, w1, w2, w3, w4, kP, hkP, hkPi⟩ := Cond.selects_spec (hwd _ (qsel t ht))
  cases a3.symm.trans w1
  cases hf.symm.trans w2
  cases hnamed.symm.trans w3
  have hselP : selectMethod (zv_e C).platform (zv_s C).vm cell.cls r0 = .method mk := by rw [Launch.admits_selectMethod X.admits]; exact w4
  obtain ⟨vm₁, X₁, hstep₁⟩ := X.invokevirtualUp h.1 h.2.2.2.1 (hwd _ ql) (hwd _ qsame) how hn9 hrm hstR (a := zc_ad G x) (cell := cell) (by rw [hT]; exact a1)
    (fun z e => by rw [a2] at e; cases e) hselP hmethM habM hkP hkPi (g := F0 (zv_m C) pc ls (As.reverse ++ zc_rv G x :: st)) rfl (argsL := As) (rest := st) (zc_len hn hA _ hsigR) (by rw [zc_rv_n G hx0]) (by rw [h.2.1]; exact hd)
  refine ⟨mk, vm₁, _, X₁, X₁.named hnamed, by rw [h.2.1]; exact hd, fun target hh => hstep₁ _ fun acts => ?_⟩
  rw [doInvoke_state]
  rw [zc_rv_n G hx0] at hh
  exact hh
theorem c_callSU (h : zv_Ok C cc own) (hc : zc_C C G μ0 nL ret rk fr lo nm xt) {y : MethodName} {bytes : ByteArray} {maxL rk' fr' lo' n index : Nat} {ret' : Option FieldType} {As stk : List Value} {dd : Option zc_O} {k : Int → MEM → Option zc_O} (hM : ∀ o1, dd = some o1 → zc_Met G y bytes maxL ret' rk' fr' lo' μ (zc_rv G x :: As) o1) (ts : List Nat) (hts : zt ts (μ x (-1)) = true) (hvt : ∀ t ∈ ts, t ∈ zc_vt) (ql : Cond.methodLink own index y ∈ lw_all) (qsame : Cond.sameMethod y.cls y.cls y.name y.desc ∈ lw_all) (qsup : Cond.superclass own y.cls ∈ lw_all) (qm : Cond.instanceMethod y ∈ lw_all) (hno : y.name ≠ "<init>") (qc : Cond.code y bytes maxL ret' ∈ lw_all) (qi : Cond.initialized y.cls ∈ lw_all) (hfr : fr' + 1 ≤ fr) (hlo : 8 + (maxL + 11) + lo' ≤ lo) {w : Nat} (hst : (st.map fun v => v.category).sum = w) (hw : w ≤ 8) (hx : ∀ z ∈ xt, covers z pc = false) (hy : zc_nMH y) (hn : (parseMethodDescriptor y.desc).map (fun d => d.parameters.length) = some n) (hA : As.length = n) (hs : stk = As.reverse ++ zc_rv G x :: st) (hd : decode cc pc = .ok (.invokespecial index, 3))
    (kk : ∀ r μ', zc_rr rk' r → VV C (k r μ') μ' lv ((zc_rt G rk' r).toList ++ st) (pc + 3)) : VV C (bc dd k) μ lv stk pc := by
  subst hs
  refine zc_callW h hc qc qi hfr hlo hst hw hx hM (fun H locs cells slots ls hR0 hls T hT X => ?_) kk
  obtain ⟨t, ht, hz⟩ := zt_mem hts
  have hK := hc.1
  obtain ⟨cell, a1, a2, a3⟩ := zc_cell hK hR0.1 hz (List.mem_cons_of_mem _ (hvt t ht))
  have hx0 : x ≠ 0 := zc_ne0 hR0.1 hz (fun e => by have := hvt t ht; rw [e] at this; exact absurd this (by decide))
  have hwd := h.2.2.2.2
  obtain ⟨kB, hkB⟩ := Vm.classAt_of_findClass a3
  obtain ⟨mk, methM, hnamed, hmethM, hstM, habM⟩ := Cond.instanceMethod_spec (hwd _ qm)
  obtain ⟨methM', cM, hmethM', -, -, -, -, -, -, hsigM⟩ := Cond.code_spec hnamed (hwd _ qc)
  cases hmethM.symm.trans hmethM'
  obtain ⟨ps, dk, kp, hps, hdk, hkp, hsuper, -, -, hnid⟩ := Cond.superclass_spec h.2.2.2.1 (hwd _ qsup)
  have hn9 : (zv_s C).methodNamed? ⟨y.cls, y.name, y.desc⟩ = some mk := hnamed
  have hpm : ps = mk.cls := Option.some.inj (hps.symm.trans (findClass_of_methodNamed hnamed))
  have hsub : (zv_s C).vm.isSubclass ps mk.cls = true := by rw [hpm]; simp [Vm.isSubclass, Vm.isSubclassAux]
  obtain ⟨vm₁, X₁, hstep₁⟩ := X.invokespecialUp h.1 h.2.2.2.1 (hwd _ ql) (hwd _ qsame) hn9 hmethM hstM habM hno hdk hnid hps hsuper hsub (a := zc_ad G x) (cell := cell) (by rw [hT]; exact a1)
    (fun z e => by rw [a2] at e; cases e) hkB (g := F0 (zv_m C) pc ls (As.reverse ++ zc_rv G x :: st)) rfl (argsL := As) (rest := st) (zc_len hn hA _ hsigM) (by rw [zc_rv_n G hx0]) (by rw [h.2.1]; exact hd)
  refine ⟨mk, vm₁, _, X₁, X₁.named hnamed, by rw [h.2.1]; exact hd, fun target hh => hstep₁ _ ?_⟩
  rw [doInvoke_state]
  rw [zc_rv_n G hx0] at hh
  exact hh
theorem c_oinit (h : zv_Ok C cc own) (hc : zc_C C G μ0 nL ret rk fr lo nm xt) {index : Nat} (ts : List Nat) (hts9 : zt ts (μ x (-1)) = true) (hnz : 0 ∉ ts) (ql : Cond.methodLink own index ⟨"java/lang/Object", "<init>", "()V"⟩ ∈ lw_all) (qm : Cond.instanceMethod ⟨"java/lang/Object", "<init>", "()V"⟩ ∈ lw_all) (qc : Cond.code ⟨"java/lang/Object", "<init>", "()V"⟩ ⟨#[0xb1]⟩ 1 none ∈ lw_all) (hfr : 1 ≤ fr) {w : Nat} (hst : (st.map fun v => v.category).sum = w) (hlo : w + 12 ≤ lo) (hd : decode cc pc = .ok (.invokespecial index, 3)) (kk : VV C d μ lv st (pc + 3)) : VV C d μ lv (zc_rv G x :: st) pc := by
  intro o ho H locs cells slots ls hR hl
  have hRm := hc.2.2.2.2.1
  have hR0 := hR
  rw [hc.2.2.2.2.2.1] at hR0
  have hx0 : x ≠ 0 := by
    obtain ⟨t, ht, hz⟩ := zt_mem hts9
    exact zc_ne0 hR0.1 hz (fun e => hnz (by rw [← e]; exact ht))
  rw [zc_rv_n G hx0]
  exact W.objInit h.1 h.2.1 h.2.2.2.1 (h.2.2.2.2 _ ql) (h.2.2.2.2 _ qm) (h.2.2.2.2 _ qc) rfl (by rw [h.2.2.1]; exact hl.1) rfl hd (by rw [hRm]; exact hfr) (by rw [hRm]; show 2 * 0 + _ + 12 ≤ lo; omega) (kk o ho H locs cells slots ls hR hl)
theorem c_callStr (h : zv_Ok C cc own) (hc : zc_C C G μ0 nL ret rk fr lo nm xt) {y : MethodName} {bytes : ByteArray} {maxL rk' fr' lo' n index : Nat} {ret' : Option FieldType} {As stk : List Value} {dd : Option zc_O} {k : Int → MEM → Option zc_O} (hM : ∀ o1, dd = some o1 → zc_Met G y bytes maxL ret' rk' fr' lo' μ (zc_rv G x :: As) o1) (hxs : (-43 : Int) ≤ x ∧ x < 0) (ql : Cond.methodLink own index y ∈ lw_all) (qm : Cond.instanceMethod y ∈ lw_all) (qsel : Cond.selects "java/lang/String" y y ∈ lw_all) (qc : Cond.code y bytes maxL ret' ∈ lw_all) (qi : Cond.initialized y.cls ∈ lw_all) (hfr : fr' + 1 ≤ fr) (hlo : 8 + (maxL + 11) + lo' ≤ lo) {w : Nat} (hst : (st.map fun v => v.category).sum = w) (hw : w ≤ 8) (hx : ∀ z ∈ xt, covers z pc = false) (hy : zc_nMH y) (hn : (parseMethodDescriptor y.desc).map (fun d => d.parameters.length) = some n) (hA : As.length = n) (hs : stk = As.reverse ++ zc_rv G x :: st) (hd : decode cc pc = .ok (.invokevirtual index, 3))
    (kk : ∀ r μ', zc_rr rk' r → VV C (k r μ') μ' lv ((zc_rt G rk' r).toList ++ st) (pc + 3)) : VV C (bc dd k) μ lv stk pc := by
  subst hs
  refine zc_callW h hc qc qi hfr hlo hst hw hx hM (fun H locs cells slots ls hR0 hls T hT X => ?_) kk
  have hx0 : x ≠ 0 := by omega
  have hK := hc.1
  obtain ⟨cell0, k1, k2, k3, k4⟩ := (hK.2.2.2.2.2.2.2.2.2.2.1 (-x).toNat (by omega) (by omega)).1
  have had : zc_ad G x = zc_st G (-x).toNat := by unfold zc_ad; rw [if_neg (by omega)]
  have a1 : H[zc_ad G x]? = some cell0 := by rw [had, hR0.1.2.2.2.2 _ (hR0.1.1 _)]; exact k1
  have hwd := h.2.2.2.2
  obtain ⟨mk, methM, hnamed, hmethM, hstM, habM⟩ := Cond.instanceMethod_spec (hwd _ qm)
  obtain ⟨methM', cM, hmethM', -, -, -, -, -, -, hsigM⟩ := Cond.code_spec hnamed (hwd _ qc)
  cases hmethM.symm.trans hmethM'
  obtain ⟨c2, r2, m2, w1, w2, w3, w4, kP, hkP, hkPi⟩ := Cond.selects_spec (hwd _ qsel)
  cases k3.symm.trans w1
  cases (State.methodFound?_of_named hnamed hy).symm.trans w2
  cases hnamed.symm.trans w3
  have hselP : selectMethod (zv_e C).platform (zv_s C).vm cell0.cls mk = .method mk := by rw [Launch.admits_selectMethod X.admits]; exact w4
  obtain ⟨vm₁, X₁, hstep₁⟩ := X.invokevirtual h.1 h.2.2.2.1 (hwd _ ql) hnamed hmethM hstM hkP hkPi hy (a := zc_ad G x) (cell := cell0) (by rw [hT]; exact a1)
    (fun z e => by rw [e] at k2; cases k2) hselP hmethM habM hkP hkPi (g := F0 (zv_m C) pc ls (As.reverse ++ zc_rv G x :: st)) rfl (argsL := As) (rest := st) (zc_len hn hA _ hsigM) (by rw [zc_rv_n G hx0]) (by rw [h.2.1]; exact hd)
  refine ⟨mk, vm₁, _, X₁, X₁.named hnamed, by rw [h.2.1]; exact hd, fun target hh => hstep₁ _ fun acts => ?_⟩
  rw [doInvoke_state]
  rw [zc_rv_n G hx0] at hh
  exact hh
theorem r_k0 {r : Int} (k : VV C d μ lv st pc) : VV C d μ lv ((zc_rt G 0 r).toList ++ st) pc := k
theorem r_k1 {r : Int} (k : VV C d μ lv (iv r :: st) pc) : VV C d μ lv ((zc_rt G 1 r).toList ++ st) pc := k
theorem r_k2 {r : Int} (k : VV C d μ lv (jv r :: st) pc) : VV C d μ lv ((zc_rt G 2 r).toList ++ st) pc := k
theorem r_k3 {r : Int} (k : VV C d μ lv (iv r :: st) pc) : VV C d μ lv ((zc_rt G 3 r).toList ++ st) pc := k
theorem r_k4 {r : Int} (k : VV C d μ lv (zc_rv G r :: st) pc) : VV C d μ lv ((zc_rt G 4 r).toList ++ st) pc := k
theorem r_k5 {r : Int} (k : VV C d μ lv (iv r :: st) pc) : VV C d μ lv ((zc_rt G 5 r).toList ++ st) pc := k
theorem r_k6 {r : Int} (k : VV C d μ lv (iv r :: st) pc) : VV C d μ lv ((zc_rt G 6 r).toList ++ st) pc := k
theorem zt_sub {ts us : List Nat} {z : Int} (hs : ts.all (fun t => decide (t ∈ us)) = true) (h : zt ts z = true) : zt us z = true := by
  obtain ⟨t, ht, hz⟩ := zt_mem h
  exact List.any_eq_true.mpr ⟨t, of_decide_eq_true (List.all_eq_true.mp hs t ht), by simp [hz]⟩
theorem zt_nw {μ μ' : MEM} {t : Nat} {T n s : Int} (e : μ' = mnew μ T n s) (hT : zt [t] T = true := by decide) : zt [t] (μ' (μ 0 0) (-1)) = true := by
  rw [e]
  unfold mnew
  rw [if_pos rfl, if_pos rfl]
  exact hT
/-- more room does no harm -/
theorem zc_Met.mono {y : MethodName} {cc : ByteArray} {nL : Nat} {ret : Option FieldType} {rk fr lo fr' lo' : Nat} {av : List Value} {o : zc_O} (h : zc_Met G y cc nL ret rk fr lo μ av o) (h1 : fr ≤ fr') (h2 : lo ≤ lo') : zc_Met G y cc nL ret rk fr' lo' μ av o := by
  intro l hL p e ha hcas hck s m args below hf happ hP hK
  refine h l hL p e ha hcas hck s m args below hf ?_ hP hK
  unfold Spec.appliesLoose at happ ⊢
  rw [hf] at happ ⊢
  simp only [Bool.and_eq_true] at happ ⊢
  refine ⟨⟨happ.1.1, ?_⟩, happ.2⟩
  have hr := happ.1.2
  unfold State.hasRoom at hr ⊢
  simp only [Bool.and_eq_true, decide_eq_true_eq] at hr ⊢
  simp only [headSpec] at hr ⊢
  exact ⟨⟨⟨⟨by omega, by omega, by omega, by omega, by omega, hr.1.1.1.2.2.2.2.2⟩, by omega⟩, by omega⟩, hr.2⟩
def i_c (x : Int) : Int := ((Int32.ofInt x).toUInt32 % 65536).toInt32.toInt
theorem r_i2c (h : zv_Ok C cc own) (hd : decode cc pc = .ok (.i2c, 1)) (k : VV C d μ lv (iv (i_c x) :: st) (pc + 1)) : VV C d μ lv (iv x :: st) pc := fun o ho H locs cells slots ls hR hl => lv_i2c h.1 h.2.1 hd rfl (by have q := (k o ho H locs cells slots ls hR hl); unfold iv at q; unfold i_c at q; rw [Int32.ofInt_toInt] at q; exact q)
end ZC
