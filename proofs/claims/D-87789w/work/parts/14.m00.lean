set_option maxRecDepth 100000
set_option maxHeartbeats 1000000
/-! methods of the class side: decode rows, denotations c_.., walks u_.. (written by wip/gen/cmain.py) -/
def zc_Dkind (G : zc_G) (F L : Nat) (dv : MEM → Int → Option zc_O) : Prop := ∀ (μ : MEM) (x : Int), ∀ o, dv μ x = some o → (μ x (-1) = 6 → zc_Met G yX6_kind cX6_kind 1 (Option.some FieldType.int) 1 F L μ [zc_rv G x] o) ∧ (μ x (-1) = 11 → zc_Met G yX11_kind cX11_kind 1 (Option.some FieldType.int) 1 F L μ [zc_rv G x] o) ∧ (μ x (-1) = 13 → zc_Met G yX13_kind cX13_kind 1 (Option.some FieldType.int) 1 F L μ [zc_rv G x] o) ∧ (μ x (-1) = 14 → zc_Met G yX14_kind cX14_kind 1 (Option.some FieldType.int) 1 F L μ [zc_rv G x] o)
theorem cd_kind {C : zv_Cx zc_O} {G : zc_G} {cc : ByteArray} {own : String} {μ0 : MEM} {nL : Nat} {ret : Option FieldType} {rk fr lo : Nat} {nm : String} {xt : List ExceptionTableEntry} {μ : MEM} {lv : List (Nat × Value)} {st : List Value} {pc : Nat} {x : Int} {F L index w : Nat} {dv : MEM → Int → Option zc_O} {k : Int → MEM → Option zc_O} (h : zv_Ok C cc own) (hc : zc_C C G μ0 nL ret rk fr lo nm xt) (hM : zc_Dkind G F L dv) (hts : zt [6, 11, 13, 14] (μ x (-1)) = true) (ql : Cond.methodLink own index ⟨"TreePress$Node", "kind", "()I"⟩ ∈ lw_all) (hfr : F + 1 ≤ fr) (hlo : 20 + L ≤ lo) (hst : (st.map fun v => v.category).sum = w) (hw : w ≤ 8) (hx : ∀ z ∈ xt, covers z pc = false) (hd : decode cc pc = .ok (.invokevirtual index, 3))
    (kk : ∀ r μ', zc_rr 1 r → VV C (k r μ') μ' lv ((zc_rt G 1 r).toList ++ st) (pc + 3)) : VV C (bc (dv μ x) k) μ lv (zc_rv G x :: st) pc := by
  obtain ⟨t, ht, hz⟩ := zt_mem hts
  simp only [List.mem_cons, List.not_mem_nil, or_false] at ht
  rcases ht with rfl | rfl | rfl | rfl
  · exact c_callU (x := x) (xm := ⟨"TreePress$Node", "kind", "()I"⟩) (owner := "TreePress$Node") h hc (As := []) (fun o1 e1 => (hM μ x o1 e1).1 hz) [6] (by unfold zt; simp [hz]) (by decide) ql q1100 (va_Decl.abs (hc.1.2.2.2.2.2.2.2.2.2.2.2.2.2.2.2.2.2.2.2.2.2 _ (by decide))) ⟨by decide, by decide⟩ q1108 (fun t ht => by cases List.mem_singleton.mp ht; exact q1110) q1109 q142 (by omega) (by omega) hst hw hx (n := 0) (by decide +kernel) rfl rfl hd kk
  · exact c_callU (x := x) (xm := ⟨"TreePress$Node", "kind", "()I"⟩) (owner := "TreePress$Node") h hc (As := []) (fun o1 e1 => (hM μ x o1 e1).2.1 hz) [11] (by unfold zt; simp [hz]) (by decide) ql q1100 (va_Decl.abs (hc.1.2.2.2.2.2.2.2.2.2.2.2.2.2.2.2.2.2.2.2.2.2 _ (by decide))) ⟨by decide, by decide⟩ q1105 (fun t ht => by cases List.mem_singleton.mp ht; exact q1104) q1106 q158 (by omega) (by omega) hst hw hx (n := 0) (by decide +kernel) rfl rfl hd kk
  · exact c_callU (x := x) (xm := ⟨"TreePress$Node", "kind", "()I"⟩) (owner := "TreePress$Node") h hc (As := []) (fun o1 e1 => (hM μ x o1 e1).2.2.1 hz) [13] (by unfold zt; simp [hz]) (by decide) ql q1100 (va_Decl.abs (hc.1.2.2.2.2.2.2.2.2.2.2.2.2.2.2.2.2.2.2.2.2.2 _ (by decide))) ⟨by decide, by decide⟩ q1102 (fun t ht => by cases List.mem_singleton.mp ht; exact q1101) q1103 q160 (by omega) (by omega) hst hw hx (n := 0) (by decide +kernel) rfl rfl hd kk
  · exact c_callU (x := x) (xm := ⟨"TreePress$Node", "kind", "()I"⟩) (owner := "TreePress$Node") h hc (As := []) (fun o1 e1 => (hM μ x o1 e1).2.2.2 hz) [14] (by unfold zt; simp [hz]) (by decide) ql q1100 (va_Decl.abs (hc.1.2.2.2.2.2.2.2.2.2.2.2.2.2.2.2.2.2.2.2.2.2 _ (by decide))) ⟨by decide, by decide⟩ q1112 (fun t ht => by cases List.mem_singleton.mp ht; exact q1111) q1113 q161 (by omega) (by omega) hst hw hx (n := 0) (by decide +kernel) rfl rfl hd kk
def zc_Dname (G : zc_G) (F L : Nat) (dv : MEM → Int → Option zc_O) : Prop := ∀ (μ : MEM) (x : Int), ∀ o, dv μ x = some o → (μ x (-1) = 6 → zc_Met G yX5_name cX5_name 1 (Option.some (FieldType.array FieldType.byte)) 4 F L μ [zc_rv G x] o) ∧ (μ x (-1) = 11 → zc_Met G yX11_name cX11_name 1 (Option.some (FieldType.array FieldType.byte)) 4 F L μ [zc_rv G x] o) ∧ (μ x (-1) = 13 → zc_Met G yX13_name cX13_name 1 (Option.some (FieldType.array FieldType.byte)) 4 F L μ [zc_rv G x] o) ∧ (μ x (-1) = 14 → zc_Met G yX5_name cX5_name 1 (Option.some (FieldType.array FieldType.byte)) 4 F L μ [zc_rv G x] o)
theorem cd_name {C : zv_Cx zc_O} {G : zc_G} {cc : ByteArray} {own : String} {μ0 : MEM} {nL : Nat} {ret : Option FieldType} {rk fr lo : Nat} {nm : String} {xt : List ExceptionTableEntry} {μ : MEM} {lv : List (Nat × Value)} {st : List Value} {pc : Nat} {x : Int} {F L index w : Nat} {dv : MEM → Int → Option zc_O} {k : Int → MEM → Option zc_O} (h : zv_Ok C cc own) (hc : zc_C C G μ0 nL ret rk fr lo nm xt) (hM : zc_Dname G F L dv) (hts : zt [6, 11, 13, 14] (μ x (-1)) = true) (ql : Cond.methodLink own index ⟨"TreePress$Node", "name", "()[B"⟩ ∈ lw_all) (hfr : F + 1 ≤ fr) (hlo : 20 + L ≤ lo) (hst : (st.map fun v => v.category).sum = w) (hw : w ≤ 8) (hx : ∀ z ∈ xt, covers z pc = false) (hd : decode cc pc = .ok (.invokevirtual index, 3))
    (kk : ∀ r μ', zc_rr 4 r → VV C (k r μ') μ' lv ((zc_rt G 4 r).toList ++ st) (pc + 3)) : VV C (bc (dv μ x) k) μ lv (zc_rv G x :: st) pc := by
  obtain ⟨t, ht, hz⟩ := zt_mem hts
  simp only [List.mem_cons, List.not_mem_nil, or_false] at ht
  rcases ht with rfl | rfl | rfl | rfl
  · exact c_callU (x := x) (xm := ⟨"TreePress$Node", "name", "()[B"⟩) (owner := "TreePress$Node") h hc (As := []) (fun o1 e1 => (hM μ x o1 e1).1 hz) [6] (by unfold zt; simp [hz]) (by decide) ql q1083 (va_Decl.of (h.2.2.2.2 _ q1082) (h.2.2.2.2 _ q1092)) ⟨by decide, by decide⟩ q1082 (fun t ht => by cases List.mem_singleton.mp ht; exact q1090) q1092 q141 (by omega) (by omega) hst hw hx (n := 0) (by decide +kernel) rfl rfl hd kk
  · exact c_callU (x := x) (xm := ⟨"TreePress$Node", "name", "()[B"⟩) (owner := "TreePress$Node") h hc (As := []) (fun o1 e1 => (hM μ x o1 e1).2.1 hz) [11] (by unfold zt; simp [hz]) (by decide) ql q1083 (va_Decl.of (h.2.2.2.2 _ q1082) (h.2.2.2.2 _ q1092)) ⟨by decide, by decide⟩ q1088 (fun t ht => by cases List.mem_singleton.mp ht; exact q1087) q1089 q158 (by omega) (by omega) hst hw hx (n := 0) (by decide +kernel) rfl rfl hd kk
  · exact c_callU (x := x) (xm := ⟨"TreePress$Node", "name", "()[B"⟩) (owner := "TreePress$Node") h hc (As := []) (fun o1 e1 => (hM μ x o1 e1).2.2.1 hz) [13] (by unfold zt; simp [hz]) (by decide) ql q1083 (va_Decl.of (h.2.2.2.2 _ q1082) (h.2.2.2.2 _ q1092)) ⟨by decide, by decide⟩ q1085 (fun t ht => by cases List.mem_singleton.mp ht; exact q1084) q1086 q160 (by omega) (by omega) hst hw hx (n := 0) (by decide +kernel) rfl rfl hd kk
  · exact c_callU (x := x) (xm := ⟨"TreePress$Node", "name", "()[B"⟩) (owner := "TreePress$Node") h hc (As := []) (fun o1 e1 => (hM μ x o1 e1).2.2.2 hz) [14] (by unfold zt; simp [hz]) (by decide) ql q1083 (va_Decl.of (h.2.2.2.2 _ q1082) (h.2.2.2.2 _ q1092)) ⟨by decide, by decide⟩ q1082 (fun t ht => by cases List.mem_singleton.mp ht; exact q1091) q1092 q141 (by omega) (by omega) hst hw hx (n := 0) (by decide +kernel) rfl rfl hd kk
def zc_Dattributes (G : zc_G) (F L : Nat) (dv : MEM → Int → Option zc_O) : Prop := ∀ (μ : MEM) (x : Int), ∀ o, dv μ x = some o → (μ x (-1) = 6 → zc_Met G yX5_attributes cX5_attributes 1 (Option.some FieldType.int) 1 F L μ [zc_rv G x] o) ∧ (μ x (-1) = 11 → zc_Met G yX11_attributes cX11_attributes 1 (Option.some FieldType.int) 1 F L μ [zc_rv G x] o) ∧ (μ x (-1) = 13 → zc_Met G yX5_attributes cX5_attributes 1 (Option.some FieldType.int) 1 F L μ [zc_rv G x] o) ∧ (μ x (-1) = 14 → zc_Met G yX5_attributes cX5_attributes 1 (Option.some FieldType.int) 1 F L μ [zc_rv G x] o)
theorem cd_attributes {C : zv_Cx zc_O} {G : zc_G} {cc : ByteArray} {own : String} {μ0 : MEM} {nL : Nat} {ret : Option FieldType} {rk fr lo : Nat} {nm : String} {xt : List ExceptionTableEntry} {μ : MEM} {lv : List (Nat × Value)} {st : List Value} {pc : Nat} {x : Int} {F L index w : Nat} {dv : MEM → Int → Option zc_O} {k : Int → MEM → Option zc_O} (h : zv_Ok C cc own) (hc : zc_C C G μ0 nL ret rk fr lo nm xt) (hM : zc_Dattributes G F L dv) (hts : zt [6, 11, 13, 14] (μ x (-1)) = true) (ql : Cond.methodLink own index ⟨"TreePress$Node", "attributes", "()I"⟩ ∈ lw_all) (hfr : F + 1 ≤ fr) (hlo : 20 + L ≤ lo) (hst : (st.map fun v => v.category).sum = w) (hw : w ≤ 8) (hx : ∀ z ∈ xt, covers z pc = false) (hd : decode cc pc = .ok (.invokevirtual index, 3))
    (kk : ∀ r μ', zc_rr 1 r → VV C (k r μ') μ' lv ((zc_rt G 1 r).toList ++ st) (pc + 3)) : VV C (bc (dv μ x) k) μ lv (zc_rv G x :: st) pc := by
  obtain ⟨t, ht, hz⟩ := zt_mem hts
  simp only [List.mem_cons, List.not_mem_nil, or_false] at ht
  rcases ht with rfl | rfl | rfl | rfl
  · exact c_callU (x := x) (xm := ⟨"TreePress$Node", "attributes", "()I"⟩) (owner := "TreePress$Node") h hc (As := []) (fun o1 e1 => (hM μ x o1 e1).1 hz) [6] (by unfold zt; simp [hz]) (by decide) ql q1166 (va_Decl.of (h.2.2.2.2 _ q1165) (h.2.2.2.2 _ q1173)) ⟨by decide, by decide⟩ q1165 (fun t ht => by cases List.mem_singleton.mp ht; exact q1171) q1173 q141 (by omega) (by omega) hst hw hx (n := 0) (by decide +kernel) rfl rfl hd kk
  · exact c_callU (x := x) (xm := ⟨"TreePress$Node", "attributes", "()I"⟩) (owner := "TreePress$Node") h hc (As := []) (fun o1 e1 => (hM μ x o1 e1).2.1 hz) [11] (by unfold zt; simp [hz]) (by decide) ql q1166 (va_Decl.of (h.2.2.2.2 _ q1165) (h.2.2.2.2 _ q1173)) ⟨by decide, by decide⟩ q1169 (fun t ht => by cases List.mem_singleton.mp ht; exact q1168) q1170 q158 (by omega) (by omega) hst hw hx (n := 0) (by decide +kernel) rfl rfl hd kk
  · exact c_callU (x := x) (xm := ⟨"TreePress$Node", "attributes", "()I"⟩) (owner := "TreePress$Node") h hc (As := []) (fun o1 e1 => (hM μ x o1 e1).2.2.1 hz) [13] (by unfold zt; simp [hz]) (by decide) ql q1166 (va_Decl.of (h.2.2.2.2 _ q1165) (h.2.2.2.2 _ q1173)) ⟨by decide, by decide⟩ q1165 (fun t ht => by cases List.mem_singleton.mp ht; exact q1167) q1173 q141 (by omega) (by omega) hst hw hx (n := 0) (by decide +kernel) rfl rfl hd kk
  · exact c_callU (x := x) (xm := ⟨"TreePress$Node", "attributes", "()I"⟩) (owner := "TreePress$Node") h hc (As := []) (fun o1 e1 => (hM μ x o1 e1).2.2.2 hz) [14] (by unfold zt; simp [hz]) (by decide) ql q1166 (va_Decl.of (h.2.2.2.2 _ q1165) (h.2.2.2.2 _ q1173)) ⟨by decide, by decide⟩ q1165 (fun t ht => by cases List.mem_singleton.mp ht; exact q1172) q1173 q141 (by omega) (by omega) hst hw hx (n := 0) (by decide +kernel) rfl rfl hd kk
def zc_Dwithin (G : zc_G) (F L : Nat) (dv : MEM → Int → Option zc_O) : Prop := ∀ (μ : MEM) (x : Int), ∀ o, dv μ x = some o → (μ x (-1) = 6 → zc_Met G yX6_within cX6_within 1 (Option.some FieldType.int) 1 F L μ [zc_rv G x] o) ∧ (μ x (-1) = 11 → zc_Met G yX6_within cX6_within 1 (Option.some FieldType.int) 1 F L μ [zc_rv G x] o) ∧ (μ x (-1) = 13 → zc_Met G yX5_within cX5_within 1 (Option.some FieldType.int) 1 F L μ [zc_rv G x] o) ∧ (μ x (-1) = 14 → zc_Met G yX5_within cX5_within 1 (Option.some FieldType.int) 1 F L μ [zc_rv G x] o)
theorem cd_within {C : zv_Cx zc_O} {G : zc_G} {cc : ByteArray} {own : String} {μ0 : MEM} {nL : Nat} {ret : Option FieldType} {rk fr lo : Nat} {nm : String} {xt : List ExceptionTableEntry} {μ : MEM} {lv : List (Nat × Value)} {st : List Value} {pc : Nat} {x : Int} {F L index w : Nat} {dv : MEM → Int → Option zc_O} {k : Int → MEM → Option zc_O} (h : zv_Ok C cc own) (hc : zc_C C G μ0 nL ret rk fr lo nm xt) (hM : zc_Dwithin G F L dv) (hts : zt [6, 11, 13, 14] (μ x (-1)) = true) (ql : Cond.methodLink own index ⟨"TreePress$Node", "within", "()I"⟩ ∈ lw_all) (hfr : F + 1 ≤ fr) (hlo : 20 + L ≤ lo) (hst : (st.map fun v => v.category).sum = w) (hw : w ≤ 8) (hx : ∀ z ∈ xt, covers z pc = false) (hd : decode cc pc = .ok (.invokevirtual index, 3))
    (kk : ∀ r μ', zc_rr 1 r → VV C (k r μ') μ' lv ((zc_rt G 1 r).toList ++ st) (pc + 3)) : VV C (bc (dv μ x) k) μ lv (zc_rv G x :: st) pc := by
  obtain ⟨t, ht, hz⟩ := zt_mem hts
  simp only [List.mem_cons, List.not_mem_nil, or_false] at ht
  rcases ht with rfl | rfl | rfl | rfl
  · exact c_callU (x := x) (xm := ⟨"TreePress$Node", "within", "()I"⟩) (owner := "TreePress$Node") h hc (As := []) (fun o1 e1 => (hM μ x o1 e1).1 hz) [6] (by unfold zt; simp [hz]) (by decide) ql q1176 (va_Decl.of (h.2.2.2.2 _ q1175) (h.2.2.2.2 _ q1183)) ⟨by decide, by decide⟩ q1179 (fun t ht => by cases List.mem_singleton.mp ht; exact q1181) q1180 q142 (by omega) (by omega) hst hw hx (n := 0) (by decide +kernel) rfl rfl hd kk
  · exact c_callU (x := x) (xm := ⟨"TreePress$Node", "within", "()I"⟩) (owner := "TreePress$Node") h hc (As := []) (fun o1 e1 => (hM μ x o1 e1).2.1 hz) [11] (by unfold zt; simp [hz]) (by decide) ql q1176 (va_Decl.of (h.2.2.2.2 _ q1175) (h.2.2.2.2 _ q1183)) ⟨by decide, by decide⟩ q1179 (fun t ht => by cases List.mem_singleton.mp ht; exact q1178) q1180 q142 (by omega) (by omega) hst hw hx (n := 0) (by decide +kernel) rfl rfl hd kk
  · exact c_callU (x := x) (xm := ⟨"TreePress$Node", "within", "()I"⟩) (owner := "TreePress$Node") h hc (As := []) (fun o1 e1 => (hM μ x o1 e1).2.2.1 hz) [13] (by unfold zt; simp [hz]) (by decide) ql q1176 (va_Decl.of (h.2.2.2.2 _ q1175) (h.2.2.2.2 _ q1183)) ⟨by decide, by decide⟩ q1175 (fun t ht => by cases List.mem_singleton.mp ht; exact q1177) q1183 q141 (by omega) (by omega) hst hw hx (n := 0) (by decide +kernel) rfl rfl hd kk
  · exact c_callU (x := x) (xm := ⟨"TreePress$Node", "within", "()I"⟩) (owner := "TreePress$Node") h hc (As := []) (fun o1 e1 => (hM μ x o1 e1).2.2.2 hz) [14] (by unfold zt; simp [hz]) (by decide) ql q1176 (va_Decl.of (h.2.2.2.2 _ q1175) (h.2.2.2.2 _ q1183)) ⟨by decide, by decide⟩ q1175 (fun t ht => by cases List.mem_singleton.mp ht; exact q1182) q1183 q141 (by omega) (by omega) hst hw hx (n := 0) (by decide +kernel) rfl rfl hd kk
def zc_Dsize (G : zc_G) (F L : Nat) (dv : MEM → Int → Option zc_O) : Prop := ∀ (μ : MEM) (x : Int), ∀ o, dv μ x = some o → (μ x (-1) = 6 → zc_Met G yX6_size cX6_size 3 (Option.some FieldType.int) 1 F L μ [zc_rv G x] o) ∧ (μ x (-1) = 11 → zc_Met G yX6_size cX6_size 3 (Option.some FieldType.int) 1 F L μ [zc_rv G x] o) ∧ (μ x (-1) = 13 → zc_Met G yX12_size cX12_size 1 (Option.some FieldType.int) 1 F L μ [zc_rv G x] o) ∧ (μ x (-1) = 14 → zc_Met G yX12_size cX12_size 1 (Option.some FieldType.int) 1 F L μ [zc_rv G x] o)
theorem cd_size {C : zv_Cx zc_O} {G : zc_G} {cc : ByteArray} {own : String} {μ0 : MEM} {nL : Nat} {ret : Option FieldType} {rk fr lo : Nat} {nm : String} {xt : List ExceptionTableEntry} {μ : MEM} {lv : List (Nat × Value)} {st : List Value} {pc : Nat} {x : Int} {F L index w : Nat} {dv : MEM → Int → Option zc_O} {k : Int → MEM → Option zc_O} (h : zv_Ok C cc own) (hc : zc_C C G μ0 nL ret rk fr lo nm xt) (hM : zc_Dsize G F L dv) (hts : zt [6, 11, 13, 14] (μ x (-1)) = true) (ql : Cond.methodLink own index ⟨"TreePress$Node", "size", "()I"⟩ ∈ lw_all) (hfr : F + 1 ≤ fr) (hlo : 22 + L ≤ lo) (hst : (st.map fun v => v.category).sum = w) (hw : w ≤ 8) (hx : ∀ z ∈ xt, covers z pc = false) (hd : decode cc pc = .ok (.invokevirtual index, 3))
    (kk : ∀ r μ', zc_rr 1 r → VV C (k r μ') μ' lv ((zc_rt G 1 r).toList ++ st) (pc + 3)) : VV C (bc (dv μ x) k) μ lv (zc_rv G x :: st) pc := by
  obtain ⟨t, ht, hz⟩ := zt_mem hts
  simp only [List.mem_cons, List.not_mem_nil, or_false] at ht
  rcases ht with rfl | rfl | rfl | rfl
  · exact c_callU (x := x) (xm := ⟨"TreePress$Node", "size", "()I"⟩) (owner := "TreePress$Node") h hc (As := []) (fun o1 e1 => (hM μ x o1 e1).1 hz) [6] (by unfold zt; simp [hz]) (by decide) ql q1151 (va_Decl.abs (hc.1.2.2.2.2.2.2.2.2.2.2.2.2.2.2.2.2.2.2.2.2.2 _ (by decide))) ⟨by decide, by decide⟩ q1156 (fun t ht => by cases List.mem_singleton.mp ht; exact q1162) q1157 q142 (by omega) (by omega) hst hw hx (n := 0) (by decide +kernel) rfl rfl hd kk
  · exact c_callU (x := x) (xm := ⟨"TreePress$Node", "size", "()I"⟩) (owner := "TreePress$Node") h hc (As := []) (fun o1 e1 => (hM μ x o1 e1).2.1 hz) [11] (by unfold zt; simp [hz]) (by decide) ql q1151 (va_Decl.abs (hc.1.2.2.2.2.2.2.2.2.2.2.2.2.2.2.2.2.2.2.2.2.2 _ (by decide))) ⟨by decide, by decide⟩ q1156 (fun t ht => by cases List.mem_singleton.mp ht; exact q1155) q1157 q142 (by omega) (by omega) hst hw hx (n := 0) (by decide +kernel) rfl rfl hd kk
  · exact c_callU (x := x) (xm := ⟨"TreePress$Node", "size", "()I"⟩) (owner := "TreePress$Node") h hc (As := []) (fun o1 e1 => (hM μ x o1 e1).2.2.1 hz) [13] (by unfold zt; simp [hz]) (by decide) ql q1151 (va_Decl.abs (hc.1.2.2.2.2.2.2.2.2.2.2.2.2.2.2.2.2.2.2.2.2.2 _ (by decide))) ⟨by decide, by decide⟩ q1153 (fun t ht => by cases List.mem_singleton.mp ht; exact q1152) q1154 q159 (by omega) (by omega) hst hw hx (n := 0) (by decide +kernel) rfl rfl hd kk
  · exact c_callU (x := x) (xm := ⟨"TreePress$Node", "size", "()I"⟩) (owner := "TreePress$Node") h hc (As := []) (fun o1 e1 => (hM μ x o1 e1).2.2.2 hz) [14] (by unfold zt; simp [hz]) (by decide) ql q1151 (va_Decl.abs (hc.1.2.2.2.2.2.2.2.2.2.2.2.2.2.2.2.2.2.2.2.2.2 _ (by decide))) ⟨by decide, by decide⟩ q1153 (fun t ht => by cases List.mem_singleton.mp ht; exact q1163) q1154 q159 (by omega) (by omega) hst hw hx (n := 0) (by decide +kernel) rfl rfl hd kk
def zc_Dat (G : zc_G) (F L : Nat) (dv : MEM → Int → Int → Option zc_O) : Prop := ∀ (μ : MEM) (x a0 : Int), inR a0 → ∀ o, dv μ x a0 = some o → (μ x (-1) = 6 → zc_Met G yX6_at cX6_at 4 (Option.some FieldType.int) 1 F L μ [zc_rv G x, iv a0] o) ∧ (μ x (-1) = 11 → zc_Met G yX6_at cX6_at 4 (Option.some FieldType.int) 1 F L μ [zc_rv G x, iv a0] o) ∧ (μ x (-1) = 13 → zc_Met G yX12_at cX12_at 2 (Option.some FieldType.int) 1 F L μ [zc_rv G x, iv a0] o) ∧ (μ x (-1) = 14 → zc_Met G yX12_at cX12_at 2 (Option.some FieldType.int) 1 F L μ [zc_rv G x, iv a0] o)
theorem cd_at {C : zv_Cx zc_O} {G : zc_G} {cc : ByteArray} {own : String} {μ0 : MEM} {nL : Nat} {ret : Option FieldType} {rk fr lo : Nat} {nm : String} {xt : List ExceptionTableEntry} {μ : MEM} {lv : List (Nat × Value)} {st : List Value} {pc : Nat} {x a0 : Int} {F L index w : Nat} {dv : MEM → Int → Int → Option zc_O} {k : Int → MEM → Option zc_O} (h : zv_Ok C cc own) (hc : zc_C C G μ0 nL ret rk fr lo nm xt) (hM : zc_Dat G F L dv) (ha0 : inR a0) (hts : zt [6, 11, 13, 14] (μ x (-1)) = true) (ql : Cond.methodLink own index ⟨"TreePress$Node", "at", "(I)I"⟩ ∈ lw_all) (hfr : F + 1 ≤ fr) (hlo : 23 + L ≤ lo) (hst : (st.map fun v => v.category).sum = w) (hw : w ≤ 8) (hx : ∀ z ∈ xt, covers z pc = false) (hd : decode cc pc = .ok (.invokevirtual index, 3))
    (kk : ∀ r μ', zc_rr 1 r → VV C (k r μ') μ' lv ((zc_rt G 1 r).toList ++ st) (pc + 3)) : VV C (bc (dv μ x a0) k) μ lv (iv a0 :: zc_rv G x :: st) pc := by
  obtain ⟨t, ht, hz⟩ := zt_mem hts
  simp only [List.mem_cons, List.not_mem_nil, or_false] at ht
  rcases ht with rfl | rfl | rfl | rfl
  · exact c_callU (x := x) (xm := ⟨"TreePress$Node", "at", "(I)I"⟩) (owner := "TreePress$Node") h hc (As := [iv a0]) (fun o1 e1 => (hM μ x a0 ha0 o1 e1).1 hz) [6] (by unfold zt; simp [hz]) (by decide) ql q1195 (va_Decl.abs (hc.1.2.2.2.2.2.2.2.2.2.2.2.2.2.2.2.2.2.2.2.2.2 _ (by decide))) ⟨by decide, by decide⟩ q1200 (fun t ht => by cases List.mem_singleton.mp ht; exact q1203) q1201 q142 (by omega) (by omega) hst hw hx (n := 1) (by decide +kernel) rfl rfl hd kk
  · exact c_callU (x := x) (xm := ⟨"TreePress$Node", "at", "(I)I"⟩) (owner := "TreePress$Node") h hc (As := [iv a0]) (fun o1 e1 => (hM μ x a0 ha0 o1 e1).2.1 hz) [11] (by unfold zt; simp [hz]) (by decide) ql q1195 (va_Decl.abs (hc.1.2.2.2.2.2.2.2.2.2.2.2.2.2.2.2.2.2.2.2.2.2 _ (by decide))) ⟨by decide, by decide⟩ q1200 (fun t ht => by cases List.mem_singleton.mp ht; exact q1199) q1201 q142 (by omega) (by omega) hst hw hx (n := 1) (by decide +kernel) rfl rfl hd kk
  · exact c_callU (x := x) (xm := ⟨"TreePress$Node", "at", "(I)I"⟩) (owner := "TreePress$Node") h hc (As := [iv a0]) (fun o1 e1 => (hM μ x a0 ha0 o1 e1).2.2.1 hz) [13] (by unfold zt; simp [hz]) (by decide) ql q1195 (va_Decl.abs (hc.1.2.2.2.2.2.2.2.2.2.2.2.2.2.2.2.2.2.2.2.2.2 _ (by decide))) ⟨by decide, by decide⟩ q1197 (fun t ht => by cases List.mem_singleton.mp ht; exact q1196) q1198 q159 (by omega) (by omega) hst hw hx (n := 1) (by decide +kernel) rfl rfl hd kk
  · exact c_callU (x := x) (xm := ⟨"TreePress$Node", "at", "(I)I"⟩) (owner := "TreePress$Node") h hc (As := [iv a0]) (fun o1 e1 => (hM μ x a0 ha0 o1 e1).2.2.2 hz) [14] (by unfold zt; simp [hz]) (by decide) ql q1195 (va_Decl.abs (hc.1.2.2.2.2.2.2.2.2.2.2.2.2.2.2.2.2.2.2.2.2.2 _ (by decide))) ⟨by decide, by decide⟩ q1197 (fun t ht => by cases List.mem_singleton.mp ht; exact q1204) q1198 q159 (by omega) (by omega) hst hw hx (n := 1) (by decide +kernel) rfl rfl hd kk
theorem dX6_kind_0 : decode cX6_kind 0 = .ok (.iconst 0, 1) := by decide +kernel
theorem dX6_kind_1 : decode cX6_kind 1 = .ok (.ireturn, 1) := by decide +kernel
def c_X6_kind (μ : MEM) (a0 : Int) : Option zc_O := some (0, 0, μ)
theorem u_X6_kind {G : zc_G} (μ : MEM) (a0 : Int) (o : zc_O) (hd : c_X6_kind μ a0 = some o) : zc_Met G yX6_kind cX6_kind 1 (Option.some FieldType.int) 1 0 0 μ [zc_rv G a0] o := by
  refine zc_intro hd (by decide) (by simp [lg_sl, zc_rv_cat, iv_cat, jv_cat]) (lv := [(0, zc_rv G a0)]) (by simp [lv_args, zc_rv_cat, iv_cat, jv_cat]) (fun C h hc => ?_)
  have h : zv_Ok C cX6_kind "TreePress$Parent" := h
  have hc : zc_C C G μ 1 (Option.some FieldType.int) 1 0 0 "kind" [] := hc
  have hN : ∀ i, i < 1 → i < zv_n C := fun i q => by rw [hc.2.1]; exact q
  unfold c_X6_kind
  refine r_iconst h dX6_kind_0 ?_
  exact c_iret h hc rfl (by decide) dX6_kind_1
theorem dX11_kind_0 : decode cX11_kind 0 = .ok (.aload_n 0, 1) := by decide +kernel
theorem dX11_kind_1 : decode cX11_kind 1 = .ok (.invokespecial 22, 3) := by decide +kernel
theorem dX11_kind_4 : decode cX11_kind 4 = .ok (.iconst 1, 1) := by decide +kernel
theorem dX11_kind_5 : decode cX11_kind 5 = .ok (.iadd, 1) := by decide +kernel
theorem dX11_kind_6 : decode cX11_kind 6 = .ok (.ireturn, 1) := by decide +kernel
def c_X11_kind (μ : MEM) (a0 : Int) : Option zc_O := ck (zt [11] (μ a0 (-1)) = true) (bc (c_X6_kind μ a0) (fun r2 μ3 => ck (inR (r2 + 1)) (some (0, (r2 + 1), μ3))))
theorem u_X11_kind {G : zc_G} (μ : MEM) (a0 : Int) (o : zc_O) (hd : c_X11_kind μ a0 = some o) : zc_Met G yX11_kind cX11_kind 1 (Option.some FieldType.int) 1 1 20 μ [zc_rv G a0] o := by
  refine zc_intro hd (by decide) (by simp [lg_sl, zc_rv_cat, iv_cat, jv_cat]) (lv := [(0, zc_rv G a0)]) (by simp [lv_args, zc_rv_cat, iv_cat, jv_cat]) (fun C h hc => ?_)
  have h : zv_Ok C cX11_kind "TreePress$Element" := h
  have hc : zc_C C G μ 1 (Option.some FieldType.int) 1 1 20 "kind" [] := hc
  have hN : ∀ i, i < 1 → i < zv_n C := fun i q => by rw [hc.2.1]; exact q
  unfold c_X11_kind
  refine c_aload_n (x := a0) h 0 dX11_kind_0 rfl rfl ?_
  refine r_ck (fun ht1 => ?_)
  refine c_callSU (x := a0) h hc (As := []) (fun o1 e1 => u_X6_kind _ a0 o1 e1) [11] ht1 (by decide) q1107 q2215 q938 q1108 (by decide) q1109 q142 (by omega) (by omega) zc_s0 (by omega) (fun z hz => by cases hz) ⟨by decide, by decide⟩ (n := 0) (by decide +kernel) rfl rfl dX11_kind_1 (fun r2 μ3 hr4 => r_k1 ?_)
  refine r_iconst h dX11_kind_4 ?_
  refine r_iadd h dX11_kind_5 ?_
  refine r_ck (fun hk5 => ?_)
  exact c_iret h hc rfl hk5 dX11_kind_6
theorem dX13_kind_0 : decode cX13_kind 0 = .ok (.iconst 2, 1) := by decide +kernel
theorem dX13_kind_1 : decode cX13_kind 1 = .ok (.ireturn, 1) := by decide +kernel
def c_X13_kind (μ : MEM) (a0 : Int) : Option zc_O := some (0, 2, μ)
theorem u_X13_kind {G : zc_G} (μ : MEM) (a0 : Int) (o : zc_O) (hd : c_X13_kind μ a0 = some o) : zc_Met G yX13_kind cX13_kind 1 (Option.some FieldType.int) 1 0 0 μ [zc_rv G a0] o := by
  refine zc_intro hd (by decide) (by simp [lg_sl, zc_rv_cat, iv_cat, jv_cat]) (lv := [(0, zc_rv G a0)]) (by simp [lv_args, zc_rv_cat, iv_cat, jv_cat]) (fun C h hc => ?_)
  have h : zv_Ok C cX13_kind "TreePress$Attribute" := h
  have hc : zc_C C G μ 1 (Option.some FieldType.int) 1 0 0 "kind" [] := hc
  have hN : ∀ i, i < 1 → i < zv_n C := fun i q => by rw [hc.2.1]; exact q
  unfold c_X13_kind
  refine r_iconst h dX13_kind_0 ?_
  exact c_iret h hc rfl (by decide) dX13_kind_1
theorem dX14_kind_0 : decode cX14_kind 0 = .ok (.iconst 3, 1) := by decide +kernel
theorem dX14_kind_1 : decode cX14_kind 1 = .ok (.ireturn, 1) := by decide +kernel
def c_X14_kind (μ : MEM) (a0 : Int) : Option zc_O := some (0, 3, μ)
theorem u_X14_kind {G : zc_G} (μ : MEM) (a0 : Int) (o : zc_O) (hd : c_X14_kind μ a0 = some o) : zc_Met G yX14_kind cX14_kind 1 (Option.some FieldType.int) 1 0 0 μ [zc_rv G a0] o := by
  refine zc_intro hd (by decide) (by simp [lg_sl, zc_rv_cat, iv_cat, jv_cat]) (lv := [(0, zc_rv G a0)]) (by simp [lv_args, zc_rv_cat, iv_cat, jv_cat]) (fun C h hc => ?_)
  have h : zv_Ok C cX14_kind "TreePress$Text" := h
  have hc : zc_C C G μ 1 (Option.some FieldType.int) 1 0 0 "kind" [] := hc
  have hN : ∀ i, i < 1 → i < zv_n C := fun i q => by rw [hc.2.1]; exact q
  unfold c_X14_kind
  refine r_iconst h dX14_kind_0 ?_
  exact c_iret h hc rfl (by decide) dX14_kind_1
theorem dX5_name_0 : decode cX5_name 0 = .ok (.iconst 0, 1) := by decide +kernel
theorem dX5_name_1 : decode cX5_name 1 = .ok (.newarray .byte, 2) := by decide +kernel
theorem dX5_name_3 : decode cX5_name 3 = .ok (.areturn, 1) := by decide +kernel
def c_X5_name (μ : MEM) (a0 : Int) : Option zc_O := ck ((0 : Int) ≤ 0 ∧ 0 ≤ 1000000) (ck (1 ≤ μ 0 1 ∧ 0 ≤ μ 0 2) (nu (mnew μ 31 0 0) (fun μ1 => some (0, (μ 0 0), μ1))))
theorem u_X5_name {G : zc_G} (μ : MEM) (a0 : Int) (o : zc_O) (hd : c_X5_name μ a0 = some o) : zc_Met G yX5_name cX5_name 1 (Option.some (FieldType.array FieldType.byte)) 4 0 0 μ [zc_rv G a0] o := by
  refine zc_intro hd (by decide) (by simp [lg_sl, zc_rv_cat, iv_cat, jv_cat]) (lv := [(0, zc_rv G a0)]) (by simp [lv_args, zc_rv_cat, iv_cat, jv_cat]) (fun C h hc => ?_)
  have h : zv_Ok C cX5_name "TreePress$Node" := h
  have hc : zc_C C G μ 1 (Option.some (FieldType.array FieldType.byte)) 4 0 0 "name" [] := hc
  have hN : ∀ i, i < 1 → i < zv_n C := fun i q => by rw [hc.2.1]; exact q
  unfold c_X5_name
  refine r_iconst h dX5_name_0 ?_
  refine c_naB (x := 0) h hc rfl q203 (by decide) dX5_name_1 (fun _ _ μ1 he2 => ?_)
  exact c_aret h hc rfl (Or.inr ⟨_, rfl⟩) dX5_name_3
theorem dX11_name_0 : decode cX11_name 0 = .ok (.aload_n 0, 1) := by decide +kernel
theorem dX11_name_1 : decode cX11_name 1 = .ok (.getfield 18, 3) := by decide +kernel
theorem dX11_name_4 : decode cX11_name 4 = .ok (.areturn, 1) := by decide +kernel
def c_X11_name (μ : MEM) (a0 : Int) : Option zc_O := ck (zt [11] (μ a0 (-1)) = true) (some (0, (μ a0 4), μ))
theorem u_X11_name {G : zc_G} (μ : MEM) (a0 : Int) (o : zc_O) (hd : c_X11_name μ a0 = some o) : zc_Met G yX11_name cX11_name 1 (Option.some (FieldType.array FieldType.byte)) 4 0 0 μ [zc_rv G a0] o := by
  refine zc_intro hd (by decide) (by simp [lg_sl, zc_rv_cat, iv_cat, jv_cat]) (lv := [(0, zc_rv G a0)]) (by simp [lv_args, zc_rv_cat, iv_cat, jv_cat]) (fun C h hc => ?_)
  have h : zv_Ok C cX11_name "TreePress$Element" := h
  have hc : zc_C C G μ 1 (Option.some (FieldType.array FieldType.byte)) 4 0 0 "name" [] := hc
  have hN : ∀ i, i < 1 → i < zv_n C := fun i q => by rw [hc.2.1]; exact q
  unfold c_X11_name
  refine c_aload_n (x := a0) h 0 dX11_name_0 rfl rfl ?_
  refine r_ck (fun ht1 => ?_)
  refine c_getR (fin := true) h hc [11] 4 (zc_lk1 h q923) ht1 (by decide) dX11_name_1 ?_
  exact c_aret h hc rfl (Or.inr ⟨_, rfl⟩) dX11_name_4
theorem dX13_name_0 : decode cX13_name 0 = .ok (.aload_n 0, 1) := by decide +kernel
theorem dX13_name_1 : decode cX13_name 1 = .ok (.getfield 7, 3) := by decide +kernel
theorem dX13_name_4 : decode cX13_name 4 = .ok (.areturn, 1) := by decide +kernel
def c_X13_name (μ : MEM) (a0 : Int) : Option zc_O := ck (zt [13] (μ a0 (-1)) = true) (some (0, (μ a0 7), μ))
theorem u_X13_name {G : zc_G} (μ : MEM) (a0 : Int) (o : zc_O) (hd : c_X13_name μ a0 = some o) : zc_Met G yX13_name cX13_name 1 (Option.some (FieldType.array FieldType.byte)) 4 0 0 μ [zc_rv G a0] o := by
  refine zc_intro hd (by decide) (by simp [lg_sl, zc_rv_cat, iv_cat, jv_cat]) (lv := [(0, zc_rv G a0)]) (by simp [lv_args, zc_rv_cat, iv_cat, jv_cat]) (fun C h hc => ?_)
  have h : zv_Ok C cX13_name "TreePress$Attribute" := h
  have hc : zc_C C G μ 1 (Option.some (FieldType.array FieldType.byte)) 4 0 0 "name" [] := hc
  have hN : ∀ i, i < 1 → i < zv_n C := fun i q => by rw [hc.2.1]; exact q
  unfold c_X13_name
  refine c_aload_n (x := a0) h 0 dX13_name_0 rfl rfl ?_
  refine r_ck (fun ht1 => ?_)
  refine c_getR (fin := true) h hc [13] 7 (zc_lk1 h q967) ht1 (by decide) dX13_name_1 ?_
  exact c_aret h hc rfl (Or.inr ⟨_, rfl⟩) dX13_name_4
theorem dX5_attributes_0 : decode cX5_attributes 0 = .ok (.iconst 0, 1) := by decide +kernel
theorem dX5_attributes_1 : decode cX5_attributes 1 = .ok (.ireturn, 1) := by decide +kernel
def c_X5_attributes (μ : MEM) (a0 : Int) : Option zc_O := some (0, 0, μ)
theorem u_X5_attributes {G : zc_G} (μ : MEM) (a0 : Int) (o : zc_O) (hd : c_X5_attributes μ a0 = some o) : zc_Met G yX5_attributes cX5_attributes 1 (Option.some FieldType.int) 1 0 0 μ [zc_rv G a0] o := by
  refine zc_intro hd (by decide) (by simp [lg_sl, zc_rv_cat, iv_cat, jv_cat]) (lv := [(0, zc_rv G a0)]) (by simp [lv_args, zc_rv_cat, iv_cat, jv_cat]) (fun C h hc => ?_)
  have h : zv_Ok C cX5_attributes "TreePress$Node" := h
  have hc : zc_C C G μ 1 (Option.some FieldType.int) 1 0 0 "attributes" [] := hc
  have hN : ∀ i, i < 1 → i < zv_n C := fun i q => by rw [hc.2.1]; exact q
  unfold c_X5_attributes
  refine r_iconst h dX5_attributes_0 ?_
  exact c_iret h hc rfl (by decide) dX5_attributes_1
theorem dX11_attributes_0 : decode cX11_attributes 0 = .ok (.aload_n 0, 1) := by decide +kernel
theorem dX11_attributes_1 : decode cX11_attributes 1 = .ok (.getfield 12, 3) := by decide +kernel
theorem dX11_attributes_4 : decode cX11_attributes 4 = .ok (.invokevirtual 26, 3) := by decide +kernel
theorem dX11_attributes_7 : decode cX11_attributes 7 = .ok (.ireturn, 1) := by decide +kernel
def c_X11_attributes (μ : MEM) (a0 : Int) : Option zc_O := ck (zt [11] (μ a0 (-1)) = true) (ck (zt [40] (μ (μ a0 5) (-1)) = true) (bc (b_lsize μ (μ a0 5)) (fun r3 μ4 => some (0, r3, μ4))))
theorem u_X11_attributes {G : zc_G} (μ : MEM) (a0 : Int) (o : zc_O) (hd : c_X11_attributes μ a0 = some o) : zc_Met G yX11_attributes cX11_attributes 1 (Option.some FieldType.int) 1 1 20 μ [zc_rv G a0] o := by
  refine zc_intro hd (by decide) (by simp [lg_sl, zc_rv_cat, iv_cat, jv_cat]) (lv := [(0, zc_rv G a0)]) (by simp [lv_args, zc_rv_cat, iv_cat, jv_cat]) (fun C h hc => ?_)
  have h : zv_Ok C cX11_attributes "TreePress$Element" := h
  have hc : zc_C C G μ 1 (Option.some FieldType.int) 1 1 20 "attributes" [] := hc
  have hN : ∀ i, i < 1 → i < zv_n C := fun i q => by rw [hc.2.1]; exact q
  unfold c_X11_attributes
  refine c_aload_n (x := a0) h 0 dX11_attributes_0 rfl rfl ?_
  refine r_ck (fun ht1 => ?_)
  refine c_getR (fin := true) h hc [11] 5 (zc_lk1 h q926) ht1 (by decide) dX11_attributes_1 ?_
  refine r_ck (fun ht2 => ?_)
  refine c_callV (x := (μ a0 5)) h hc (As := []) (fun o1 e1 => w_lsize _ (μ a0 5) o1 e1) [40] ht2 (by decide) q953 q343 (fun t ht => by cases List.mem_singleton.mp ht; exact q344) q345 q135 (by omega) (by omega) zc_s0 (by omega) (fun z hz => by cases hz) ⟨by decide, by decide⟩ (n := 0) (by decide +kernel) rfl rfl dX11_attributes_4 (fun r3 μ4 hr5 => r_k1 ?_)
  exact c_iret h hc rfl hr5 dX11_attributes_7
theorem dX6_within_0 : decode cX6_within 0 = .ok (.aload_n 0, 1) := by decide +kernel
theorem dX6_within_1 : decode cX6_within 1 = .ok (.getfield 12, 3) := by decide +kernel
theorem dX6_within_4 : decode cX6_within 4 = .ok (.invokevirtual 18, 3) := by decide +kernel
theorem dX6_within_7 : decode cX6_within 7 = .ok (.ireturn, 1) := by decide +kernel
def c_X6_within (μ : MEM) (a0 : Int) : Option zc_O := ck (zt [6, 11] (μ a0 (-1)) = true) (ck (zt [40] (μ (μ a0 2) (-1)) = true) (bc (b_lsize μ (μ a0 2)) (fun r3 μ4 => some (0, r3, μ4))))
theorem u_X6_within {G : zc_G} (μ : MEM) (a0 : Int) (o : zc_O) (hd : c_X6_within μ a0 = some o) : zc_Met G yX6_within cX6_within 1 (Option.some FieldType.int) 1 1 20 μ [zc_rv G a0] o := by
  refine zc_intro hd (by decide) (by simp [lg_sl, zc_rv_cat, iv_cat, jv_cat]) (lv := [(0, zc_rv G a0)]) (by simp [lv_args, zc_rv_cat, iv_cat, jv_cat]) (fun C h hc => ?_)
  have h : zv_Ok C cX6_within "TreePress$Parent" := h
  have hc : zc_C C G μ 1 (Option.some FieldType.int) 1 1 20 "within" [] := hc
  have hN : ∀ i, i < 1 → i < zv_n C := fun i q => by rw [hc.2.1]; exact q
  unfold c_X6_within
  refine c_aload_n (x := a0) h 0 dX6_within_0 rfl rfl ?_
  refine r_ck (fun ht1 => ?_)
  refine c_getR (fin := true) h hc [6, 11] 2 (zc_lk1 h q308) ht1 (by decide) dX6_within_1 ?_
  refine r_ck (fun ht2 => ?_)
  refine c_callV (x := (μ a0 2)) h hc (As := []) (fun o1 e1 => w_lsize _ (μ a0 2) o1 e1) [40] ht2 (by decide) q1158 q343 (fun t ht => by cases List.mem_singleton.mp ht; exact q344) q345 q135 (by omega) (by omega) zc_s0 (by omega) (fun z hz => by cases hz) ⟨by decide, by decide⟩ (n := 0) (by decide +kernel) rfl rfl dX6_within_4 (fun r3 μ4 hr5 => r_k1 ?_)
  exact c_iret h hc rfl hr5 dX6_within_7
theorem dX5_within_0 : decode cX5_within 0 = .ok (.iconst 0, 1) := by decide +kernel
theorem dX5_within_1 : decode cX5_within 1 = .ok (.ireturn, 1) := by decide +kernel
def c_X5_within (μ : MEM) (a0 : Int) : Option zc_O := some (0, 0, μ)
theorem u_X5_within {G : zc_G} (μ : MEM) (a0 : Int) (o : zc_O) (hd : c_X5_within μ a0 = some o) : zc_Met G yX5_within cX5_within 1 (Option.some FieldType.int) 1 0 0 μ [zc_rv G a0] o := by
  refine zc_intro hd (by decide) (by simp [lg_sl, zc_rv_cat, iv_cat, jv_cat]) (lv := [(0, zc_rv G a0)]) (by simp [lv_args, zc_rv_cat, iv_cat, jv_cat]) (fun C h hc => ?_)
  have h : zv_Ok C cX5_within "TreePress$Node" := h
  have hc : zc_C C G μ 1 (Option.some FieldType.int) 1 0 0 "within" [] := hc
  have hN : ∀ i, i < 1 → i < zv_n C := fun i q => by rw [hc.2.1]; exact q
  unfold c_X5_within
  refine r_iconst h dX5_within_0 ?_
  exact c_iret h hc rfl (by decide) dX5_within_1
theorem dX12_size_0 : decode cX12_size 0 = .ok (.aload_n 0, 1) := by decide +kernel
theorem dX12_size_1 : decode cX12_size 1 = .ok (.getfield 7, 3) := by decide +kernel
theorem dX12_size_4 : decode cX12_size 4 = .ok (.arraylength, 1) := by decide +kernel
theorem dX12_size_5 : decode cX12_size 5 = .ok (.ireturn, 1) := by decide +kernel
def c_X12_size (μ : MEM) (a0 : Int) : Option zc_O := ck (zt [13, 14] (μ a0 (-1)) = true) (ck (zt [30, 31] (μ (μ a0 6) (-1)) = true) (some (0, (μ (μ a0 6) (-2)), μ)))
theorem u_X12_size {G : zc_G} (μ : MEM) (a0 : Int) (o : zc_O) (hd : c_X12_size μ a0 = some o) : zc_Met G yX12_size cX12_size 1 (Option.some FieldType.int) 1 0 0 μ [zc_rv G a0] o := by
  refine zc_intro hd (by decide) (by simp [lg_sl, zc_rv_cat, iv_cat, jv_cat]) (lv := [(0, zc_rv G a0)]) (by simp [lv_args, zc_rv_cat, iv_cat, jv_cat]) (fun C h hc => ?_)
  have h : zv_Ok C cX12_size "TreePress$Row" := h
  have hc : zc_C C G μ 1 (Option.some FieldType.int) 1 0 0 "size" [] := hc
  have hN : ∀ i, i < 1 → i < zv_n C := fun i q => by rw [hc.2.1]; exact q
  unfold c_X12_size
  refine c_aload_n (x := a0) h 0 dX12_size_0 rfl rfl ?_
  refine r_ck (fun ht1 => ?_)
  refine c_getR (fin := true) h hc [13, 14] 6 (zc_lk1 h q974) ht1 (by decide) dX12_size_1 ?_
  refine r_ck (fun ht2 => ?_)
  refine c_alen h hc [30, 31] ht2 (by decide) dX12_size_4 (fun hr3 => ?_)
  exact c_iret h hc rfl hr3 dX12_size_5
theorem dX12_at_0 : decode cX12_at 0 = .ok (.aload_n 0, 1) := by decide +kernel
theorem dX12_at_1 : decode cX12_at 1 = .ok (.getfield 7, 3) := by decide +kernel
theorem dX12_at_4 : decode cX12_at 4 = .ok (.iload_n 1, 1) := by decide +kernel
theorem dX12_at_5 : decode cX12_at 5 = .ok (.baload, 1) := by decide +kernel
theorem dX12_at_6 : decode cX12_at 6 = .ok (.ireturn, 1) := by decide +kernel
def c_X12_at (μ : MEM) (a0 a1 : Int) : Option zc_O := ck (zt [13, 14] (μ a0 (-1)) = true) (ck (zt [30, 31] (μ (μ a0 6) (-1)) = true) (ck ((0 : Int) ≤ a1 ∧ a1 < μ (μ a0 6) (-2)) (some (0, (μ (μ a0 6) a1), μ))))
theorem u_X12_at {G : zc_G} (μ : MEM) (a0 a1 : Int) (ha1 : inR a1) (o : zc_O) (hd : c_X12_at μ a0 a1 = some o) : zc_Met G yX12_at cX12_at 2 (Option.some FieldType.int) 1 0 0 μ [zc_rv G a0, iv a1] o := by
  refine zc_intro hd (by decide) (by simp [lg_sl, zc_rv_cat, iv_cat, jv_cat]) (lv := [(0, zc_rv G a0), (1, iv a1)]) (by simp [lv_args, zc_rv_cat, iv_cat, jv_cat]) (fun C h hc => ?_)
  have h : zv_Ok C cX12_at "TreePress$Row" := h
  have hc : zc_C C G μ 2 (Option.some FieldType.int) 1 0 0 "at" [] := hc
  have hN : ∀ i, i < 2 → i < zv_n C := fun i q => by rw [hc.2.1]; exact q
  unfold c_X12_at
  refine c_aload_n (x := a0) h 0 dX12_at_0 rfl rfl ?_
  refine r_ck (fun ht1 => ?_)
  refine c_getR (fin := true) h hc [13, 14] 6 (zc_lk1 h q974) ht1 (by decide) dX12_at_1 ?_
  refine r_iload_n h 1 dX12_at_4 rfl rfl ?_
  refine r_ck (fun ht2 => ?_)
  refine c_ldB h hc ht2 dX12_at_5 (fun _ hr3 => ?_)
  exact c_iret h hc rfl hr3.r dX12_at_6
def dv_kind (μ : MEM) (x : Int) : Option zc_O := if μ x (-1) = 6 then c_X6_kind μ x else if μ x (-1) = 11 then c_X11_kind μ x else if μ x (-1) = 13 then c_X13_kind μ x else if μ x (-1) = 14 then c_X14_kind μ x else none
theorem dm_kind {G : zc_G} : zc_Dkind G 1 20 dv_kind := by
  intro μ x o ho
  unfold dv_kind at ho
  refine ⟨fun e => ?_, fun e => ?_, fun e => ?_, fun e => ?_⟩ <;> (rw [e] at ho; simp only [if_pos, if_neg, reduceIte, Int.reduceEq] at ho)
  · exact (u_X6_kind _ _ _ ho).mono (by omega) (by omega)
  · exact (u_X11_kind _ _ _ ho).mono (by omega) (by omega)
  · exact (u_X13_kind _ _ _ ho).mono (by omega) (by omega)
  · exact (u_X14_kind _ _ _ ho).mono (by omega) (by omega)
def dv_name (μ : MEM) (x : Int) : Option zc_O := if μ x (-1) = 6 then c_X5_name μ x else if μ x (-1) = 11 then c_X11_name μ x else if μ x (-1) = 13 then c_X13_name μ x else if μ x (-1) = 14 then c_X5_name μ x else none
theorem dm_name {G : zc_G} : zc_Dname G 0 0 dv_name := by
  intro μ x o ho
  unfold dv_name at ho
  refine ⟨fun e => ?_, fun e => ?_, fun e => ?_, fun e => ?_⟩ <;> (rw [e] at ho; simp only [if_pos, if_neg, reduceIte, Int.reduceEq] at ho)
  · exact (u_X5_name _ _ _ ho).mono (by omega) (by omega)
  · exact (u_X11_name _ _ _ ho).mono (by omega) (by omega)
  · exact (u_X13_name _ _ _ ho).mono (by omega) (by omega)
  · exact (u_X5_name _ _ _ ho).mono (by omega) (by omega)
def dv_attributes (μ : MEM) (x : Int) : Option zc_O := if μ x (-1) = 6 then c_X5_attributes μ x else if μ x (-1) = 11 then c_X11_attributes μ x else if μ x (-1) = 13 then c_X5_attributes μ x else if μ x (-1) = 14 then c_X5_attributes μ x else none
theorem dm_attributes {G : zc_G} : zc_Dattributes G 1 20 dv_attributes := by
  intro μ x o ho
  unfold dv_attributes at ho
  refine ⟨fun e => ?_, fun e => ?_, fun e => ?_, fun e => ?_⟩ <;> (rw [e] at ho; simp only [if_pos, if_neg, reduceIte, Int.reduceEq] at ho)
  · exact (u_X5_attributes _ _ _ ho).mono (by omega) (by omega)
  · exact (u_X11_attributes _ _ _ ho).mono (by omega) (by omega)
  · exact (u_X5_attributes _ _ _ ho).mono (by omega) (by omega)
  · exact (u_X5_attributes _ _ _ ho).mono (by omega) (by omega)
def dv_within (μ : MEM) (x : Int) : Option zc_O := if μ x (-1) = 6 then c_X6_within μ x else if μ x (-1) = 11 then c_X6_within μ x else if μ x (-1) = 13 then c_X5_within μ x else if μ x (-1) = 14 then c_X5_within μ x else none
theorem dm_within {G : zc_G} : zc_Dwithin G 1 20 dv_within := by
  intro μ x o ho
  unfold dv_within at ho
  refine ⟨fun e => ?_, fun e => ?_, fun e => ?_, fun e => ?_⟩ <;> (rw [e] at ho; simp only [if_pos, if_neg, reduceIte, Int.reduceEq] at ho)
  · exact (u_X6_within _ _ _ ho).mono (by omega) (by omega)
  · exact (u_X6_within _ _ _ ho).mono (by omega) (by omega)
  · exact (u_X5_within _ _ _ ho).mono (by omega) (by omega)
  · exact (u_X5_within _ _ _ ho).mono (by omega) (by omega)
theorem dX6_size_0 : decode cX6_size 0 = .ok (.iconst 0, 1) := by decide +kernel
theorem dX6_size_1 : decode cX6_size 1 = .ok (.istore_n 1, 1) := by decide +kernel
theorem dX6_size_2 : decode cX6_size 2 = .ok (.iconst 0, 1) := by decide +kernel
theorem dX6_size_3 : decode cX6_size 3 = .ok (.istore_n 2, 1) := by decide +kernel
theorem dX6_size_4 : decode cX6_size 4 = .ok (.iload_n 2, 1) := by decide +kernel
theorem dX6_size_5 : decode cX6_size 5 = .ok (.aload_n 0, 1) := by decide +kernel
theorem dX6_size_6 : decode cX6_size 6 = .ok (.getfield 12, 3) := by decide +kernel
theorem dX6_size_9 : decode cX6_size 9 = .ok (.invokevirtual 18, 3) := by decide +kernel
theorem dX6_size_12 : decode cX6_size 12 = .ok (.if_icmp .ge 26, 3) := by decide +kernel
theorem dX6_size_15 : decode cX6_size 15 = .ok (.iload_n 1, 1) := by decide +kernel
theorem dX6_size_16 : decode cX6_size 16 = .ok (.aload_n 0, 1) := by decide +kernel
theorem dX6_size_17 : decode cX6_size 17 = .ok (.getfield 12, 3) := by decide +kernel
theorem dX6_size_20 : decode cX6_size 20 = .ok (.iload_n 2, 1) := by decide +kernel
theorem dX6_size_21 : decode cX6_size 21 = .ok (.invokevirtual 22, 3) := by decide +kernel
theorem dX6_size_24 : decode cX6_size 24 = .ok (.checkcast 2, 3) := by decide +kernel
theorem dX6_size_27 : decode cX6_size 27 = .ok (.invokevirtual 26, 3) := by decide +kernel
theorem dX6_size_30 : decode cX6_size 30 = .ok (.iadd, 1) := by decide +kernel
theorem dX6_size_31 : decode cX6_size 31 = .ok (.istore_n 1, 1) := by decide +kernel
theorem dX6_size_32 : decode cX6_size 32 = .ok (.iinc 2 1, 3) := by decide +kernel
theorem dX6_size_35 : decode cX6_size 35 = .ok (.goto (-31), 3) := by decide +kernel
theorem dX6_size_38 : decode cX6_size 38 = .ok (.iload_n 1, 1) := by decide +kernel
theorem dX6_size_39 : decode cX6_size 39 = .ok (.ireturn, 1) := by decide +kernel
def c_X6_size_4 (rsize : MEM → Int → Option zc_O) : Nat → MEM → Int → Int → Int → Option zc_O
  | 0, _, _, _, _ => none
  | n + 1, μ, x0, x1, x2 => ck (zt [6, 11] (μ x0 (-1)) = true) (ck (zt [40] (μ (μ x0 2) (-1)) = true) (bc (b_lsize μ (μ x0 2)) (fun r3 μ4 => if r3 ≤ x2 then (some (0, x1, μ4)) else (ck (zt [6, 11] (μ4 x0 (-1)) = true) (ck (zt [40] (μ4 (μ4 x0 2) (-1)) = true) (bc (b_lget μ4 (μ4 x0 2) x2) (fun r8 μ9 => ck (zt [6, 11, 13, 14] (μ9 r8 (-1)) = true) (bc (rsize μ9 r8) (fun r12 μ13 => ck (inR (x1 + r12)) (ck (inR (x2 + 1)) (c_X6_size_4 rsize n μ13 x0 (x1 + r12) (x2 + 1))))))))))))
theorem u_X6_size_4 {C : zv_Cx zc_O} {G : zc_G} {μ0 : MEM} {F L FRv LOv : Nat} (hfr1 : F + 1 ≤ FRv) (hfr2 : 3 ≤ FRv) (hlo1 : L + 40 ≤ LOv) (hlo2 : 64 ≤ LOv) (h : zv_Ok C cX6_size "TreePress$Parent") (hc : zc_C C G μ0 3 (Option.some FieldType.int) 1 FRv LOv "size" []) (rsize : MEM → Int → Option zc_O) (hrsize : zc_Dsize G F L rsize) : ∀ (n : Nat) (μ : MEM) (x0 x1 x2 : Int), inR x1 → inR x2 → VV C (c_X6_size_4 rsize n μ x0 x1 x2) μ [(0, zc_rv G x0), (1, iv x1), (2, iv x2)] [] 4 := by
  have hN : ∀ i, i < 3 → i < zv_n C := fun i q => by rw [hc.2.1]; exact q
  intro n
  induction n with
  | zero => intros; exact r_none
  | succ n ih =>
    intro μ x0 x1 x2 hx1 hx2
    rw [c_X6_size_4]
    refine r_iload_n h 2 dX6_size_4 rfl rfl ?_
    refine c_aload_n (x := x0) h 0 dX6_size_5 rfl rfl ?_
    refine r_ck (fun ht1 => ?_)
    refine c_getR (fin := true) h hc [6, 11] 2 (zc_lk1 h q308) ht1 (by decide) dX6_size_6 ?_
    refine r_ck (fun ht2 => ?_)
    refine c_callV (x := (μ x0 2)) h hc (As := []) (fun o1 e1 => w_lsize _ (μ x0 2) o1 e1) [40] ht2 (by decide) q1158 q343 (fun t ht => by cases List.mem_singleton.mp ht; exact q344) q345 q135 (by omega) (by omega) (zc_sc (iv_cat _) zc_s0) (by omega) (fun z hz => by cases hz) ⟨by decide, by decide⟩ (n := 0) (by decide +kernel) rfl rfl dX6_size_9 (fun r3 μ4 hr5 => r_k1 ?_)
    refine r_icmp_ge (x := x2) (y := r3) h hx2 hr5 38 dX6_size_12 rfl ?_ ?_
    · refine r_iload_n h 1 dX6_size_38 rfl rfl ?_
      exact c_iret h hc rfl hx1 dX6_size_39
    · refine r_iload_n h 1 dX6_size_15 rfl rfl ?_
      refine c_aload_n (x := x0) h 0 dX6_size_16 rfl rfl ?_
      refine r_ck (fun ht6 => ?_)
      refine c_getR (fin := true) h hc [6, 11] 2 (zc_lk1 h q308) ht6 (by decide) dX6_size_17 ?_
      refine r_iload_n h 2 dX6_size_20 rfl rfl ?_
      refine r_ck (fun ht7 => ?_)
      refine c_callV (x := (μ4 x0 2)) h hc (As := [iv x2]) (fun o1 e1 => w_lget _ (μ4 x0 2) x2 hx2 o1 e1) [40] ht7 (by decide) q1159 q844 (fun t ht => by cases List.mem_singleton.mp ht; exact q845) q846 q135 (by omega) (by omega) (zc_sc (iv_cat _) zc_s0) (by omega) (fun z hz => by cases hz) ⟨by decide, by decide⟩ (n := 1) (by decide +kernel) rfl rfl dX6_size_21 (fun r8 μ9 hr10 => r_k4 ?_)
      refine r_ck (fun ht11 => ?_)
      refine c_cast h hc [6, 11, 13, 14] q1160 ht11 (by decide) dX6_size_24 ?_
      refine cd_size (x := r8)  h hc (hM := hrsize) ht11 q1161 (by omega) (by omega) (zc_sc (iv_cat _) zc_s0) (by omega) (fun z hz => by cases hz) dX6_size_27 (fun r12 μ13 hr14 => r_k1 ?_)
      refine r_iadd h dX6_size_30 ?_
      refine r_istore_n (i := 1) (lv' := [(1, iv (x1 + r12)), (0, zc_rv G x0), (2, iv x2)]) h dX6_size_31 rfl (hN _ (by decide)) (by simp [zc_rv_cat]) ?_
      refine r_iinc (lv' := [(2, iv (x2 + 1)), (1, iv (x1 + r12)), (0, zc_rv G x0)]) h 2 dX6_size_32 rfl (hN _ (by decide)) rfl ?_
      refine r_goto h 4 dX6_size_35 rfl ?_
      refine r_ck (fun hk15 => ?_)
      refine r_ck (fun hk16 => ?_)
      exact r_lv [2, 1, 0] rfl (ih _ x0 (x1 + r12) (x2 + 1) hk15 hk16)
def c_X6_size (rsize : MEM → Int → Option zc_O) (μ : MEM) (a0 : Int) : Option zc_O := c_X6_size_4 rsize zF μ a0 0 0
theorem u_X6_size {G : zc_G} {F L FRv LOv : Nat} (hfr1 : F + 1 ≤ FRv) (hfr2 : 3 ≤ FRv) (hlo1 : L + 40 ≤ LOv) (hlo2 : 64 ≤ LOv) (rsize : MEM → Int → Option zc_O) (hrsize : zc_Dsize G F L rsize) (μ : MEM) (a0 : Int) (o : zc_O) (hd : c_X6_size rsize μ a0 = some o) : zc_Met G yX6_size cX6_size 3 (Option.some FieldType.int) 1 FRv LOv μ [zc_rv G a0] o := by
  refine zc_intro hd (by decide) (by simp [lg_sl, zc_rv_cat, iv_cat, jv_cat]) (lv := [(0, zc_rv G a0)]) (by simp [lv_args, zc_rv_cat, iv_cat, jv_cat]) (fun C h hc => ?_)
  have h : zv_Ok C cX6_size "TreePress$Parent" := h
  have hc : zc_C C G μ 3 (Option.some FieldType.int) 1 FRv LOv "size" [] := hc
  have hN : ∀ i, i < 3 → i < zv_n C := fun i q => by rw [hc.2.1]; exact q
  unfold c_X6_size
  refine r_iconst h dX6_size_0 ?_
  refine r_istore_n (i := 1) (lv' := [(1, iv 0), (0, zc_rv G a0)]) h dX6_size_1 rfl (hN _ (by decide)) (by simp [zc_rv_cat]) ?_
  refine r_iconst h dX6_size_2 ?_
  refine r_istore_n (i := 2) (lv' := [(2, iv 0), (1, iv 0), (0, zc_rv G a0)]) h dX6_size_3 rfl (hN _ (by decide)) rfl ?_
  exact r_lv [2, 1, 0] rfl (u_X6_size_4 hfr1 hfr2 hlo1 hlo2 h hc rsize hrsize zF _ a0 0 0 (by decide) (by decide))
def fz_size : Nat → MEM → Int → Option zc_O
  | 0, _, _ => none
  | n + 1, μ, x => if μ x (-1) = 6 then c_X6_size (fz_size n) μ x else if μ x (-1) = 11 then c_X6_size (fz_size n) μ x else if μ x (-1) = 13 then c_X12_size μ x else if μ x (-1) = 14 then c_X12_size μ x else none
theorem fm_size {G : zc_G} : ∀ n : Nat, zc_Dsize G (1 * n + 3) (40 * n + 64) (fz_size n) := by
  intro n
  induction n with
  | zero =>
    intro μ x o ho
    cases ho
  | succ n ih =>
    intro μ x o ho
    rw [fz_size] at ho
    refine ⟨fun e => ?_, fun e => ?_, fun e => ?_, fun e => ?_⟩ <;> (rw [e] at ho; simp only [if_pos, if_neg, reduceIte, Int.reduceEq] at ho)
    · exact u_X6_size (FRv := 1 * (n + 1) + 3) (LOv := 40 * (n + 1) + 64) (by omega) (by omega) (by omega) (by omega) (fz_size n) ih _ _ _ ho
    · exact u_X6_size (FRv := 1 * (n + 1) + 3) (LOv := 40 * (n + 1) + 64) (by omega) (by omega) (by omega) (by omega) (fz_size n) ih _ _ _ ho
    · exact (u_X12_size _ _ _ ho).mono (by omega) (by omega)
    · exact (u_X12_size _ _ _ ho).mono (by omega) (by omega)
def dv_size : MEM → Int → Option zc_O := fz_size 34
theorem dm_size {G : zc_G} : zc_Dsize G 37 1424 dv_size := fm_size 34
theorem dX6_at_0 : decode cX6_at 0 = .ok (.iload_n 1, 1) := by decide +kernel
theorem dX6_at_1 : decode cX6_at 1 = .ok (.istore_n 2, 1) := by decide +kernel
theorem dX6_at_2 : decode cX6_at 2 = .ok (.iconst 0, 1) := by decide +kernel
theorem dX6_at_3 : decode cX6_at 3 = .ok (.istore_n 3, 1) := by decide +kernel
theorem dX6_at_4 : decode cX6_at 4 = .ok (.iload_n 2, 1) := by decide +kernel
theorem dX6_at_5 : decode cX6_at 5 = .ok (.aload_n 0, 1) := by decide +kernel
theorem dX6_at_6 : decode cX6_at 6 = .ok (.getfield 12, 3) := by decide +kernel
theorem dX6_at_9 : decode cX6_at 9 = .ok (.iload_n 3, 1) := by decide +kernel
theorem dX6_at_10 : decode cX6_at 10 = .ok (.invokevirtual 22, 3) := by decide +kernel
theorem dX6_at_13 : decode cX6_at 13 = .ok (.checkcast 2, 3) := by decide +kernel
theorem dX6_at_16 : decode cX6_at 16 = .ok (.invokevirtual 26, 3) := by decide +kernel
theorem dX6_at_19 : decode cX6_at 19 = .ok (.if_icmp .lt 26, 3) := by decide +kernel
theorem dX6_at_22 : decode cX6_at 22 = .ok (.iload_n 2, 1) := by decide +kernel
theorem dX6_at_23 : decode cX6_at 23 = .ok (.aload_n 0, 1) := by decide +kernel
theorem dX6_at_24 : decode cX6_at 24 = .ok (.getfield 12, 3) := by decide +kernel
theorem dX6_at_27 : decode cX6_at 27 = .ok (.iload_n 3, 1) := by decide +kernel
theorem dX6_at_28 : decode cX6_at 28 = .ok (.invokevirtual 22, 3) := by decide +kernel
theorem dX6_at_31 : decode cX6_at 31 = .ok (.checkcast 2, 3) := by decide +kernel
theorem dX6_at_34 : decode cX6_at 34 = .ok (.invokevirtual 26, 3) := by decide +kernel
theorem dX6_at_37 : decode cX6_at 37 = .ok (.isub, 1) := by decide +kernel
theorem dX6_at_38 : decode cX6_at 38 = .ok (.istore_n 2, 1) := by decide +kernel
theorem dX6_at_39 : decode cX6_at 39 = .ok (.iinc 3 1, 3) := by decide +kernel
theorem dX6_at_42 : decode cX6_at 42 = .ok (.goto (-38), 3) := by decide +kernel
theorem dX6_at_45 : decode cX6_at 45 = .ok (.aload_n 0, 1) := by decide +kernel
theorem dX6_at_46 : decode cX6_at 46 = .ok (.getfield 12, 3) := by decide +kernel
theorem dX6_at_49 : decode cX6_at 49 = .ok (.iload_n 3, 1) := by decide +kernel
theorem dX6_at_50 : decode cX6_at 50 = .ok (.invokevirtual 22, 3) := by decide +kernel
theorem dX6_at_53 : decode cX6_at 53 = .ok (.checkcast 2, 3) := by decide +kernel
theorem dX6_at_56 : decode cX6_at 56 = .ok (.iload_n 2, 1) := by decide +kernel
theorem dX6_at_57 : decode cX6_at 57 = .ok (.invokevirtual 27, 3) := by decide +kernel
theorem dX6_at_60 : decode cX6_at 60 = .ok (.ireturn, 1) := by decide +kernel
def c_X6_at_4 (rat : MEM → Int → Int → Option zc_O) : Nat → MEM → Int → Int → Int → Option zc_O
  | 0, _, _, _, _ => none
  | n + 1, μ, x0, x2, x3 => ck (zt [6, 11] (μ x0 (-1)) = true) (ck (zt [40] (μ (μ x0 2) (-1)) = true) (bc (b_lget μ (μ x0 2) x3) (fun r3 μ4 => ck (zt [6, 11, 13, 14] (μ4 r3 (-1)) = true) (bc (dv_size μ4 r3) (fun r7 μ8 => if x2 < r7 then (ck (zt [6, 11] (μ8 x0 (-1)) = true) (ck (zt [40] (μ8 (μ8 x0 2) (-1)) = true) (bc (b_lget μ8 (μ8 x0 2) x3) (fun r12 μ13 => ck (zt [6, 11, 13, 14] (μ13 r12 (-1)) = true) (bc (rat μ13 r12 x2) (fun r16 μ17 => some (0, r16, μ17))))))) else (ck (zt [6, 11] (μ8 x0 (-1)) = true) (ck (zt [40] (μ8 (μ8 x0 2) (-1)) = true) (bc (b_lget μ8 (μ8 x0 2) x3) (fun r21 μ22 => ck (zt [6, 11, 13, 14] (μ22 r21 (-1)) = true) (bc (dv_size μ22 r21) (fun r25 μ26 => ck (inR (x2 - r25)) (ck (inR (x3 + 1)) (c_X6_at_4 rat n μ26 x0 (x2 - r25) (x3 + 1))))))))))))))
theorem u_X6_at_4 {C : zv_Cx zc_O} {G : zc_G} {μ0 : MEM} {F L FRv LOv : Nat} (hfr1 : F + 1 ≤ FRv) (hfr2 : 38 ≤ FRv) (hlo1 : L + 40 ≤ LOv) (hlo2 : 1446 ≤ LOv) (h : zv_Ok C cX6_at "TreePress$Parent") (hc : zc_C C G μ0 4 (Option.some FieldType.int) 1 FRv LOv "at" []) (rat : MEM → Int → Int → Option zc_O) (hrat : zc_Dat G F L rat) : ∀ (n : Nat) (μ : MEM) (x0 x2 x3 : Int), inR x2 → inR x3 → VV C (c_X6_at_4 rat n μ x0 x2 x3) μ [(0, zc_rv G x0), (2, iv x2), (3, iv x3)] [] 4 := by
  have hN : ∀ i, i < 4 → i < zv_n C := fun i q => by rw [hc.2.1]; exact q
  intro n
  induction n with
  | zero => intros; exact r_none
  | succ n ih =>
    intro μ x0 x2 x3 hx2 hx3
    rw [c_X6_at_4]
    refine r_iload_n h 1 dX6_at_4 rfl rfl ?_
    refine c_aload_n (x := x0) h 0 dX6_at_5 rfl rfl ?_
    refine r_ck (fun ht1 => ?_)
    refine c_getR (fin := true) h hc [6, 11] 2 (zc_lk1 h q308) ht1 (by decide) dX6_at_6 ?_
    refine r_iload_n h 2 dX6_at_9 rfl rfl ?_
    refine r_ck (fun ht2 => ?_)
    refine c_callV (x := (μ x0 2)) h hc (As := [iv x3]) (fun o1 e1 => w_lget _ (μ x0 2) x3 hx3 o1 e1) [40] ht2 (by decide) q1159 q844 (fun t ht => by cases List.mem_singleton.mp ht; exact q845) q846 q135 (by omega) (by omega) (zc_sc (iv_cat _) zc_s0) (by omega) (fun z hz => by cases hz) ⟨by decide, by decide⟩ (n := 1) (by decide +kernel) rfl rfl dX6_at_10 (fun r3 μ4 hr5 => r_k4 ?_)
    refine r_ck (fun ht6 => ?_)
    refine c_cast h hc [6, 11, 13, 14] q1160 ht6 (by decide) dX6_at_13 ?_
    refine cd_size (x := r3)  h hc (hM := dm_size) ht6 q1161 (by omega) (by omega) (zc_sc (iv_cat _) zc_s0) (by omega) (fun z hz => by cases hz) dX6_at_16 (fun r7 μ8 hr9 => r_k1 ?_)
    refine r_icmp_lt (x := x2) (y := r7) h hx2 hr9 45 dX6_at_19 rfl ?_ ?_
    · refine c_aload_n (x := x0) h 0 dX6_at_45 rfl rfl ?_
      refine r_ck (fun ht10 => ?_)
      refine c_getR (fin := true) h hc [6, 11] 2 (zc_lk1 h q308) ht10 (by decide) dX6_at_46 ?_
      refine r_iload_n h 2 dX6_at_49 rfl rfl ?_
      refine r_ck (fun ht11 => ?_)
      refine c_callV (x := (μ8 x0 2)) h hc (As := [iv x3]) (fun o1 e1 => w_lget _ (μ8 x0 2) x3 hx3 o1 e1) [40] ht11 (by decide) q1159 q844 (fun t ht => by cases List.mem_singleton.mp ht; exact q845) q846 q135 (by omega) (by omega) zc_s0 (by omega) (fun z hz => by cases hz) ⟨by decide, by decide⟩ (n := 1) (by decide +kernel) rfl rfl dX6_at_50 (fun r12 μ13 hr14 => r_k4 ?_)
      refine r_ck (fun ht15 => ?_)
      refine c_cast h hc [6, 11, 13, 14] q1160 ht15 (by decide) dX6_at_53 ?_
      refine r_iload_n h 1 dX6_at_56 rfl rfl ?_
      refine cd_at (x := r12) (a0 := x2) h hc (hM := hrat) hx2 ht15 q1202 (by omega) (by omega) zc_s0 (by omega) (fun z hz => by cases hz) dX6_at_57 (fun r16 μ17 hr18 => r_k1 ?_)
      exact c_iret h hc rfl hr18 dX6_at_60
    · refine r_iload_n h 1 dX6_at_22 rfl rfl ?_
      refine c_aload_n (x := x0) h 0 dX6_at_23 rfl rfl ?_
      refine r_ck (fun ht19 => ?_)
      refine c_getR (fin := true) h hc [6, 11] 2 (zc_lk1 h q308) ht19 (by decide) dX6_at_24 ?_
      refine r_iload_n h 2 dX6_at_27 rfl rfl ?_
      refine r_ck (fun ht20 => ?_)
      refine c_callV (x := (μ8 x0 2)) h hc (As := [iv x3]) (fun o1 e1 => w_lget _ (μ8 x0 2) x3 hx3 o1 e1) [40] ht20 (by decide) q1159 q844 (fun t ht => by cases List.mem_singleton.mp ht; exact q845) q846 q135 (by omega) (by omega) (zc_sc (iv_cat _) zc_s0) (by omega) (fun z hz => by cases hz) ⟨by decide, by decide⟩ (n := 1) (by decide +kernel) rfl rfl dX6_at_28 (fun r21 μ22 hr23 => r_k4 ?_)
      refine r_ck (fun ht24 => ?_)
      refine c_cast h hc [6, 11, 13, 14] q1160 ht24 (by decide) dX6_at_31 ?_
      refine cd_size (x := r21)  h hc (hM := dm_size) ht24 q1161 (by omega) (by omega) (zc_sc (iv_cat _) zc_s0) (by omega) (fun z hz => by cases hz) dX6_at_34 (fun r25 μ26 hr27 => r_k1 ?_)
      refine r_isub h dX6_at_37 ?_
      refine r_istore_n (i := 2) (lv' := [(2, iv (x2 - r25)), (0, zc_rv G x0), (3, iv x3)]) h dX6_at_38 rfl (hN _ (by decide)) rfl ?_
      refine r_iinc (lv' := [(3, iv (x3 + 1)), (2, iv (x2 - r25)), (0, zc_rv G x0)]) h 2 dX6_at_39 rfl (hN _ (by decide)) rfl ?_
      refine r_goto h 4 dX6_at_42 rfl ?_
      refine r_ck (fun hk28 => ?_)
      refine r_ck (fun hk29 => ?_)
      exact r_lv [2, 1, 0] rfl (ih _ x0 (x2 - r25) (x3 + 1) hk28 hk29)
def c_X6_at (rat : MEM → Int → Int → Option zc_O) (μ : MEM) (a0 a1 : Int) : Option zc_O := c_X6_at_4 rat zF μ a0 a1 0
theorem u_X6_at {G : zc_G} {F L FRv LOv : Nat} (hfr1 : F + 1 ≤ FRv) (hfr2 : 38 ≤ FRv) (hlo1 : L + 40 ≤ LOv) (hlo2 : 1446 ≤ LOv) (rat : MEM → Int → Int → Option zc_O) (hrat : zc_Dat G F L rat) (μ : MEM) (a0 a1 : Int) (ha1 : inR a1) (o : zc_O) (hd : c_X6_at rat μ a0 a1 = some o) : zc_Met G yX6_at cX6_at 4 (Option.some FieldType.int) 1 FRv LOv μ [zc_rv G a0, iv a1] o := by
  refine zc_intro hd (by decide) (by simp [lg_sl, zc_rv_cat, iv_cat, jv_cat]) (lv := [(0, zc_rv G a0), (1, iv a1)]) (by simp [lv_args, zc_rv_cat, iv_cat, jv_cat]) (fun C h hc => ?_)
  have h : zv_Ok C cX6_at "TreePress$Parent" := h
  have hc : zc_C C G μ 4 (Option.some FieldType.int) 1 FRv LOv "at" [] := hc
  have hN : ∀ i, i < 4 → i < zv_n C := fun i q => by rw [hc.2.1]; exact q
  unfold c_X6_at
  refine r_iload_n h 1 dX6_at_0 rfl rfl ?_
  refine r_istore_n (i := 2) (lv' := [(2, iv a1), (0, zc_rv G a0), (1, iv a1)]) h dX6_at_1 rfl (hN _ (by decide)) rfl ?_
  refine r_iconst h dX6_at_2 ?_
  refine r_istore_n (i := 3) (lv' := [(3, iv 0), (2, iv a1), (0, zc_rv G a0), (1, iv a1)]) h dX6_at_3 rfl (hN _ (by decide)) rfl ?_
  exact r_lv [2, 1, 0] rfl (u_X6_at_4 hfr1 hfr2 hlo1 hlo2 h hc rat hrat zF _ a0 a1 0 ha1 (by decide))
def fz_at : Nat → MEM → Int → Int → Option zc_O
  | 0, _, _, _ => none
  | n + 1, μ, x, a0 => if μ x (-1) = 6 then c_X6_at (fz_at n) μ x a0 else if μ x (-1) = 11 then c_X6_at (fz_at n) μ x a0 else if μ x (-1) = 13 then c_X12_at μ x a0 else if μ x (-1) = 14 then c_X12_at μ x a0 else none
theorem fm_at {G : zc_G} : ∀ n : Nat, zc_Dat G (1 * n + 38) (40 * n + 1446) (fz_at n) := by
  intro n
  induction n with
  | zero =>
    intro μ x a0 ha0 o ho
    cases ho
  | succ n ih =>
    intro μ x a0 ha0 o ho
    rw [fz_at] at ho
    refine ⟨fun e => ?_, fun e => ?_, fun e => ?_, fun e => ?_⟩ <;> (rw [e] at ho; simp only [if_pos, if_neg, reduceIte, Int.reduceEq] at ho)
    · exact u_X6_at (FRv := 1 * (n + 1) + 38) (LOv := 40 * (n + 1) + 1446) (by omega) (by omega) (by omega) (by omega) (fz_at n) ih _ _ _ ha0 _ ho
    · exact u_X6_at (FRv := 1 * (n + 1) + 38) (LOv := 40 * (n + 1) + 1446) (by omega) (by omega) (by omega) (by omega) (fz_at n) ih _ _ _ ha0 _ ho
    · exact (u_X12_at _ _ _ ha0 _ ho).mono (by omega) (by omega)
    · exact (u_X12_at _ _ _ ha0 _ ho).mono (by omega) (by omega)
def dv_at : MEM → Int → Int → Option zc_O := fz_at 34
theorem dm_at {G : zc_G} : zc_Dat G 72 2806 dv_at := fm_at 34
theorem dX2_here_0 : decode cX2_here 0 = .ok (.aload_n 0, 1) := by decide +kernel
theorem dX2_here_1 : decode cX2_here 1 = .ok (.getfield 25, 3) := by decide +kernel
theorem dX2_here_4 : decode cX2_here 4 = .ok (.aload_n 0, 1) := by decide +kernel
theorem dX2_here_5 : decode cX2_here 5 = .ok (.getfield 21, 3) := by decide +kernel
theorem dX2_here_8 : decode cX2_here 8 = .ok (.if_icmp .ge 19, 3) := by decide +kernel
theorem dX2_here_11 : decode cX2_here 11 = .ok (.aload_n 0, 1) := by decide +kernel
theorem dX2_here_12 : decode cX2_here 12 = .ok (.getfield 9, 3) := by decide +kernel
theorem dX2_here_15 : decode cX2_here 15 = .ok (.aload_n 0, 1) := by decide +kernel
theorem dX2_here_16 : decode cX2_here 16 = .ok (.getfield 25, 3) := by decide +kernel
theorem dX2_here_19 : decode cX2_here 19 = .ok (.baload, 1) := by decide +kernel
theorem dX2_here_20 : decode cX2_here 20 = .ok (.sipush 255, 3) := by decide +kernel
theorem dX2_here_23 : decode cX2_here 23 = .ok (.iand, 1) := by decide +kernel
theorem dX2_here_24 : decode cX2_here 24 = .ok (.goto 4, 3) := by decide +kernel
theorem dX2_here_27 : decode cX2_here 27 = .ok (.iconst (-1), 1) := by decide +kernel
theorem dX2_here_28 : decode cX2_here 28 = .ok (.ireturn, 1) := by decide +kernel
def c_X2_here (μ : MEM) (a0 : Int) : Option zc_O := ck (zt [3, 15] (μ a0 (-1)) = true) (if (μ a0 1) ≤ (μ a0 2) then (some (0, (-1), μ)) else (ck (zt [30, 31] (μ (μ a0 0) (-1)) = true) (ck ((0 : Int) ≤ (μ a0 2) ∧ (μ a0 2) < μ (μ a0 0) (-2)) (some (0, (i_and (μ (μ a0 0) (μ a0 2)) 255), μ)))))
theorem u_X2_here {G : zc_G} (μ : MEM) (a0 : Int) (o : zc_O) (hd : c_X2_here μ a0 = some o) : zc_Met G yX2_here cX2_here 1 (Option.some FieldType.int) 1 0 0 μ [zc_rv G a0] o := by
  refine zc_intro hd (by decide) (by simp [lg_sl, zc_rv_cat, iv_cat, jv_cat]) (lv := [(0, zc_rv G a0)]) (by simp [lv_args, zc_rv_cat, iv_cat, jv_cat]) (fun C h hc => ?_)
  have h : zv_Ok C cX2_here "TreePress$Reader" := h
  have hc : zc_C C G μ 1 (Option.some FieldType.int) 1 0 0 "here" [] := hc
  have hN : ∀ i, i < 1 → i < zv_n C := fun i q => by rw [hc.2.1]; exact q
  unfold c_X2_here
  refine c_aload_n (x := a0) h 0 dX2_here_0 rfl rfl ?_
  refine r_ck (fun ht1 => ?_)
  refine c_getI (fin := false) h hc [3, 15] 2 (zc_lk1 h q453) ht1 (by decide) dX2_here_1 (fun hr2 => ?_)
  refine c_aload_n (x := a0) h 0 dX2_here_4 rfl rfl ?_
  refine c_getI (fin := true) h hc [3, 15] 1 (zc_lk1 h q452) ht1 (by decide) dX2_here_5 (fun hr3 => ?_)
  refine r_icmp_ge (x := (μ a0 2)) (y := (μ a0 1)) h hr2 hr3 27 dX2_here_8 rfl ?_ ?_
  · refine r_iconst h dX2_here_27 ?_
    exact c_iret h hc rfl (by decide) dX2_here_28
  · refine c_aload_n (x := a0) h 0 dX2_here_11 rfl rfl ?_
    refine c_getR (fin := true) h hc [3, 15] 0 (zc_lk1 h q451) ht1 (by decide) dX2_here_12 ?_
    refine c_aload_n (x := a0) h 0 dX2_here_15 rfl rfl ?_
    refine c_getI (fin := false) h hc [3, 15] 2 (zc_lk1 h q453) ht1 (by decide) dX2_here_16 (fun hr4 => ?_)
    refine r_ck (fun ht5 => ?_)
    refine c_ldB h hc ht5 dX2_here_19 (fun _ hr6 => ?_)
    refine r_sipush h dX2_here_20 (by decide) ?_
    refine r_iand h dX2_here_23 ?_
    refine r_goto h 28 dX2_here_24 rfl ?_
    exact c_iret h hc rfl (inR_t _) dX2_here_28
theorem dX2_place_0 : decode cX2_place 0 = .ok (.aload_n 0, 1) := by decide +kernel
theorem dX2_place_1 : decode cX2_place 1 = .ok (.getfield 25, 3) := by decide +kernel
theorem dX2_place_4 : decode cX2_place 4 = .ok (.ireturn, 1) := by decide +kernel
def c_X2_place (μ : MEM) (a0 : Int) : Option zc_O := ck (zt [3, 15] (μ a0 (-1)) = true) (some (0, (μ a0 2), μ))
theorem u_X2_place {G : zc_G} (μ : MEM) (a0 : Int) (o : zc_O) (hd : c_X2_place μ a0 = some o) : zc_Met G yX2_place cX2_place 1 (Option.some FieldType.int) 1 0 0 μ [zc_rv G a0] o := by
  refine zc_intro hd (by decide) (by simp [lg_sl, zc_rv_cat, iv_cat, jv_cat]) (lv := [(0, zc_rv G a0)]) (by simp [lv_args, zc_rv_cat, iv_cat, jv_cat]) (fun C h hc => ?_)
  have h : zv_Ok C cX2_place "TreePress$Reader" := h
  have hc : zc_C C G μ 1 (Option.some FieldType.int) 1 0 0 "place" [] := hc
  have hN : ∀ i, i < 1 → i < zv_n C := fun i q => by rw [hc.2.1]; exact q
  unfold c_X2_place
  refine c_aload_n (x := a0) h 0 dX2_place_0 rfl rfl ?_
  refine r_ck (fun ht1 => ?_)
  refine c_getI (fin := false) h hc [3, 15] 2 (zc_lk1 h q453) ht1 (by decide) dX2_place_1 (fun hr2 => ?_)
  exact c_iret h hc rfl hr2 dX2_place_4
theorem dX2_isAt_0 : decode cX2_isAt 0 = .ok (.aload_n 0, 1) := by decide +kernel
theorem dX2_isAt_1 : decode cX2_isAt 1 = .ok (.getfield 25, 3) := by decide +kernel
theorem dX2_isAt_4 : decode cX2_isAt 4 = .ok (.aload_n 1, 1) := by decide +kernel
theorem dX2_isAt_5 : decode cX2_isAt 5 = .ok (.invokevirtual 28, 3) := by decide +kernel
theorem dX2_isAt_8 : decode cX2_isAt 8 = .ok (.iadd, 1) := by decide +kernel
theorem dX2_isAt_9 : decode cX2_isAt 9 = .ok (.aload_n 0, 1) := by decide +kernel
theorem dX2_isAt_10 : decode cX2_isAt 10 = .ok (.getfield 21, 3) := by decide +kernel
theorem dX2_isAt_13 : decode cX2_isAt 13 = .ok (.if_icmp .gt 7, 3) := by decide +kernel
theorem dX2_isAt_16 : decode cX2_isAt 16 = .ok (.iconst 1, 1) := by decide +kernel
theorem dX2_isAt_17 : decode cX2_isAt 17 = .ok (.goto 4, 3) := by decide +kernel
theorem dX2_isAt_20 : decode cX2_isAt 20 = .ok (.iconst 0, 1) := by decide +kernel
theorem dX2_isAt_21 : decode cX2_isAt 21 = .ok (.istore_n 2, 1) := by decide +kernel
theorem dX2_isAt_22 : decode cX2_isAt 22 = .ok (.iconst 0, 1) := by decide +kernel
theorem dX2_isAt_23 : decode cX2_isAt 23 = .ok (.istore_n 3, 1) := by decide +kernel
theorem dX2_isAt_24 : decode cX2_isAt 24 = .ok (.iload_n 3, 1) := by decide +kernel
theorem dX2_isAt_25 : decode cX2_isAt 25 = .ok (.aload_n 1, 1) := by decide +kernel
theorem dX2_isAt_26 : decode cX2_isAt 26 = .ok (.invokevirtual 28, 3) := by decide +kernel
theorem dX2_isAt_29 : decode cX2_isAt 29 = .ok (.if_icmp .ge 38, 3) := by decide +kernel
theorem dX2_isAt_32 : decode cX2_isAt 32 = .ok (.iload_n 2, 1) := by decide +kernel
theorem dX2_isAt_33 : decode cX2_isAt 33 = .ok (.ifCond .eq 34, 3) := by decide +kernel
theorem dX2_isAt_36 : decode cX2_isAt 36 = .ok (.aload_n 0, 1) := by decide +kernel
theorem dX2_isAt_37 : decode cX2_isAt 37 = .ok (.getfield 9, 3) := by decide +kernel
theorem dX2_isAt_40 : decode cX2_isAt 40 = .ok (.aload_n 0, 1) := by decide +kernel
theorem dX2_isAt_41 : decode cX2_isAt 41 = .ok (.getfield 25, 3) := by decide +kernel
theorem dX2_isAt_44 : decode cX2_isAt 44 = .ok (.iload_n 3, 1) := by decide +kernel
theorem dX2_isAt_45 : decode cX2_isAt 45 = .ok (.iadd, 1) := by decide +kernel
theorem dX2_isAt_46 : decode cX2_isAt 46 = .ok (.baload, 1) := by decide +kernel
theorem dX2_isAt_47 : decode cX2_isAt 47 = .ok (.aload_n 1, 1) := by decide +kernel
theorem dX2_isAt_48 : decode cX2_isAt 48 = .ok (.iload_n 3, 1) := by decide +kernel
theorem dX2_isAt_49 : decode cX2_isAt 49 = .ok (.invokevirtual 34, 3) := by decide +kernel
theorem dX2_isAt_52 : decode cX2_isAt 52 = .ok (.if_icmp .ne 7, 3) := by decide +kernel
theorem dX2_isAt_55 : decode cX2_isAt 55 = .ok (.iconst 1, 1) := by decide +kernel
theorem dX2_isAt_56 : decode cX2_isAt 56 = .ok (.goto 4, 3) := by decide +kernel
theorem dX2_isAt_59 : decode cX2_isAt 59 = .ok (.iconst 0, 1) := by decide +kernel
theorem dX2_isAt_60 : decode cX2_isAt 60 = .ok (.istore_n 2, 1) := by decide +kernel
theorem dX2_isAt_61 : decode cX2_isAt 61 = .ok (.iinc 3 1, 3) := by decide +kernel
theorem dX2_isAt_64 : decode cX2_isAt 64 = .ok (.goto (-40), 3) := by decide +kernel
theorem dX2_isAt_67 : decode cX2_isAt 67 = .ok (.iload_n 2, 1) := by decide +kernel
theorem dX2_isAt_68 : decode cX2_isAt 68 = .ok (.ireturn, 1) := by decide +kernel
def c_X2_isAt_24 : Nat → MEM → Int → Int → Int → Int → Option zc_O
  | 0, _, _, _, _, _ => none
  | n + 1, μ, x0, x1, x2, x3 => ck ((-43 : Int) ≤ x1 ∧ x1 < 0) (bc (b_slen μ x1) (fun r2 μ3 => if r2 ≤ x3 then (some (0, x2, μ3)) else (if x2 = 0 then (some (0, x2, μ3)) else (ck (zt [3, 15] (μ3 x0 (-1)) = true) (ck (zt [30, 31] (μ3 (μ3 x0 0) (-1)) = true) (ck ((0 : Int) ≤ ((μ3 x0 2) + x3) ∧ ((μ3 x0 2) + x3) < μ3 (μ3 x0 0) (-2)) (ck ((-43 : Int) ≤ x1 ∧ x1 < 0) (bc (b_schr μ3 x1 x3) (fun r10 μ11 => if (μ3 (μ3 x0 0) ((μ3 x0 2) + x3)) = r10 then (ck (inR (x3 + 1)) (c_X2_isAt_24 n μ11 x0 x1 1 (x3 + 1))) else (ck (inR (x3 + 1)) (c_X2_isAt_24 n μ11 x0 x1 0 (x3 + 1))))))))))))
theorem u_X2_isAt_24 {C : zv_Cx zc_O} {G : zc_G} {μ0 : MEM} (h : zv_Ok C cX2_isAt "TreePress$Reader") (hc : zc_C C G μ0 4 (Option.some FieldType.boolean) 3 4 85 "isAt" []) : ∀ (n : Nat) (μ : MEM) (x0 x1 x2 x3 : Int), isB x2 → inR x3 → VV C (c_X2_isAt_24 n μ x0 x1 x2 x3) μ [(0, zc_rv G x0), (1, zc_rv G x1), (2, iv x2), (3, iv x3)] [] 24 := by
  have hN : ∀ i, i < 4 → i < zv_n C := fun i q => by rw [hc.2.1]; exact q
  intro n
  induction n with
  | zero => intros; exact r_none
  | succ n ih =>
    intro μ x0 x1 x2 x3 hx2 hx3
    rw [c_X2_isAt_24]
    refine r_iload_n h 3 dX2_isAt_24 rfl rfl ?_
    refine c_aload_n (x := x1) h 1 dX2_isAt_25 rfl rfl ?_
    refine r_ck (fun hs1 => ?_)
    refine c_callStr (x := x1) h hc (As := []) (fun o1 e1 => w_slen _ x1 o1 e1) hs1 q511 q512 q513 q514 q146 (by omega) (by omega) (zc_sc (iv_cat _) zc_s0) (by omega) (fun z hz => by cases hz) ⟨by decide, by decide⟩ (n := 0) (by decide +kernel) rfl rfl dX2_isAt_26 (fun r2 μ3 hr4 => r_k1 ?_)
    refine r_icmp_ge (x := x3) (y := r2) h hx3 hr4 67 dX2_isAt_29 rfl ?_ ?_
    · refine r_iload_n h 2 dX2_isAt_67 rfl rfl ?_
      exact c_zret h hc rfl hx2 dX2_isAt_68
    · refine r_iload_n h 2 dX2_isAt_32 rfl rfl ?_
      refine r_if_eq (x := x2) h hx2.r 67 dX2_isAt_33 rfl ?_ ?_
      · refine r_iload_n h 2 dX2_isAt_67 rfl rfl ?_
        exact c_zret h hc rfl hx2 dX2_isAt_68
      · refine c_aload_n (x := x0) h 0 dX2_isAt_36 rfl rfl ?_
        refine r_ck (fun ht5 => ?_)
        refine c_getR (fin := true) h hc [3, 15] 0 (zc_lk1 h q451) ht5 (by decide) dX2_isAt_37 ?_
        refine c_aload_n (x := x0) h 0 dX2_isAt_40 rfl rfl ?_
        refine c_getI (fin := false) h hc [3, 15] 2 (zc_lk1 h q453) ht5 (by decide) dX2_isAt_41 (fun hr6 => ?_)
        refine r_iload_n h 3 dX2_isAt_44 rfl rfl ?_
        refine r_iadd h dX2_isAt_45 ?_
        refine r_ck (fun ht7 => ?_)
        refine c_ldB h hc ht7 dX2_isAt_46 (fun _ hr8 => ?_)
        refine c_aload_n (x := x1) h 1 dX2_isAt_47 rfl rfl ?_
        refine r_iload_n h 3 dX2_isAt_48 rfl rfl ?_
        refine r_ck (fun hs9 => ?_)
        refine c_callStr (x := x1) h hc (As := [iv x3]) (fun o1 e1 => w_schr _ x1 x3 hx3 o1 e1) hs9 q521 q522 q523 q524 q146 (by omega) (by omega) (zc_sc (iv_cat _) zc_s0) (by omega) (fun z hz => by cases hz) ⟨by decide, by decide⟩ (n := 1) (by decide +kernel) rfl rfl dX2_isAt_49 (fun r10 μ11 hr12 => r_k5 ?_)
        refine r_icmp_ne (x := (μ3 (μ3 x0 0) ((μ3 x0 2) + x3))) (y := r10) h hr8.r hr12.r 59 dX2_isAt_52 rfl ?_ ?_
        · refine r_iconst h dX2_isAt_55 ?_
          refine r_goto h 60 dX2_isAt_56 rfl ?_
          refine r_istore_n (i := 2) (lv' := [(2, iv 1), (0, zc_rv G x0), (1, zc_rv G x1), (3, iv x3)]) h dX2_isAt_60 rfl (hN _ (by decide)) (by simp [zc_rv_cat]) ?_
          refine r_iinc (lv' := [(3, iv (x3 + 1)), (2, iv 1), (0, zc_rv G x0), (1, zc_rv G x1)]) h 3 dX2_isAt_61 rfl (hN _ (by decide)) rfl ?_
          refine r_goto h 24 dX2_isAt_64 rfl ?_
          refine r_ck (fun hk13 => ?_)
          exact r_lv [2, 3, 1, 0] rfl (ih _ x0 x1 1 (x3 + 1) (by decide) hk13)
        · refine r_iconst h dX2_isAt_59 ?_
          refine r_istore_n (i := 2) (lv' := [(2, iv 0), (0, zc_rv G x0), (1, zc_rv G x1), (3, iv x3)]) h dX2_isAt_60 rfl (hN _ (by decide)) (by simp [zc_rv_cat]) ?_
          refine r_iinc (lv' := [(3, iv (x3 + 1)), (2, iv 0), (0, zc_rv G x0), (1, zc_rv G x1)]) h 3 dX2_isAt_61 rfl (hN _ (by decide)) rfl ?_
          refine r_goto h 24 dX2_isAt_64 rfl ?_
          refine r_ck (fun hk14 => ?_)
          exact r_lv [2, 3, 1, 0] rfl (ih _ x0 x1 0 (x3 + 1) (by decide) hk14)
def c_X2_isAt (μ : MEM) (a0 a1 : Int) : Option zc_O := ck (zt [3, 15] (μ a0 (-1)) = true) (ck ((-43 : Int) ≤ a1 ∧ a1 < 0) (bc (b_slen μ a1) (fun r4 μ5 => ck (zt [3, 15] (μ5 a0 (-1)) = true) (ck (inR ((μ a0 2) + r4)) (if (μ5 a0 1) < ((μ a0 2) + r4) then (c_X2_isAt_24 zF μ5 a0 a1 0 0) else (c_X2_isAt_24 zF μ5 a0 a1 1 0))))))
theorem u_X2_isAt {G : zc_G} (μ : MEM) (a0 a1 : Int) (o : zc_O) (hd : c_X2_isAt μ a0 a1 = some o) : zc_Met G yX2_isAt cX2_isAt 4 (Option.some FieldType.boolean) 3 4 85 μ [zc_rv G a0, zc_rv G a1] o := by
  refine zc_intro hd (by decide) (by simp [lg_sl, zc_rv_cat, iv_cat, jv_cat]) (lv := [(0, zc_rv G a0), (1, zc_rv G a1)]) (by simp [lv_args, zc_rv_cat, iv_cat, jv_cat]) (fun C h hc => ?_)
  have h : zv_Ok C cX2_isAt "TreePress$Reader" := h
  have hc : zc_C C G μ 4 (Option.some FieldType.boolean) 3 4 85 "isAt" [] := hc
  have hN : ∀ i, i < 4 → i < zv_n C := fun i q => by rw [hc.2.1]; exact q
  unfold c_X2_isAt
  refine c_aload_n (x := a0) h 0 dX2_isAt_0 rfl rfl ?_
  refine r_ck (fun ht1 => ?_)
  refine c_getI (fin := false) h hc [3, 15] 2 (zc_lk1 h q453) ht1 (by decide) dX2_isAt_1 (fun hr2 => ?_)
  refine c_aload_n (x := a1) h 1 dX2_isAt_4 rfl rfl ?_
  refine r_ck (fun hs3 => ?_)
  refine c_callStr (x := a1) h hc (As := []) (fun o1 e1 => w_slen _ a1 o1 e1) hs3 q511 q512 q513 q514 q146 (by omega) (by omega) (zc_sc (iv_cat _) zc_s0) (by omega) (fun z hz => by cases hz) ⟨by decide, by decide⟩ (n := 0) (by decide +kernel) rfl rfl dX2_isAt_5 (fun r4 μ5 hr6 => r_k1 ?_)
  refine r_iadd h dX2_isAt_8 ?_
  refine c_aload_n (x := a0) h 0 dX2_isAt_9 rfl rfl ?_
  refine r_ck (fun ht7 => ?_)
  refine c_getI (fin := true) h hc [3, 15] 1 (zc_lk1 h q452) ht7 (by decide) dX2_isAt_10 (fun hr8 => ?_)
  refine r_ck (fun hk9 => ?_)
  refine r_icmp_gt (x := ((μ a0 2) + r4)) (y := (μ5 a0 1)) h hk9 hr8 20 dX2_isAt_13 rfl ?_ ?_
  · refine r_iconst h dX2_isAt_20 ?_
    refine r_istore_n (i := 2) (lv' := [(2, iv 0), (0, zc_rv G a0), (1, zc_rv G a1)]) h dX2_isAt_21 rfl (hN _ (by decide)) (by simp [zc_rv_cat]) ?_
    refine r_iconst h dX2_isAt_22 ?_
    refine r_istore_n (i := 3) (lv' := [(3, iv 0), (2, iv 0), (0, zc_rv G a0), (1, zc_rv G a1)]) h dX2_isAt_23 rfl (hN _ (by decide)) rfl ?_
    exact r_lv [2, 3, 1, 0] rfl (u_X2_isAt_24 h hc zF _ a0 a1 0 0 (by decide) (by decide))
  · refine r_iconst h dX2_isAt_16 ?_
    refine r_goto h 21 dX2_isAt_17 rfl ?_
    refine r_istore_n (i := 2) (lv' := [(2, iv 1), (0, zc_rv G a0), (1, zc_rv G a1)]) h dX2_isAt_21 rfl (hN _ (by decide)) (by simp [zc_rv_cat]) ?_
    refine r_iconst h dX2_isAt_22 ?_
    refine r_istore_n (i := 3) (lv' := [(3, iv 0), (2, iv 1), (0, zc_rv G a0), (1, zc_rv G a1)]) h dX2_isAt_23 rfl (hN _ (by decide)) rfl ?_
    exact r_lv [2, 3, 1, 0] rfl (u_X2_isAt_24 h hc zF _ a0 a1 1 0 (by decide) (by decide))
theorem dX2_takes_0 : decode cX2_takes 0 = .ok (.aload_n 0, 1) := by decide +kernel
theorem dX2_takes_1 : decode cX2_takes 1 = .ok (.aload_n 1, 1) := by decide +kernel
theorem dX2_takes_2 : decode cX2_takes 2 = .ok (.invokevirtual 38, 3) := by decide +kernel
theorem dX2_takes_5 : decode cX2_takes 5 = .ok (.ifCond .ne 5, 3) := by decide +kernel
theorem dX2_takes_8 : decode cX2_takes 8 = .ok (.iconst 0, 1) := by decide +kernel
theorem dX2_takes_9 : decode cX2_takes 9 = .ok (.ireturn, 1) := by decide +kernel
theorem dX2_takes_10 : decode cX2_takes 10 = .ok (.aload_n 0, 1) := by decide +kernel
theorem dX2_takes_11 : decode cX2_takes 11 = .ok (.dup, 1) := by decide +kernel
theorem dX2_takes_12 : decode cX2_takes 12 = .ok (.getfield 25, 3) := by decide +kernel
theorem dX2_takes_15 : decode cX2_takes 15 = .ok (.aload_n 1, 1) := by decide +kernel
theorem dX2_takes_16 : decode cX2_takes 16 = .ok (.invokevirtual 28, 3) := by decide +kernel
theorem dX2_takes_19 : decode cX2_takes 19 = .ok (.iadd, 1) := by decide +kernel
theorem dX2_takes_20 : decode cX2_takes 20 = .ok (.putfield 25, 3) := by decide +kernel
theorem dX2_takes_23 : decode cX2_takes 23 = .ok (.iconst 1, 1) := by decide +kernel
theorem dX2_takes_24 : decode cX2_takes 24 = .ok (.ireturn, 1) := by decide +kernel
def c_X2_takes (μ : MEM) (a0 a1 : Int) : Option zc_O := ck (zt [3, 15] (μ a0 (-1)) = true) (bc (c_X2_isAt μ a0 a1) (fun r2 μ3 => if r2 = 0 then (some (0, 0, μ3)) else (ck (zt [3, 15] (μ3 a0 (-1)) = true) (ck ((-43 : Int) ≤ a1 ∧ a1 < 0) (bc (b_slen μ3 a1) (fun r8 μ9 => ck (inR ((μ3 a0 2) + r8)) (ck (zt [3, 15] (μ9 a0 (-1)) = true) (nu (mup μ9 a0 2 ((μ3 a0 2) + r8)) (fun μ13 => some (0, 1, μ13))))))))))
theorem u_X2_takes {G : zc_G} (μ : MEM) (a0 a1 : Int) (o : zc_O) (hd : c_X2_takes μ a0 a1 = some o) : zc_Met G yX2_takes cX2_takes 2 (Option.some FieldType.boolean) 3 5 108 μ [zc_rv G a0, zc_rv G a1] o := by
  refine zc_intro hd (by decide) (by simp [lg_sl, zc_rv_cat, iv_cat, jv_cat]) (lv := [(0, zc_rv G a0), (1, zc_rv G a1)]) (by simp [lv_args, zc_rv_cat, iv_cat, jv_cat]) (fun C h hc => ?_)
  have h : zv_Ok C cX2_takes "TreePress$Reader" := h
  have hc : zc_C C G μ 2 (Option.some FieldType.boolean) 3 5 108 "takes" [] := hc
  have hN : ∀ i, i < 2 → i < zv_n C := fun i q => by rw [hc.2.1]; exact q
  unfold c_X2_takes
  refine c_aload_n (x := a0) h 0 dX2_takes_0 rfl rfl ?_
  refine c_aload_n (x := a1) h 1 dX2_takes_1 rfl rfl ?_
  refine r_ck (fun ht1 => ?_)
  refine c_callV (x := a0) h hc (As := [zc_rv G a1]) (fun o1 e1 => u_X2_isAt _ a0 a1 o1 e1) [3, 15] ht1 (by decide) q575 q509 (fun t ht => by simp only [List.mem_cons, List.not_mem_nil, or_false] at ht; rcases ht with rfl | rfl <;> first | exact q2209 | exact q2210) q510 q137 (by omega) (by omega) zc_s0 (by omega) (fun z hz => by cases hz) ⟨by decide, by decide⟩ (n := 1) (by decide +kernel) rfl rfl dX2_takes_2 (fun r2 μ3 hr4 => r_k3 ?_)
  refine r_if_ne (x := r2) h hr4.r 10 dX2_takes_5 rfl ?_ ?_
  · refine r_iconst h dX2_takes_8 ?_
    exact c_zret h hc rfl (by decide) dX2_takes_9
  · refine c_aload_n (x := a0) h 0 dX2_takes_10 rfl rfl ?_
    refine r_dup h dX2_takes_11 (zc_rv_cat G _) ?_
    refine r_ck (fun ht5 => ?_)
    refine c_getI (fin := false) h hc [3, 15] 2 (zc_lk1 h q453) ht5 (by decide) dX2_takes_12 (fun hr6 => ?_)
    refine c_aload_n (x := a1) h 1 dX2_takes_15 rfl rfl ?_
    refine r_ck (fun hs7 => ?_)
    refine c_callStr (x := a1) h hc (As := []) (fun o1 e1 => w_slen _ a1 o1 e1) hs7 q511 q512 q513 q514 q146 (by omega) (by omega) (zc_sc (iv_cat _) (zc_sc (zc_rv_cat G _) zc_s0)) (by omega) (fun z hz => by cases hz) ⟨by decide, by decide⟩ (n := 0) (by decide +kernel) rfl rfl dX2_takes_16 (fun r8 μ9 hr10 => r_k1 ?_)
    refine r_iadd h dX2_takes_19 ?_
    refine r_ck (fun hk11 => ?_)
    refine r_ck (fun ht12 => ?_)
    refine c_putI (x := a0) (y := ((μ3 a0 2) + r8)) h hc [3, 15] 2 false (zc_lk1 h q453) ht12 (by decide) (Or.inl rfl) hk11 dX2_takes_20 (fun μ13 he14 => ?_)
    refine r_iconst h dX2_takes_23 ?_
    exact c_zret h hc rfl (by decide) dX2_takes_24
theorem dX2_must_0 : decode cX2_must 0 = .ok (.aload_n 0, 1) := by decide +kernel
theorem dX2_must_1 : decode cX2_must 1 = .ok (.aload_n 1, 1) := by decide +kernel
theorem dX2_must_2 : decode cX2_must 2 = .ok (.invokevirtual 42, 3) := by decide +kernel
theorem dX2_must_5 : decode cX2_must 5 = .ok (.ifCond .ne 16, 3) := by decide +kernel
theorem dX2_must_8 : decode cX2_must 8 = .ok (.new 45, 3) := by decide +kernel
theorem dX2_must_11 : decode cX2_must 11 = .ok (.dup, 1) := by decide +kernel
theorem dX2_must_12 : decode cX2_must 12 = .ok (.iconst (-1), 1) := by decide +kernel
theorem dX2_must_13 : decode cX2_must 13 = .ok (.aload_n 0, 1) := by decide +kernel
theorem dX2_must_14 : decode cX2_must 14 = .ok (.getfield 25, 3) := by decide +kernel
theorem dX2_must_17 : decode cX2_must 17 = .ok (.invokespecial 47, 3) := by decide +kernel
theorem dX2_must_20 : decode cX2_must 20 = .ok (.athrow, 1) := by decide +kernel
theorem dX2_must_21 : decode cX2_must 21 = .ok (.return_, 1) := by decide +kernel
def c_X2_must (μ : MEM) (a0 a1 : Int) : Option zc_O := ck (zt [3, 15] (μ a0 (-1)) = true) (bc (c_X2_takes μ a0 a1) (fun r2 μ3 => if r2 = 0 then (ck (1 ≤ μ3 0 1 ∧ (8 : Int) ≤ μ3 0 2) (nu (mnew μ3 22 0 8) (fun μ5 => ck (zt [3, 15] (μ5 a0 (-1)) = true) (bc (b_finit μ5 (μ3 0 0) (-1) (μ5 a0 2)) (fun _ μ9 => ck (0 < (μ3 0 0)) (some (1, (μ3 0 0), μ9))))))) else (some (0, 0, μ3))))
theorem u_X2_must {G : zc_G} (μ : MEM) (a0 a1 : Int) (o : zc_O) (hd : c_X2_must μ a0 a1 = some o) : zc_Met G yX2_must cX2_must 2 (Option.none : Option FieldType) 0 7 142 μ [zc_rv G a0, zc_rv G a1] o := by
  refine zc_intro hd (by decide) (by simp [lg_sl, zc_rv_cat, iv_cat, jv_cat]) (lv := [(0, zc_rv G a0), (1, zc_rv G a1)]) (by simp [lv_args, zc_rv_cat, iv_cat, jv_cat]) (fun C h hc => ?_)
  have h : zv_Ok C cX2_must "TreePress$Reader" := h
  have hc : zc_C C G μ 2 (Option.none : Option FieldType) 0 7 142 "must" [] := hc
  have hN : ∀ i, i < 2 → i < zv_n C := fun i q => by rw [hc.2.1]; exact q
  unfold c_X2_must
  refine c_aload_n (x := a0) h 0 dX2_must_0 rfl rfl ?_
  refine c_aload_n (x := a1) h 1 dX2_must_1 rfl rfl ?_
  refine r_ck (fun ht1 => ?_)
  refine c_callV (x := a0) h hc (As := [zc_rv G a1]) (fun o1 e1 => u_X2_takes _ a0 a1 o1 e1) [3, 15] ht1 (by decide) q569 q570 (fun t ht => by simp only [List.mem_cons, List.not_mem_nil, or_false] at ht; rcases ht with rfl | rfl <;> first | exact q572 | exact q573) q574 q137 (by omega) (by omega) zc_s0 (by omega) (fun z hz => by cases hz) ⟨by decide, by decide⟩ (n := 1) (by decide +kernel) rfl rfl dX2_must_2 (fun r2 μ3 hr4 => r_k3 ?_)
  refine r_if_ne (x := r2) h hr4.r 21 dX2_must_5 rfl ?_ ?_
  · refine c_newF h hc q576 q577 q153 dX2_must_8 (fun _ μ5 he6 => ?_)
    refine r_dup h dX2_must_11 (zc_rv_cat G _) ?_
    refine r_iconst h dX2_must_12 ?_
    refine c_aload_n (x := a0) h 0 dX2_must_13 rfl rfl ?_
    refine r_ck (fun ht7 => ?_)
    refine c_getI (fin := false) h hc [3, 15] 2 (zc_lk1 h q453) ht7 (by decide) dX2_must_14 (fun hr8 => ?_)
    refine c_callI (x := (μ3 0 0)) h hc (As := [iv (-1), iv (μ5 a0 2)]) (fun o1 e1 => w_finit _ (μ3 0 0) (-1) (μ5 a0 2) (by decide) hr8 o1 e1) [22] (zt_nw he6) (by decide) q615 q616 rfl q617 q153 (by omega) (by omega) (zc_sc (zc_rv_cat G _) zc_s0) (by omega) (fun z hz => by cases hz) ⟨by decide, by decide⟩ (n := 2) (by decide +kernel) rfl rfl dX2_must_17 (fun _ μ9 _ => r_k0 ?_)
    exact c_athrow h hc (fun z hz => by cases hz) dX2_must_20
  · exact c_vret h hc rfl dX2_must_21
theorem dX0_isSpace_0 : decode cX0_isSpace 0 = .ok (.iload_n 0, 1) := by decide +kernel
theorem dX0_isSpace_1 : decode cX0_isSpace 1 = .ok (.bipush 9, 2) := by decide +kernel
theorem dX0_isSpace_3 : decode cX0_isSpace 3 = .ok (.if_icmp .eq 21, 3) := by decide +kernel
theorem dX0_isSpace_6 : decode cX0_isSpace 6 = .ok (.iload_n 0, 1) := by decide +kernel
theorem dX0_isSpace_7 : decode cX0_isSpace 7 = .ok (.bipush 10, 2) := by decide +kernel
theorem dX0_isSpace_9 : decode cX0_isSpace 9 = .ok (.if_icmp .eq 15, 3) := by decide +kernel
theorem dX0_isSpace_12 : decode cX0_isSpace 12 = .ok (.iload_n 0, 1) := by decide +kernel
theorem dX0_isSpace_13 : decode cX0_isSpace 13 = .ok (.bipush 13, 2) := by decide +kernel
theorem dX0_isSpace_15 : decode cX0_isSpace 15 = .ok (.if_icmp .eq 9, 3) := by decide +kernel
theorem dX0_isSpace_18 : decode cX0_isSpace 18 = .ok (.iload_n 0, 1) := by decide +kernel
theorem dX0_isSpace_19 : decode cX0_isSpace 19 = .ok (.bipush 32, 2) := by decide +kernel
theorem dX0_isSpace_21 : decode cX0_isSpace 21 = .ok (.if_icmp .ne 7, 3) := by decide +kernel
theorem dX0_isSpace_24 : decode cX0_isSpace 24 = .ok (.iconst 1, 1) := by decide +kernel
theorem dX0_isSpace_25 : decode cX0_isSpace 25 = .ok (.goto 4, 3) := by decide +kernel
theorem dX0_isSpace_28 : decode cX0_isSpace 28 = .ok (.iconst 0, 1) := by decide +kernel
theorem dX0_isSpace_29 : decode cX0_isSpace 29 = .ok (.ireturn, 1) := by decide +kernel
def c_X0_isSpace (μ : MEM) (a0 : Int) : Option zc_O := if a0 = 9 then (some (0, 1, μ)) else (if a0 = 10 then (some (0, 1, μ)) else (if a0 = 13 then (some (0, 1, μ)) else (if a0 = 32 then (some (0, 1, μ)) else (some (0, 0, μ)))))
theorem u_X0_isSpace {G : zc_G} (μ : MEM) (a0 : Int) (ha0 : inR a0) (o : zc_O) (hd : c_X0_isSpace μ a0 = some o) : zc_Met G yX0_isSpace cX0_isSpace 1 (Option.some FieldType.boolean) 3 0 0 μ [iv a0] o := by
  refine zc_intro hd (by decide) (Nat.le_of_ble_eq_true rfl) rfl (fun C h hc => ?_)
  have h : zv_Ok C cX0_isSpace "TreePress" := h
  have hc : zc_C C G μ 1 (Option.some FieldType.boolean) 3 0 0 "isSpace" [] := hc
  have hN : ∀ i, i < 1 → i < zv_n C := fun i q => by rw [hc.2.1]; exact q
  unfold c_X0_isSpace
  refine r_iload_n h 0 dX0_isSpace_0 rfl rfl ?_
  refine r_bipush h dX0_isSpace_1 (by decide) ?_
  refine r_icmp_eq (x := a0) (y := 9) h ha0 (by decide) 24 dX0_isSpace_3 rfl ?_ ?_
  · refine r_iconst h dX0_isSpace_24 ?_
    refine r_goto h 29 dX0_isSpace_25 rfl ?_
    exact c_zret h hc rfl (by decide) dX0_isSpace_29
  · refine r_iload_n h 0 dX0_isSpace_6 rfl rfl ?_
    refine r_bipush h dX0_isSpace_7 (by decide) ?_
    refine r_icmp_eq (x := a0) (y := 10) h ha0 (by decide) 24 dX0_isSpace_9 rfl ?_ ?_
    · refine r_iconst h dX0_isSpace_24 ?_
      refine r_goto h 29 dX0_isSpace_25 rfl ?_
      exact c_zret h hc rfl (by decide) dX0_isSpace_29
    · refine r_iload_n h 0 dX0_isSpace_12 rfl rfl ?_
      refine r_bipush h dX0_isSpace_13 (by decide) ?_
      refine r_icmp_eq (x := a0) (y := 13) h ha0 (by decide) 24 dX0_isSpace_15 rfl ?_ ?_
      · refine r_iconst h dX0_isSpace_24 ?_
        refine r_goto h 29 dX0_isSpace_25 rfl ?_
        exact c_zret h hc rfl (by decide) dX0_isSpace_29
      · refine r_iload_n h 0 dX0_isSpace_18 rfl rfl ?_
        refine r_bipush h dX0_isSpace_19 (by decide) ?_
        refine r_icmp_ne (x := a0) (y := 32) h ha0 (by decide) 28 dX0_isSpace_21 rfl ?_ ?_
        · refine r_iconst h dX0_isSpace_24 ?_
          refine r_goto h 29 dX0_isSpace_25 rfl ?_
          exact c_zret h hc rfl (by decide) dX0_isSpace_29
        · refine r_iconst h dX0_isSpace_28 ?_
          exact c_zret h hc rfl (by decide) dX0_isSpace_29
theorem dX2_goTo_0 : decode cX2_goTo 0 = .ok (.aload_n 0, 1) := by decide +kernel
theorem dX2_goTo_1 : decode cX2_goTo 1 = .ok (.iload_n 1, 1) := by decide +kernel
theorem dX2_goTo_2 : decode cX2_goTo 2 = .ok (.putfield 25, 3) := by decide +kernel
theorem dX2_goTo_5 : decode cX2_goTo 5 = .ok (.return_, 1) := by decide +kernel
def c_X2_goTo (μ : MEM) (a0 a1 : Int) : Option zc_O := ck (zt [3, 15] (μ a0 (-1)) = true) (nu (mup μ a0 2 a1) (fun μ2 => some (0, 0, μ2)))
theorem u_X2_goTo {G : zc_G} (μ : MEM) (a0 a1 : Int) (ha1 : inR a1) (o : zc_O) (hd : c_X2_goTo μ a0 a1 = some o) : zc_Met G yX2_goTo cX2_goTo 2 (Option.none : Option FieldType) 0 0 0 μ [zc_rv G a0, iv a1] o := by
  refine zc_intro hd (by decide) (by simp [lg_sl, zc_rv_cat, iv_cat, jv_cat]) (lv := [(0, zc_rv G a0), (1, iv a1)]) (by simp [lv_args, zc_rv_cat, iv_cat, jv_cat]) (fun C h hc => ?_)
  have h : zv_Ok C cX2_goTo "TreePress$Reader" := h
  have hc : zc_C C G μ 2 (Option.none : Option FieldType) 0 0 0 "goTo" [] := hc
  have hN : ∀ i, i < 2 → i < zv_n C := fun i q => by rw [hc.2.1]; exact q
  unfold c_X2_goTo
  refine c_aload_n (x := a0) h 0 dX2_goTo_0 rfl rfl ?_
  refine r_iload_n h 1 dX2_goTo_1 rfl rfl ?_
  refine r_ck (fun ht1 => ?_)
  refine c_putI (x := a0) (y := a1) h hc [3, 15] 2 false (zc_lk1 h q453) ht1 (by decide) (Or.inl rfl) ha1 dX2_goTo_2 (fun μ2 he3 => ?_)
  exact c_vret h hc rfl dX2_goTo_5
theorem dX3_space_0 : decode cX3_space 0 = .ok (.aload_n 0, 1) := by decide +kernel
theorem dX3_space_1 : decode cX3_space 1 = .ok (.invokevirtual 31, 3) := by decide +kernel
theorem dX3_space_4 : decode cX3_space 4 = .ok (.istore_n 1, 1) := by decide +kernel
theorem dX3_space_5 : decode cX3_space 5 = .ok (.aload_n 0, 1) := by decide +kernel
theorem dX3_space_6 : decode cX3_space 6 = .ok (.invokevirtual 35, 3) := by decide +kernel
theorem dX3_space_9 : decode cX3_space 9 = .ok (.invokestatic 38, 3) := by decide +kernel
theorem dX3_space_12 : decode cX3_space 12 = .ok (.ifCond .eq 16, 3) := by decide +kernel
theorem dX3_space_15 : decode cX3_space 15 = .ok (.aload_n 0, 1) := by decide +kernel
theorem dX3_space_16 : decode cX3_space 16 = .ok (.aload_n 0, 1) := by decide +kernel
theorem dX3_space_17 : decode cX3_space 17 = .ok (.invokevirtual 31, 3) := by decide +kernel
theorem dX3_space_20 : decode cX3_space 20 = .ok (.iconst 1, 1) := by decide +kernel
theorem dX3_space_21 : decode cX3_space 21 = .ok (.iadd, 1) := by decide +kernel
theorem dX3_space_22 : decode cX3_space 22 = .ok (.invokevirtual 42, 3) := by decide +kernel
theorem dX3_space_25 : decode cX3_space 25 = .ok (.goto (-20), 3) := by decide +kernel
theorem dX3_space_28 : decode cX3_space 28 = .ok (.aload_n 0, 1) := by decide +kernel
theorem dX3_space_29 : decode cX3_space 29 = .ok (.invokevirtual 31, 3) := by decide +kernel
theorem dX3_space_32 : decode cX3_space 32 = .ok (.iload_n 1, 1) := by decide +kernel
theorem dX3_space_33 : decode cX3_space 33 = .ok (.if_icmp .le 7, 3) := by decide +kernel
theorem dX3_space_36 : decode cX3_space 36 = .ok (.iconst 1, 1) := by decide +kernel
theorem dX3_space_37 : decode cX3_space 37 = .ok (.goto 4, 3) := by decide +kernel
theorem dX3_space_40 : decode cX3_space 40 = .ok (.iconst 0, 1) := by decide +kernel
theorem dX3_space_41 : decode cX3_space 41 = .ok (.ireturn, 1) := by decide +kernel
def c_X3_space_5 : Nat → MEM → Int → Int → Option zc_O
  | 0, _, _, _ => none
  | n + 1, μ, x0, x1 => ck (zt [3] (μ x0 (-1)) = true) (bc (c_X2_here μ x0) (fun r2 μ3 => bc (c_X0_isSpace μ3 r2) (fun r5 μ6 => if r5 = 0 then (ck (zt [3] (μ6 x0 (-1)) = true) (bc (c_X2_place μ6 x0) (fun r9 μ10 => if r9 ≤ x1 then (some (0, 0, μ10)) else (some (0, 1, μ10))))) else (ck (zt [3] (μ6 x0 (-1)) = true) (bc (c_X2_place μ6 x0) (fun r13 μ14 => ck (inR (r13 + 1)) (ck (zt [3] (μ14 x0 (-1)) = true) (bc (c_X2_goTo μ14 x0 (r13 + 1)) (fun _ μ18 => c_X3_space_5 n μ18 x0 x1)))))))))
theorem u_X3_space_5 {C : zv_Cx zc_O} {G : zc_G} {μ0 : MEM} (h : zv_Ok C cX3_space "TreePress$Parser") (hc : zc_C C G μ0 2 (Option.some FieldType.boolean) 3 1 21 "space" []) : ∀ (n : Nat) (μ : MEM) (x0 x1 : Int), inR x1 → VV C (c_X3_space_5 n μ x0 x1) μ [(0, zc_rv G x0), (1, iv x1)] [] 5 := by
  have hN : ∀ i, i < 2 → i < zv_n C := fun i q => by rw [hc.2.1]; exact q
  intro n
  induction n with
  | zero => intros; exact r_none
  | succ n ih =>
    intro μ x0 x1 hx1
    rw [c_X3_space_5]
    refine c_aload_n (x := x0) h 0 dX3_space_5 rfl rfl ?_
    refine r_ck (fun ht1 => ?_)
    refine c_callU (x := x0) (xm := ⟨"TreePress$Parser", "here", "()I"⟩) (owner := "TreePress$Reader") h hc (As := []) (fun o1 e1 => u_X2_here _ x0 o1 e1) [3] ht1 (by decide) q489 q490 (va_Decl.of (h.2.2.2.2 _ q493) (h.2.2.2.2 _ q494)) ⟨by decide, by decide⟩ q493 (fun t ht => by cases List.mem_singleton.mp ht; exact q492) q494 q137 (by omega) (by omega) zc_s0 (by omega) (fun z hz => by cases hz) (n := 0) (by decide +kernel) rfl rfl dX3_space_6 (fun r2 μ3 hr4 => r_k1 ?_)
    refine c_callSN h hc (As := [iv r2]) (fun o1 e1 => u_X0_isSpace _ r2 hr4 o1 e1) (host := "TreePress") (by decide) q496 q497 q132 (by omega) (by omega) zc_s0 (by omega) (fun z hz => by cases hz) ⟨by decide, by decide⟩ (n := 1) (by decide +kernel) rfl rfl dX3_space_9 (fun r5 μ6 hr7 => r_k3 ?_)
    refine r_if_eq (x := r5) h hr7.r 28 dX3_space_12 rfl ?_ ?_
    · refine c_aload_n (x := x0) h 0 dX3_space_28 rfl rfl ?_
      refine r_ck (fun ht8 => ?_)
      refine c_callU (x := x0) (xm := ⟨"TreePress$Parser", "place", "()I"⟩) (owner := "TreePress$Reader") h hc (As := []) (fun o1 e1 => u_X2_place _ x0 o1 e1) [3] ht8 (by decide) q483 q484 (va_Decl.of (h.2.2.2.2 _ q487) (h.2.2.2.2 _ q488)) ⟨by decide, by decide⟩ q487 (fun t ht => by cases List.mem_singleton.mp ht; exact q486) q488 q137 (by omega) (by omega) zc_s0 (by omega) (fun z hz => by cases hz) (n := 0) (by decide +kernel) rfl rfl dX3_space_29 (fun r9 μ10 hr11 => r_k1 ?_)
      refine r_iload_n h 1 dX3_space_32 rfl rfl ?_
      refine r_icmp_le (x := r9) (y := x1) h hr11 hx1 40 dX3_space_33 rfl ?_ ?_
      · refine r_iconst h dX3_space_40 ?_
        exact c_zret h hc rfl (by decide) dX3_space_41
      · refine r_iconst h dX3_space_36 ?_
        refine r_goto h 41 dX3_space_37 rfl ?_
        exact c_zret h hc rfl (by decide) dX3_space_41
    · refine c_aload_n (x := x0) h 0 dX3_space_15 rfl rfl ?_
      refine c_aload_n (x := x0) h 0 dX3_space_16 rfl rfl ?_
      refine r_ck (fun ht12 => ?_)
      refine c_callU (x := x0) (xm := ⟨"TreePress$Parser", "place", "()I"⟩) (owner := "TreePress$Reader") h hc (As := []) (fun o1 e1 => u_X2_place _ x0 o1 e1) [3] ht12 (by decide) q483 q484 (va_Decl.of (h.2.2.2.2 _ q487) (h.2.2.2.2 _ q488)) ⟨by decide, by decide⟩ q487 (fun t ht => by cases List.mem_singleton.mp ht; exact q486) q488 q137 (by omega) (by omega) (zc_sc (zc_rv_cat G _) zc_s0) (by omega) (fun z hz => by cases hz) (n := 0) (by decide +kernel) rfl rfl dX3_space_17 (fun r13 μ14 hr15 => r_k1 ?_)
      refine r_iconst h dX3_space_20 ?_
      refine r_iadd h dX3_space_21 ?_
      refine r_ck (fun hk16 => ?_)
      refine r_ck (fun ht17 => ?_)
      refine c_callU (x := x0) (xm := ⟨"TreePress$Parser", "goTo", "(I)V"⟩) (owner := "TreePress$Reader") h hc (As := [iv (r13 + 1)]) (fun o1 e1 => u_X2_goTo _ x0 (r13 + 1) hk16 o1 e1) [3] ht17 (by decide) q498 q499 (va_Decl.of (h.2.2.2.2 _ q502) (h.2.2.2.2 _ q503)) ⟨by decide, by decide⟩ q502 (fun t ht => by cases List.mem_singleton.mp ht; exact q501) q503 q137 (by omega) (by omega) zc_s0 (by omega) (fun z hz => by cases hz) (n := 1) (by decide +kernel) rfl rfl dX3_space_22 (fun _ μ18 _ => r_k0 ?_)
      refine r_goto h 5 dX3_space_25 rfl ?_
      exact r_lv [0, 1] rfl (ih _ x0 x1 hx1)
def c_X3_space (μ : MEM) (a0 : Int) : Option zc_O := ck (zt [3] (μ a0 (-1)) = true) (bc (c_X2_place μ a0) (fun r2 μ3 => c_X3_space_5 zF μ3 a0 r2))
theorem u_X3_space {G : zc_G} (μ : MEM) (a0 : Int) (o : zc_O) (hd : c_X3_space μ a0 = some o) : zc_Met G yX3_space cX3_space 2 (Option.some FieldType.boolean) 3 1 21 μ [zc_rv G a0] o := by
  refine zc_intro hd (by decide) (by simp [lg_sl, zc_rv_cat, iv_cat, jv_cat]) (lv := [(0, zc_rv G a0)]) (by simp [lv_args, zc_rv_cat, iv_cat, jv_cat]) (fun C h hc => ?_)
  have h : zv_Ok C cX3_space "TreePress$Parser" := h
  have hc : zc_C C G μ 2 (Option.some FieldType.boolean) 3 1 21 "space" [] := hc
  have hN : ∀ i, i < 2 → i < zv_n C := fun i q => by rw [hc.2.1]; exact q
  unfold c_X3_space
  refine c_aload_n (x := a0) h 0 dX3_space_0 rfl rfl ?_
  refine r_ck (fun ht1 => ?_)
  refine c_callU (x := a0) (xm := ⟨"TreePress$Parser", "place", "()I"⟩) (owner := "TreePress$Reader") h hc (As := []) (fun o1 e1 => u_X2_place _ a0 o1 e1) [3] ht1 (by decide) q483 q484 (va_Decl.of (h.2.2.2.2 _ q487) (h.2.2.2.2 _ q488)) ⟨by decide, by decide⟩ q487 (fun t ht => by cases List.mem_singleton.mp ht; exact q486) q488 q137 (by omega) (by omega) zc_s0 (by omega) (fun z hz => by cases hz) (n := 0) (by decide +kernel) rfl rfl dX3_space_1 (fun r2 μ3 hr4 => r_k1 ?_)
  refine r_istore_n (i := 1) (lv' := [(1, iv r2), (0, zc_rv G a0)]) h dX3_space_4 rfl (hN _ (by decide)) (by simp [zc_rv_cat]) ?_
  exact r_lv [1, 0] rfl (u_X3_space_5 h hc zF _ a0 r2 hr4)
theorem dX3_joins_0 : decode cX3_joins 0 = .ok (.iconst 0, 1) := by decide +kernel
theorem dX3_joins_1 : decode cX3_joins 1 = .ok (.istore 5, 2) := by decide +kernel
theorem dX3_joins_3 : decode cX3_joins 3 = .ok (.iload 5, 2) := by decide +kernel
theorem dX3_joins_5 : decode cX3_joins 5 = .ok (.aload_n 0, 1) := by decide +kernel
theorem dX3_joins_6 : decode cX3_joins 6 = .ok (.getfield 156, 3) := by decide +kernel
theorem dX3_joins_9 : decode cX3_joins 9 = .ok (.invokevirtual 94, 3) := by decide +kernel
theorem dX3_joins_12 : decode cX3_joins 12 = .ok (.if_icmp .ge 31, 3) := by decide +kernel
theorem dX3_joins_15 : decode cX3_joins 15 = .ok (.lload_n 1, 1) := by decide +kernel
theorem dX3_joins_16 : decode cX3_joins 16 = .ok (.iload 5, 2) := by decide +kernel
theorem dX3_joins_18 : decode cX3_joins 18 = .ok (.lshr, 1) := by decide +kernel
theorem dX3_joins_19 : decode cX3_joins 19 = .ok (.lconst 1, 1) := by decide +kernel
theorem dX3_joins_20 : decode cX3_joins 20 = .ok (.land, 1) := by decide +kernel
theorem dX3_joins_21 : decode cX3_joins 21 = .ok (.lconst 1, 1) := by decide +kernel
theorem dX3_joins_22 : decode cX3_joins 22 = .ok (.lcmp, 1) := by decide +kernel
theorem dX3_joins_23 : decode cX3_joins 23 = .ok (.ifCond .ne 14, 3) := by decide +kernel
theorem dX3_joins_26 : decode cX3_joins 26 = .ok (.aload_n 0, 1) := by decide +kernel
theorem dX3_joins_27 : decode cX3_joins 27 = .ok (.getfield 207, 3) := by decide +kernel
theorem dX3_joins_30 : decode cX3_joins 30 = .ok (.iload 5, 2) := by decide +kernel
theorem dX3_joins_32 : decode cX3_joins 32 = .ok (.dup2, 1) := by decide +kernel
theorem dX3_joins_33 : decode cX3_joins 33 = .ok (.laload, 1) := by decide +kernel
theorem dX3_joins_34 : decode cX3_joins 34 = .ok (.lload_n 3, 1) := by decide +kernel
theorem dX3_joins_35 : decode cX3_joins 35 = .ok (.lor, 1) := by decide +kernel
theorem dX3_joins_36 : decode cX3_joins 36 = .ok (.lastore, 1) := by decide +kernel
theorem dX3_joins_37 : decode cX3_joins 37 = .ok (.iinc 5 1, 3) := by decide +kernel
theorem dX3_joins_40 : decode cX3_joins 40 = .ok (.goto (-37), 3) := by decide +kernel
theorem dX3_joins_43 : decode cX3_joins 43 = .ok (.return_, 1) := by decide +kernel
def c_X3_joins_3 : Nat → MEM → Int → Int → Int → Int → Option zc_O
  | 0, _, _, _, _, _ => none
  | n + 1, μ, x0, x1, x3, x5 => ck (zt [8] (μ x0 (-1)) = true) (ck (zt [40] (μ (μ x0 2) (-1)) = true) (bc (b_lsize μ (μ x0 2)) (fun r3 μ4 => if r3 ≤ x5 then (some (0, 0, μ4)) else (if (j_cmp (j_and (j_shr x1 x5) 1) 1) = 0 then (ck (zt [8] (μ4 x0 (-1)) = true) (ck (zt [34] (μ4 (μ4 x0 3) (-1)) = true) (ck ((0 : Int) ≤ x5 ∧ x5 < μ4 (μ4 x0 3) (-2)) (ck ((0 : Int) ≤ x5 ∧ x5 < μ4 (μ4 x0 3) (-2)) (nu (mup μ4 (μ4 x0 3) x5 (j_or (μ4 (μ4 x0 3) x5) x3)) (fun μ9 => ck (inR (x5 + 1)) (c_X3_joins_3 n μ9 x0 x1 x3 (x5 + 1)))))))) else (ck (inR (x5 + 1)) (c_X3_joins_3 n μ4 x0 x1 x3 (x5 + 1)))))))
theorem u_X3_joins_3 {C : zv_Cx zc_O} {G : zc_G} {μ0 : MEM} (h : zv_Ok C cX3_joins "TreePress$Parser") (hc : zc_C C G μ0 6 (Option.none : Option FieldType) 0 1 20 "joins" []) : ∀ (n : Nat) (μ : MEM) (x0 x1 x3 x5 : Int), inL x1 → inL x3 → inR x5 → VV C (c_X3_joins_3 n μ x0 x1 x3 x5) μ [(0, zc_rv G x0), (1, jv x1), (3, jv x3), (5, iv x5)] [] 3 := by
  have hN : ∀ i, i < 6 → i < zv_n C := fun i q => by rw [hc.2.1]; exact q
  intro n
  induction n with
  | zero => intros; exact r_none
  | succ n ih =>
    intro μ x0 x1 x3 x5 hx1 hx3 hx5
    rw [c_X3_joins_3]
    refine r_iload h 3 dX3_joins_3 rfl ?_
    refine c_aload_n (x := x0) h 0 dX3_joins_5 rfl rfl ?_
    refine r_ck (fun ht1 => ?_)
    refine c_getR (fin := true) h hc [8] 2 (zc_lk3 hc (O := "TreePress$Spec") (n := "places") (ds := "Ljava/util/ArrayList;") (host := "TreePress") (by decide)) ht1 (by decide) dX3_joins_6 ?_
    refine r_ck (fun ht2 => ?_)
    refine c_callV (x := (μ x0 2)) h hc (As := []) (fun o1 e1 => w_lsize _ (μ x0 2) o1 e1) [40] ht2 (by decide) q695 q343 (fun t ht => by cases List.mem_singleton.mp ht; exact q344) q345 q135 (by omega) (by omega) (zc_sc (iv_cat _) zc_s0) (by omega) (fun z hz => by cases hz) ⟨by decide, by decide⟩ (n := 0) (by decide +kernel) rfl rfl dX3_joins_9 (fun r3 μ4 hr5 => r_k1 ?_)
    refine r_icmp_ge (x := x5) (y := r3) h hx5 hr5 43 dX3_joins_12 rfl ?_ ?_
    · exact c_vret h hc rfl dX3_joins_43
    · refine r_lload_n h 1 dX3_joins_15 rfl rfl ?_
      refine r_iload h 3 dX3_joins_16 rfl ?_
      refine r_lshr h dX3_joins_18 ?_
      refine r_lconst (x := 1) h dX3_joins_19 (by decide) ?_
      refine r_land h dX3_joins_20 ?_
      refine r_lconst (x := 1) h dX3_joins_21 (by decide) ?_
      refine r_lcmp h (inL_t _) (by decide) dX3_joins_22 ?_
      refine r_if_ne (x := (j_cmp (j_and (j_shr x1 x5) 1) 1)) h (j_cmp_r _ _) 37 dX3_joins_23 rfl ?_ ?_
      · refine c_aload_n (x := x0) h 0 dX3_joins_26 rfl rfl ?_
        refine r_ck (fun ht6 => ?_)
        refine c_getR (fin := true) h hc [8] 3 (zc_lk3 hc (O := "TreePress$Spec") (n := "follow") (ds := "[J") (host := "TreePress") (by decide)) ht6 (by decide) dX3_joins_27 ?_
        refine r_iload h 3 dX3_joins_30 rfl ?_
        refine r_dup2 h dX3_joins_32 (iv_cat _) (zc_rv_cat G _) ?_
        refine r_ck (fun ht7 => ?_)
        refine c_ldJ h hc ht7 dX3_joins_33 (fun _ hr8 => ?_)
        refine r_lload_n h 2 dX3_joins_34 rfl rfl ?_
        refine r_lor h dX3_joins_35 ?_
        refine c_stJ (x := (μ4 x0 3)) (y := x5) (z := (j_or (μ4 (μ4 x0 3) x5) x3)) h hc ht7 (inL_t _) dX3_joins_36 (fun hb11 μ9 he10 => ?_)
        refine r_iinc (lv' := [(5, iv (x5 + 1)), (0, zc_rv G x0), (1, jv x1), (3, jv x3)]) h 3 dX3_joins_37 rfl (hN _ (by decide)) rfl ?_
        refine r_goto h 3 dX3_joins_40 rfl ?_
        refine r_ck (fun hk12 => ?_)
        exact r_lv [1, 2, 3, 0] rfl (ih _ x0 x1 x3 (x5 + 1) hx1 hx3 hk12)
      · refine r_iinc (lv' := [(5, iv (x5 + 1)), (0, zc_rv G x0), (1, jv x1), (3, jv x3)]) h 3 dX3_joins_37 rfl (hN _ (by decide)) rfl ?_
        refine r_goto h 3 dX3_joins_40 rfl ?_
        refine r_ck (fun hk13 => ?_)
        exact r_lv [1, 2, 3, 0] rfl (ih _ x0 x1 x3 (x5 + 1) hx1 hx3 hk13)
def c_X3_joins (μ : MEM) (a0 a1 a2 : Int) : Option zc_O := c_X3_joins_3 zF μ a0 a1 a2 0
theorem u_X3_joins {G : zc_G} (μ : MEM) (a0 a1 a2 : Int) (ha1 : inL a1) (ha2 : inL a2) (o : zc_O) (hd : c_X3_joins μ a0 a1 a2 = some o) : zc_Met G yX3_joins cX3_joins 6 (Option.none : Option FieldType) 0 1 20 μ [zc_rv G a0, jv a1, jv a2] o := by
  refine zc_intro hd (by decide) (by simp [lg_sl, zc_rv_cat, iv_cat, jv_cat]) (lv := [(0, zc_rv G a0), (1, jv a1), (3, jv a2)]) (by simp [lv_args, zc_rv_cat, iv_cat, jv_cat]) (fun C h hc => ?_)
  have h : zv_Ok C cX3_joins "TreePress$Parser" := h
  have hc : zc_C C G μ 6 (Option.none : Option FieldType) 0 1 20 "joins" [] := hc
  have hN : ∀ i, i < 6 → i < zv_n C := fun i q => by rw [hc.2.1]; exact q
  unfold c_X3_joins
  refine r_iconst h dX3_joins_0 ?_
  refine r_istore (lv' := [(5, iv 0), (0, zc_rv G a0), (1, jv a1), (3, jv a2)]) h dX3_joins_1 (hN _ (by decide)) rfl ?_
  exact r_lv [1, 2, 3, 0] rfl (u_X3_joins_3 h hc zF _ a0 a1 a2 0 ha1 ha2 (by decide))
theorem dX3_sign_0 : decode cX3_sign 0 = .ok (.aload_n 0, 1) := by decide +kernel
theorem dX3_sign_1 : decode cX3_sign 1 = .ok (.invokevirtual 35, 3) := by decide +kernel
theorem dX3_sign_4 : decode cX3_sign 4 = .ok (.istore_n 3, 1) := by decide +kernel
theorem dX3_sign_5 : decode cX3_sign 5 = .ok (.iload_n 3, 1) := by decide +kernel
theorem dX3_sign_6 : decode cX3_sign 6 = .ok (.bipush 63, 2) := by decide +kernel
theorem dX3_sign_8 : decode cX3_sign 8 = .ok (.if_icmp .eq 17, 3) := by decide +kernel
theorem dX3_sign_11 : decode cX3_sign 11 = .ok (.iload_n 3, 1) := by decide +kernel
theorem dX3_sign_12 : decode cX3_sign 12 = .ok (.bipush 42, 2) := by decide +kernel
theorem dX3_sign_14 : decode cX3_sign 14 = .ok (.if_icmp .eq 11, 3) := by decide +kernel
theorem dX3_sign_17 : decode cX3_sign 17 = .ok (.iload_n 3, 1) := by decide +kernel
theorem dX3_sign_18 : decode cX3_sign 18 = .ok (.bipush 43, 2) := by decide +kernel
theorem dX3_sign_20 : decode cX3_sign 20 = .ok (.if_icmp .eq 5, 3) := by decide +kernel
theorem dX3_sign_23 : decode cX3_sign 23 = .ok (.aload_n 2, 1) := by decide +kernel
theorem dX3_sign_24 : decode cX3_sign 24 = .ok (.areturn, 1) := by decide +kernel
theorem dX3_sign_25 : decode cX3_sign 25 = .ok (.aload_n 0, 1) := by decide +kernel
theorem dX3_sign_26 : decode cX3_sign 26 = .ok (.aload_n 0, 1) := by decide +kernel
theorem dX3_sign_27 : decode cX3_sign 27 = .ok (.invokevirtual 31, 3) := by decide +kernel
theorem dX3_sign_30 : decode cX3_sign 30 = .ok (.iconst 1, 1) := by decide +kernel
theorem dX3_sign_31 : decode cX3_sign 31 = .ok (.iadd, 1) := by decide +kernel
theorem dX3_sign_32 : decode cX3_sign 32 = .ok (.invokevirtual 42, 3) := by decide +kernel
theorem dX3_sign_35 : decode cX3_sign 35 = .ok (.iload_n 3, 1) := by decide +kernel
theorem dX3_sign_36 : decode cX3_sign 36 = .ok (.bipush 63, 2) := by decide +kernel
theorem dX3_sign_38 : decode cX3_sign 38 = .ok (.if_icmp .eq 15, 3) := by decide +kernel
theorem dX3_sign_41 : decode cX3_sign 41 = .ok (.aload_n 1, 1) := by decide +kernel
theorem dX3_sign_42 : decode cX3_sign 42 = .ok (.aload_n 2, 1) := by decide +kernel
theorem dX3_sign_43 : decode cX3_sign 43 = .ok (.getfield 178, 3) := by decide +kernel
theorem dX3_sign_46 : decode cX3_sign 46 = .ok (.aload_n 2, 1) := by decide +kernel
theorem dX3_sign_47 : decode cX3_sign 47 = .ok (.getfield 171, 3) := by decide +kernel
theorem dX3_sign_50 : decode cX3_sign 50 = .ok (.invokestatic 211, 3) := by decide +kernel
theorem dX3_sign_53 : decode cX3_sign 53 = .ok (.iload_n 3, 1) := by decide +kernel
theorem dX3_sign_54 : decode cX3_sign 54 = .ok (.bipush 43, 2) := by decide +kernel
theorem dX3_sign_56 : decode cX3_sign 56 = .ok (.if_icmp .eq 8, 3) := by decide +kernel
theorem dX3_sign_59 : decode cX3_sign 59 = .ok (.aload_n 2, 1) := by decide +kernel
theorem dX3_sign_60 : decode cX3_sign 60 = .ok (.iconst 1, 1) := by decide +kernel
theorem dX3_sign_61 : decode cX3_sign 61 = .ok (.putfield 181, 3) := by decide +kernel
theorem dX3_sign_64 : decode cX3_sign 64 = .ok (.aload_n 2, 1) := by decide +kernel
theorem dX3_sign_65 : decode cX3_sign 65 = .ok (.areturn, 1) := by decide +kernel
def c_X3_sign_53 (μ : MEM) (x2 x3 : Int) : Option zc_O := if x3 = 43 then (some (0, x2, μ)) else (ck (zt [9] (μ x2 (-1)) = true) (nu (mup μ x2 2 1) (fun μ2 => some (0, x2, μ2))))
theorem u_X3_sign_53 {C : zv_Cx zc_O} {G : zc_G} {μ0 : MEM} (h : zv_Ok C cX3_sign "TreePress$Parser") (hc : zc_C C G μ0 4 (Option.some (FieldType.object "TreePress$Part")) 4 2 45 "sign" []) (μ : MEM) (x2 x3 : Int) (hx3 : inR x3) : VV C (c_X3_sign_53 μ x2 x3) μ [(2, zc_rv G x2), (3, iv x3)] [] 53 := by
  have hN : ∀ i, i < 4 → i < zv_n C := fun i q => by rw [hc.2.1]; exact q
  unfold c_X3_sign_53
  refine r_iload_n h 1 dX3_sign_53 rfl rfl ?_
  refine r_bipush h dX3_sign_54 (by decide) ?_
  refine r_icmp_eq (x := x3) (y := 43) h hx3 (by decide) 64 dX3_sign_56 rfl ?_ ?_
  · refine c_aload_n (x := x2) h 0 dX3_sign_64 rfl rfl ?_
    exact c_aret h hc rfl (Or.inl ⟨_, rfl⟩) dX3_sign_65
  · refine c_aload_n (x := x2) h 0 dX3_sign_59 rfl rfl ?_
    refine r_iconst h dX3_sign_60 ?_
    refine r_ck (fun ht1 => ?_)
    refine c_putZ (x := x2) (y := 1) h hc [9] 2 false (zc_lk3 hc (O := "TreePress$Part") (n := "nothing") (ds := "Z") (host := "TreePress") (by decide)) ht1 (by decide) (Or.inl rfl) (by decide) dX3_sign_61 (fun μ2 he3 => ?_)
    refine c_aload_n (x := x2) h 0 dX3_sign_64 rfl rfl ?_
    exact c_aret h hc rfl (Or.inl ⟨_, rfl⟩) dX3_sign_65
def c_X3_sign_25 (μ : MEM) (x0 x1 x2 x3 : Int) : Option zc_O := ck (zt [3] (μ x0 (-1)) = true) (bc (c_X2_place μ x0) (fun r2 μ3 => ck (inR (r2 + 1)) (ck (zt [3] (μ3 x0 (-1)) = true) (bc (c_X2_goTo μ3 x0 (r2 + 1)) (fun _ μ7 => if x3 = 63 then (c_X3_sign_53 μ7 x2 x3) else (ck (zt [9] (μ7 x2 (-1)) = true) (bc (c_X3_joins μ7 x1 (μ7 x2 1) (μ7 x2 0)) (fun _ μ11 => c_X3_sign_53 μ11 x2 x3))))))))
theorem u_X3_sign_25 {C : zv_Cx zc_O} {G : zc_G} {μ0 : MEM} (h : zv_Ok C cX3_sign "TreePress$Parser") (hc : zc_C C G μ0 4 (Option.some (FieldType.object "TreePress$Part")) 4 2 45 "sign" []) (μ : MEM) (x0 x1 x2 x3 : Int) (hx3 : inR x3) : VV C (c_X3_sign_25 μ x0 x1 x2 x3) μ [(0, zc_rv G x0), (1, zc_rv G x1), (2, zc_rv G x2), (3, iv x3)] [] 25 := by
  have hN : ∀ i, i < 4 → i < zv_n C := fun i q => by rw [hc.2.1]; exact q
  unfold c_X3_sign_25
  refine c_aload_n (x := x0) h 0 dX3_sign_25 rfl rfl ?_
  refine c_aload_n (x := x0) h 0 dX3_sign_26 rfl rfl ?_
  refine r_ck (fun ht1 => ?_)
  refine c_callU (x := x0) (xm := ⟨"TreePress$Parser", "place", "()I"⟩) (owner := "TreePress$Reader") h hc (As := []) (fun o1 e1 => u_X2_place _ x0 o1 e1) [3] ht1 (by decide) q483 q484 (va_Decl.of (h.2.2.2.2 _ q487) (h.2.2.2.2 _ q488)) ⟨by decide, by decide⟩ q487 (fun t ht => by cases List.mem_singleton.mp ht; exact q486) q488 q137 (by omega) (by omega) (zc_sc (zc_rv_cat G _) zc_s0) (by omega) (fun z hz => by cases hz) (n := 0) (by decide +kernel) rfl rfl dX3_sign_27 (fun r2 μ3 hr4 => r_k1 ?_)
  refine r_iconst h dX3_sign_30 ?_
  refine r_iadd h dX3_sign_31 ?_
  refine r_ck (fun hk5 => ?_)
  refine r_ck (fun ht6 => ?_)
  refine c_callU (x := x0) (xm := ⟨"TreePress$Parser", "goTo", "(I)V"⟩) (owner := "TreePress$Reader") h hc (As := [iv (r2 + 1)]) (fun o1 e1 => u_X2_goTo _ x0 (r2 + 1) hk5 o1 e1) [3] ht6 (by decide) q498 q499 (va_Decl.of (h.2.2.2.2 _ q502) (h.2.2.2.2 _ q503)) ⟨by decide, by decide⟩ q502 (fun t ht => by cases List.mem_singleton.mp ht; exact q501) q503 q137 (by omega) (by omega) zc_s0 (by omega) (fun z hz => by cases hz) (n := 1) (by decide +kernel) rfl rfl dX3_sign_32 (fun _ μ7 _ => r_k0 ?_)
  refine r_iload_n h 3 dX3_sign_35 rfl rfl ?_
  refine r_bipush h dX3_sign_36 (by decide) ?_
  refine r_icmp_eq (x := x3) (y := 63) h hx3 (by decide) 53 dX3_sign_38 rfl ?_ ?_
  · exact r_lv [2, 3] rfl (u_X3_sign_53 h hc _ x2 x3 hx3)
  · refine c_aload_n (x := x1) h 1 dX3_sign_41 rfl rfl ?_
    refine c_aload_n (x := x2) h 2 dX3_sign_42 rfl rfl ?_
    refine r_ck (fun ht8 => ?_)
    refine c_getJ (fin := false) h hc [9] 1 (zc_lk3 hc (O := "TreePress$Part") (n := "last") (ds := "J") (host := "TreePress") (by decide)) ht8 (by decide) dX3_sign_43 (fun hr9 => ?_)
    refine c_aload_n (x := x2) h 2 dX3_sign_46 rfl rfl ?_
    refine c_getJ (fin := false) h hc [9] 0 (zc_lk3 hc (O := "TreePress$Part") (n := "first") (ds := "J") (host := "TreePress") (by decide)) ht8 (by decide) dX3_sign_47 (fun hr10 => ?_)
    refine c_callS h hc (As := [zc_rv G x1, jv (μ7 x2 1), jv (μ7 x2 0)]) (fun o1 e1 => u_X3_joins _ x1 (μ7 x2 1) (μ7 x2 0) hr9 hr10 o1 e1) q758 q759 q760 q138 (by omega) (by omega) zc_s0 (by omega) (fun z hz => by cases hz) ⟨by decide, by decide⟩ (n := 3) (by decide +kernel) rfl rfl dX3_sign_50 (fun _ μ11 _ => r_k0 ?_)
    exact r_lv [2, 3] rfl (u_X3_sign_53 h hc _ x2 x3 hx3)
def c_X3_sign (μ : MEM) (a0 a1 a2 : Int) : Option zc_O := ck (zt [3] (μ a0 (-1)) = true) (bc (c_X2_here μ a0) (fun r2 μ3 => if r2 = 63 then (c_X3_sign_25 μ3 a0 a1 a2 r2) else (if r2 = 42 then (c_X3_sign_25 μ3 a0 a1 a2 r2) else (if r2 = 43 then (c_X3_sign_25 μ3 a0 a1 a2 r2) else (some (0, a2, μ3))))))
theorem u_X3_sign {G : zc_G} (μ : MEM) (a0 a1 a2 : Int) (o : zc_O) (hd : c_X3_sign μ a0 a1 a2 = some o) : zc_Met G yX3_sign cX3_sign 4 (Option.some (FieldType.object "TreePress$Part")) 4 2 45 μ [zc_rv G a0, zc_rv G a1, zc_rv G a2] o := by
  refine zc_intro hd (by decide) (by simp [lg_sl, zc_rv_cat, iv_cat, jv_cat]) (lv := [(0, zc_rv G a0), (1, zc_rv G a1), (2, zc_rv G a2)]) (by simp [lv_args, zc_rv_cat, iv_cat, jv_cat]) (fun C h hc => ?_)
  have h : zv_Ok C cX3_sign "TreePress$Parser" := h
  have hc : zc_C C G μ 4 (Option.some (FieldType.object "TreePress$Part")) 4 2 45 "sign" [] := hc
  have hN : ∀ i, i < 4 → i < zv_n C := fun i q => by rw [hc.2.1]; exact q
  unfold c_X3_sign
  refine c_aload_n (x := a0) h 0 dX3_sign_0 rfl rfl ?_
  refine r_ck (fun ht1 => ?_)
  refine c_callU (x := a0) (xm := ⟨"TreePress$Parser", "here", "()I"⟩) (owner := "TreePress$Reader") h hc (As := []) (fun o1 e1 => u_X2_here _ a0 o1 e1) [3] ht1 (by decide) q489 q490 (va_Decl.of (h.2.2.2.2 _ q493) (h.2.2.2.2 _ q494)) ⟨by decide, by decide⟩ q493 (fun t ht => by cases List.mem_singleton.mp ht; exact q492) q494 q137 (by omega) (by omega) zc_s0 (by omega) (fun z hz => by cases hz) (n := 0) (by decide +kernel) rfl rfl dX3_sign_1 (fun r2 μ3 hr4 => r_k1 ?_)
  refine r_istore_n (i := 3) (lv' := [(3, iv r2), (0, zc_rv G a0), (1, zc_rv G a1), (2, zc_rv G a2)]) h dX3_sign_4 rfl (hN _ (by decide)) (by simp [zc_rv_cat]) ?_
  refine r_iload_n h 0 dX3_sign_5 rfl rfl ?_
  refine r_bipush h dX3_sign_6 (by decide) ?_
  refine r_icmp_eq (x := r2) (y := 63) h hr4 (by decide) 25 dX3_sign_8 rfl ?_ ?_
  · exact r_lv [1, 2, 3, 0] rfl (u_X3_sign_25 h hc _ a0 a1 a2 r2 hr4)
  · refine r_iload_n h 0 dX3_sign_11 rfl rfl ?_
    refine r_bipush h dX3_sign_12 (by decide) ?_
    refine r_icmp_eq (x := r2) (y := 42) h hr4 (by decide) 25 dX3_sign_14 rfl ?_ ?_
    · exact r_lv [1, 2, 3, 0] rfl (u_X3_sign_25 h hc _ a0 a1 a2 r2 hr4)
    · refine r_iload_n h 0 dX3_sign_17 rfl rfl ?_
      refine r_bipush h dX3_sign_18 (by decide) ?_
      refine r_icmp_eq (x := r2) (y := 43) h hr4 (by decide) 25 dX3_sign_20 rfl ?_ ?_
      · exact r_lv [1, 2, 3, 0] rfl (u_X3_sign_25 h hc _ a0 a1 a2 r2 hr4)
      · refine c_aload_n (x := a2) h 3 dX3_sign_23 rfl rfl ?_
        exact c_aret h hc rfl (Or.inl ⟨_, rfl⟩) dX3_sign_24
theorem dX0_isFirst_0 : decode cX0_isFirst 0 = .ok (.iload_n 0, 1) := by decide +kernel
theorem dX0_isFirst_1 : decode cX0_isFirst 1 = .ok (.bipush 97, 2) := by decide +kernel
theorem dX0_isFirst_3 : decode cX0_isFirst 3 = .ok (.if_icmp .lt 9, 3) := by decide +kernel
theorem dX0_isFirst_6 : decode cX0_isFirst 6 = .ok (.iload_n 0, 1) := by decide +kernel
theorem dX0_isFirst_7 : decode cX0_isFirst 7 = .ok (.bipush 122, 2) := by decide +kernel
theorem dX0_isFirst_9 : decode cX0_isFirst 9 = .ok (.if_icmp .le 21, 3) := by decide +kernel
theorem dX0_isFirst_12 : decode cX0_isFirst 12 = .ok (.iload_n 0, 1) := by decide +kernel
theorem dX0_isFirst_13 : decode cX0_isFirst 13 = .ok (.bipush 65, 2) := by decide +kernel
theorem dX0_isFirst_15 : decode cX0_isFirst 15 = .ok (.if_icmp .lt 9, 3) := by decide +kernel
theorem dX0_isFirst_18 : decode cX0_isFirst 18 = .ok (.iload_n 0, 1) := by decide +kernel
theorem dX0_isFirst_19 : decode cX0_isFirst 19 = .ok (.bipush 90, 2) := by decide +kernel
theorem dX0_isFirst_21 : decode cX0_isFirst 21 = .ok (.if_icmp .le 9, 3) := by decide +kernel
theorem dX0_isFirst_24 : decode cX0_isFirst 24 = .ok (.iload_n 0, 1) := by decide +kernel
theorem dX0_isFirst_25 : decode cX0_isFirst 25 = .ok (.bipush 95, 2) := by decide +kernel
theorem dX0_isFirst_27 : decode cX0_isFirst 27 = .ok (.if_icmp .ne 7, 3) := by decide +kernel
theorem dX0_isFirst_30 : decode cX0_isFirst 30 = .ok (.iconst 1, 1) := by decide +kernel
theorem dX0_isFirst_31 : decode cX0_isFirst 31 = .ok (.goto 4, 3) := by decide +kernel
theorem dX0_isFirst_34 : decode cX0_isFirst 34 = .ok (.iconst 0, 1) := by decide +kernel
theorem dX0_isFirst_35 : decode cX0_isFirst 35 = .ok (.ireturn, 1) := by decide +kernel
def c_X0_isFirst_24 (μ : MEM) (x0 : Int) : Option zc_O := if x0 = 95 then (some (0, 1, μ)) else (some (0, 0, μ))
theorem u_X0_isFirst_24 {C : zv_Cx zc_O} {G : zc_G} {μ0 : MEM} (h : zv_Ok C cX0_isFirst "TreePress") (hc : zc_C C G μ0 1 (Option.some FieldType.boolean) 3 0 0 "isFirst" []) (μ : MEM) (x0 : Int) (hx0 : inR x0) : VV C (c_X0_isFirst_24 μ x0) μ [(0, iv x0)] [] 24 := by
  have hN : ∀ i, i < 1 → i < zv_n C := fun i q => by rw [hc.2.1]; exact q
  unfold c_X0_isFirst_24
  refine r_iload_n h 0 dX0_isFirst_24 rfl rfl ?_
  refine r_bipush h dX0_isFirst_25 (by decide) ?_
  refine r_icmp_ne (x := x0) (y := 95) h hx0 (by decide) 34 dX0_isFirst_27 rfl ?_ ?_
  · refine r_iconst h dX0_isFirst_30 ?_
    refine r_goto h 35 dX0_isFirst_31 rfl ?_
    exact c_zret h hc rfl (by decide) dX0_isFirst_35
  · refine r_iconst h dX0_isFirst_34 ?_
    exact c_zret h hc rfl (by decide) dX0_isFirst_35
def c_X0_isFirst_12 (μ : MEM) (x0 : Int) : Option zc_O := if x0 < 65 then (c_X0_isFirst_24 μ x0) else (if x0 ≤ 90 then (some (0, 1, μ)) else (c_X0_isFirst_24 μ x0))
theorem u_X0_isFirst_12 {C : zv_Cx zc_O} {G : zc_G} {μ0 : MEM} (h : zv_Ok C cX0_isFirst "TreePress") (hc : zc_C C G μ0 1 (Option.some FieldType.boolean) 3 0 0 "isFirst" []) (μ : MEM) (x0 : Int) (hx0 : inR x0) : VV C (c_X0_isFirst_12 μ x0) μ [(0, iv x0)] [] 12 := by
  have hN : ∀ i, i < 1 → i < zv_n C := fun i q => by rw [hc.2.1]; exact q
  unfold c_X0_isFirst_12
  refine r_iload_n h 0 dX0_isFirst_12 rfl rfl ?_
  refine r_bipush h dX0_isFirst_13 (by decide) ?_
  refine r_icmp_lt (x := x0) (y := 65) h hx0 (by decide) 24 dX0_isFirst_15 rfl ?_ ?_
  · exact r_lv [0] rfl (u_X0_isFirst_24 h hc _ x0 hx0)
  · refine r_iload_n h 0 dX0_isFirst_18 rfl rfl ?_
    refine r_bipush h dX0_isFirst_19 (by decide) ?_
    refine r_icmp_le (x := x0) (y := 90) h hx0 (by decide) 30 dX0_isFirst_21 rfl ?_ ?_
    · refine r_iconst h dX0_isFirst_30 ?_
      refine r_goto h 35 dX0_isFirst_31 rfl ?_
      exact c_zret h hc rfl (by decide) dX0_isFirst_35
    · exact r_lv [0] rfl (u_X0_isFirst_24 h hc _ x0 hx0)
def c_X0_isFirst (μ : MEM) (a0 : Int) : Option zc_O := if a0 < 97 then (c_X0_isFirst_12 μ a0) else (if a0 ≤ 122 then (some (0, 1, μ)) else (c_X0_isFirst_12 μ a0))
theorem u_X0_isFirst {G : zc_G} (μ : MEM) (a0 : Int) (ha0 : inR a0) (o : zc_O) (hd : c_X0_isFirst μ a0 = some o) : zc_Met G yX0_isFirst cX0_isFirst 1 (Option.some FieldType.boolean) 3 0 0 μ [iv a0] o := by
  refine zc_intro hd (by decide) (Nat.le_of_ble_eq_true rfl) rfl (fun C h hc => ?_)
  have h : zv_Ok C cX0_isFirst "TreePress" := h
  have hc : zc_C C G μ 1 (Option.some FieldType.boolean) 3 0 0 "isFirst" [] := hc
  have hN : ∀ i, i < 1 → i < zv_n C := fun i q => by rw [hc.2.1]; exact q
  unfold c_X0_isFirst
  refine r_iload_n h 0 dX0_isFirst_0 rfl rfl ?_
  refine r_bipush h dX0_isFirst_1 (by decide) ?_
  refine r_icmp_lt (x := a0) (y := 97) h ha0 (by decide) 12 dX0_isFirst_3 rfl ?_ ?_
  · exact r_lv [0] rfl (u_X0_isFirst_12 h hc _ a0 ha0)
  · refine r_iload_n h 0 dX0_isFirst_6 rfl rfl ?_
    refine r_bipush h dX0_isFirst_7 (by decide) ?_
    refine r_icmp_le (x := a0) (y := 122) h ha0 (by decide) 30 dX0_isFirst_9 rfl ?_ ?_
    · refine r_iconst h dX0_isFirst_30 ?_
      refine r_goto h 35 dX0_isFirst_31 rfl ?_
      exact c_zret h hc rfl (by decide) dX0_isFirst_35
    · exact r_lv [0] rfl (u_X0_isFirst_12 h hc _ a0 ha0)
theorem dX0_isToken_0 : decode cX0_isToken 0 = .ok (.iload_n 0, 1) := by decide +kernel
theorem dX0_isToken_1 : decode cX0_isToken 1 = .ok (.invokestatic 7, 3) := by decide +kernel
theorem dX0_isToken_4 : decode cX0_isToken 4 = .ok (.ifCond .ne 27, 3) := by decide +kernel
theorem dX0_isToken_7 : decode cX0_isToken 7 = .ok (.iload_n 0, 1) := by decide +kernel
theorem dX0_isToken_8 : decode cX0_isToken 8 = .ok (.bipush 48, 2) := by decide +kernel
theorem dX0_isToken_10 : decode cX0_isToken 10 = .ok (.if_icmp .lt 9, 3) := by decide +kernel
theorem dX0_isToken_13 : decode cX0_isToken 13 = .ok (.iload_n 0, 1) := by decide +kernel
theorem dX0_isToken_14 : decode cX0_isToken 14 = .ok (.bipush 57, 2) := by decide +kernel
theorem dX0_isToken_16 : decode cX0_isToken 16 = .ok (.if_icmp .le 15, 3) := by decide +kernel
theorem dX0_isToken_19 : decode cX0_isToken 19 = .ok (.iload_n 0, 1) := by decide +kernel
theorem dX0_isToken_20 : decode cX0_isToken 20 = .ok (.bipush 45, 2) := by decide +kernel
theorem dX0_isToken_22 : decode cX0_isToken 22 = .ok (.if_icmp .eq 9, 3) := by decide +kernel
theorem dX0_isToken_25 : decode cX0_isToken 25 = .ok (.iload_n 0, 1) := by decide +kernel
theorem dX0_isToken_26 : decode cX0_isToken 26 = .ok (.bipush 46, 2) := by decide +kernel
theorem dX0_isToken_28 : decode cX0_isToken 28 = .ok (.if_icmp .ne 7, 3) := by decide +kernel
theorem dX0_isToken_31 : decode cX0_isToken 31 = .ok (.iconst 1, 1) := by decide +kernel
theorem dX0_isToken_32 : decode cX0_isToken 32 = .ok (.goto 4, 3) := by decide +kernel
theorem dX0_isToken_35 : decode cX0_isToken 35 = .ok (.iconst 0, 1) := by decide +kernel
theorem dX0_isToken_36 : decode cX0_isToken 36 = .ok (.ireturn, 1) := by decide +kernel
def c_X0_isToken_19 (μ : MEM) (x0 : Int) : Option zc_O := if x0 = 45 then (some (0, 1, μ)) else (if x0 = 46 then (some (0, 1, μ)) else (some (0, 0, μ)))
theorem u_X0_isToken_19 {C : zv_Cx zc_O} {G : zc_G} {μ0 : MEM} (h : zv_Ok C cX0_isToken "TreePress") (hc : zc_C C G μ0 1 (Option.some FieldType.boolean) 3 1 20 "isToken" []) (μ : MEM) (x0 : Int) (hx0 : inR x0) : VV C (c_X0_isToken_19 μ x0) μ [(0, iv x0)] [] 19 := by
  have hN : ∀ i, i < 1 → i < zv_n C := fun i q => by rw [hc.2.1]; exact q
  unfold c_X0_isToken_19
  refine r_iload_n h 0 dX0_isToken_19 rfl rfl ?_
  refine r_bipush h dX0_isToken_20 (by decide) ?_
  refine r_icmp_eq (x := x0) (y := 45) h hx0 (by decide) 31 dX0_isToken_22 rfl ?_ ?_
  · refine r_iconst h dX0_isToken_31 ?_
    refine r_goto h 36 dX0_isToken_32 rfl ?_
    exact c_zret h hc rfl (by decide) dX0_isToken_36
  · refine r_iload_n h 0 dX0_isToken_25 rfl rfl ?_
    refine r_bipush h dX0_isToken_26 (by decide) ?_
    refine r_icmp_ne (x := x0) (y := 46) h hx0 (by decide) 35 dX0_isToken_28 rfl ?_ ?_
    · refine r_iconst h dX0_isToken_31 ?_
      refine r_goto h 36 dX0_isToken_32 rfl ?_
      exact c_zret h hc rfl (by decide) dX0_isToken_36
    · refine r_iconst h dX0_isToken_35 ?_
      exact c_zret h hc rfl (by decide) dX0_isToken_36
def c_X0_isToken (μ : MEM) (a0 : Int) : Option zc_O := bc (c_X0_isFirst μ a0) (fun r1 μ2 => if r1 = 0 then (if a0 < 48 then (c_X0_isToken_19 μ2 a0) else (if a0 ≤ 57 then (some (0, 1, μ2)) else (c_X0_isToken_19 μ2 a0))) else (some (0, 1, μ2)))
theorem u_X0_isToken {G : zc_G} (μ : MEM) (a0 : Int) (ha0 : inR a0) (o : zc_O) (hd : c_X0_isToken μ a0 = some o) : zc_Met G yX0_isToken cX0_isToken 1 (Option.some FieldType.boolean) 3 1 20 μ [iv a0] o := by
  refine zc_intro hd (by decide) (Nat.le_of_ble_eq_true rfl) rfl (fun C h hc => ?_)
  have h : zv_Ok C cX0_isToken "TreePress" := h
  have hc : zc_C C G μ 1 (Option.some FieldType.boolean) 3 1 20 "isToken" [] := hc
  have hN : ∀ i, i < 1 → i < zv_n C := fun i q => by rw [hc.2.1]; exact q
  unfold c_X0_isToken
  refine r_iload_n h 0 dX0_isToken_0 rfl rfl ?_
  refine c_callS h hc (As := [iv a0]) (fun o1 e1 => u_X0_isFirst _ a0 ha0 o1 e1) q681 q670 q671 q132 (by omega) (by omega) zc_s0 (by omega) (fun z hz => by cases hz) ⟨by decide, by decide⟩ (n := 1) (by decide +kernel) rfl rfl dX0_isToken_1 (fun r1 μ2 hr3 => r_k3 ?_)
  refine r_if_ne (x := r1) h hr3.r 31 dX0_isToken_4 rfl ?_ ?_
  · refine r_iload_n h 0 dX0_isToken_7 rfl rfl ?_
    refine r_bipush h dX0_isToken_8 (by decide) ?_
    refine r_icmp_lt (x := a0) (y := 48) h ha0 (by decide) 19 dX0_isToken_10 rfl ?_ ?_
    · exact r_lv [0] rfl (u_X0_isToken_19 h hc _ a0 ha0)
    · refine r_iload_n h 0 dX0_isToken_13 rfl rfl ?_
      refine r_bipush h dX0_isToken_14 (by decide) ?_
      refine r_icmp_le (x := a0) (y := 57) h ha0 (by decide) 31 dX0_isToken_16 rfl ?_ ?_
      · refine r_iconst h dX0_isToken_31 ?_
        refine r_goto h 36 dX0_isToken_32 rfl ?_
        exact c_zret h hc rfl (by decide) dX0_isToken_36
      · exact r_lv [0] rfl (u_X0_isToken_19 h hc _ a0 ha0)
  · refine r_iconst h dX0_isToken_31 ?_
    refine r_goto h 36 dX0_isToken_32 rfl ?_
    exact c_zret h hc rfl (by decide) dX0_isToken_36
theorem dX2_cut_0 : decode cX2_cut 0 = .ok (.aload_n 0, 1) := by decide +kernel
theorem dX2_cut_1 : decode cX2_cut 1 = .ok (.getfield 25, 3) := by decide +kernel
theorem dX2_cut_4 : decode cX2_cut 4 = .ok (.iload_n 1, 1) := by decide +kernel
theorem dX2_cut_5 : decode cX2_cut 5 = .ok (.isub, 1) := by decide +kernel
theorem dX2_cut_6 : decode cX2_cut 6 = .ok (.newarray .byte, 2) := by decide +kernel
theorem dX2_cut_8 : decode cX2_cut 8 = .ok (.astore_n 2, 1) := by decide +kernel
theorem dX2_cut_9 : decode cX2_cut 9 = .ok (.aload_n 0, 1) := by decide +kernel
theorem dX2_cut_10 : decode cX2_cut 10 = .ok (.getfield 9, 3) := by decide +kernel
theorem dX2_cut_13 : decode cX2_cut 13 = .ok (.iload_n 1, 1) := by decide +kernel
theorem dX2_cut_14 : decode cX2_cut 14 = .ok (.aload_n 2, 1) := by decide +kernel
theorem dX2_cut_15 : decode cX2_cut 15 = .ok (.iconst 0, 1) := by decide +kernel
theorem dX2_cut_16 : decode cX2_cut 16 = .ok (.aload_n 2, 1) := by decide +kernel
theorem dX2_cut_17 : decode cX2_cut 17 = .ok (.arraylength, 1) := by decide +kernel
theorem dX2_cut_18 : decode cX2_cut 18 = .ok (.invokestatic 15, 3) := by decide +kernel
theorem dX2_cut_21 : decode cX2_cut 21 = .ok (.aload_n 2, 1) := by decide +kernel
theorem dX2_cut_22 : decode cX2_cut 22 = .ok (.areturn, 1) := by decide +kernel
def c_X2_cut (μ : MEM) (a0 a1 : Int) : Option zc_O := ck (zt [3, 15] (μ a0 (-1)) = true) (ck (inR ((μ a0 2) - a1)) (ck ((0 : Int) ≤ ((μ a0 2) - a1) ∧ ((μ a0 2) - a1) ≤ 1000000) (ck (1 ≤ μ 0 1 ∧ ((μ a0 2) - a1) ≤ μ 0 2) (nu (mnew μ 31 ((μ a0 2) - a1) ((μ a0 2) - a1)) (fun μ4 => ck (zt [3, 15] (μ4 a0 (-1)) = true) (ck (zt [31] (μ4 (μ4 a0 0) (-1)) = true) (ck ((0 : Int) ≤ a1 ∧ (0 : Int) ≤ 0 ∧ (0 : Int) ≤ (μ4 (μ 0 0) (-2)) ∧ a1 + (μ4 (μ 0 0) (-2)) ≤ μ4 (μ4 a0 0) (-2) ∧ 0 + (μ4 (μ 0 0) (-2)) ≤ μ4 (μ 0 0) (-2)) (nu (mcpy μ4 (μ4 a0 0) a1 (μ 0 0) 0 (μ4 (μ 0 0) (-2))) (fun μ9 => some (0, (μ 0 0), μ9))))))))))
theorem u_X2_cut {G : zc_G} (μ : MEM) (a0 a1 : Int) (ha1 : inR a1) (o : zc_O) (hd : c_X2_cut μ a0 a1 = some o) : zc_Met G yX2_cut cX2_cut 3 (Option.some (FieldType.array FieldType.byte)) 4 1 18 μ [zc_rv G a0, iv a1] o := by
  refine zc_intro hd (by decide) (by simp [lg_sl, zc_rv_cat, iv_cat, jv_cat]) (lv := [(0, zc_rv G a0), (1, iv a1)]) (by simp [lv_args, zc_rv_cat, iv_cat, jv_cat]) (fun C h hc => ?_)
  have h : zv_Ok C cX2_cut "TreePress$Reader" := h
  have hc : zc_C C G μ 3 (Option.some (FieldType.array FieldType.byte)) 4 1 18 "cut" [] := hc
  have hN : ∀ i, i < 3 → i < zv_n C := fun i q => by rw [hc.2.1]; exact q
  unfold c_X2_cut
  refine c_aload_n (x := a0) h 0 dX2_cut_0 rfl rfl ?_
  refine r_ck (fun ht1 => ?_)
  refine c_getI (fin := false) h hc [3, 15] 2 (zc_lk1 h q453) ht1 (by decide) dX2_cut_1 (fun hr2 => ?_)
  refine r_iload_n h 1 dX2_cut_4 rfl rfl ?_
  refine r_isub h dX2_cut_5 ?_
  refine r_ck (fun hk3 => ?_)
  refine c_naB (x := ((μ a0 2) - a1)) h hc rfl q203 hk3 dX2_cut_6 (fun _ _ μ4 he5 => ?_)
  refine c_astore_n (i := 2) (lv' := [(2, zc_rv G (μ 0 0)), (0, zc_rv G a0), (1, iv a1)]) h dX2_cut_8 rfl (hN _ (by decide)) rfl ?_
  refine c_aload_n (x := a0) h 1 dX2_cut_9 rfl rfl ?_
  refine r_ck (fun ht6 => ?_)
  refine c_getR (fin := true) h hc [3, 15] 0 (zc_lk1 h q451) ht6 (by decide) dX2_cut_10 ?_
  refine r_iload_n h 2 dX2_cut_13 rfl rfl ?_
  refine c_aload_n (x := (μ 0 0)) h 0 dX2_cut_14 rfl rfl ?_
  refine r_iconst h dX2_cut_15 ?_
  refine c_aload_n (x := (μ 0 0)) h 0 dX2_cut_16 rfl rfl ?_
  refine c_alen h hc [30, 31] (zt_sub (ts := [31]) (by decide) (zt_nw he5)) (by decide) dX2_cut_17 (fun hr7 => ?_)
  refine r_ck (fun ht8 => ?_)
  refine c_cpB (x := (μ4 a0 0)) (y := (μ 0 0)) (sp := a1) (dp := 0) (n := (μ4 (μ 0 0) (-2))) h hc q282 ha1 (by decide) hr7 ht8 (zt_nw he5) (by omega) (by show 7 + 11 ≤ _; omega) dX2_cut_18 (fun μ9 _ => ?_)
  refine c_aload_n (x := (μ 0 0)) h 0 dX2_cut_21 rfl rfl ?_
  exact c_aret h hc rfl (Or.inr ⟨_, rfl⟩) dX2_cut_22
theorem dX2_token_0 : decode cX2_token 0 = .ok (.aload_n 0, 1) := by decide +kernel
theorem dX2_token_1 : decode cX2_token 1 = .ok (.getfield 25, 3) := by decide +kernel
theorem dX2_token_4 : decode cX2_token 4 = .ok (.istore_n 1, 1) := by decide +kernel
theorem dX2_token_5 : decode cX2_token 5 = .ok (.aload_n 0, 1) := by decide +kernel
theorem dX2_token_6 : decode cX2_token 6 = .ok (.invokevirtual 50, 3) := by decide +kernel
theorem dX2_token_9 : decode cX2_token 9 = .ok (.invokestatic 61, 3) := by decide +kernel
theorem dX2_token_12 : decode cX2_token 12 = .ok (.ifCond .eq 16, 3) := by decide +kernel
theorem dX2_token_15 : decode cX2_token 15 = .ok (.aload_n 0, 1) := by decide +kernel
theorem dX2_token_16 : decode cX2_token 16 = .ok (.dup, 1) := by decide +kernel
theorem dX2_token_17 : decode cX2_token 17 = .ok (.getfield 25, 3) := by decide +kernel
theorem dX2_token_20 : decode cX2_token 20 = .ok (.iconst 1, 1) := by decide +kernel
theorem dX2_token_21 : decode cX2_token 21 = .ok (.iadd, 1) := by decide +kernel
theorem dX2_token_22 : decode cX2_token 22 = .ok (.putfield 25, 3) := by decide +kernel
theorem dX2_token_25 : decode cX2_token 25 = .ok (.goto (-20), 3) := by decide +kernel
theorem dX2_token_28 : decode cX2_token 28 = .ok (.aload_n 0, 1) := by decide +kernel
theorem dX2_token_29 : decode cX2_token 29 = .ok (.getfield 25, 3) := by decide +kernel
theorem dX2_token_32 : decode cX2_token 32 = .ok (.iload_n 1, 1) := by decide +kernel
theorem dX2_token_33 : decode cX2_token 33 = .ok (.if_icmp .ne 16, 3) := by decide +kernel
theorem dX2_token_36 : decode cX2_token 36 = .ok (.new 45, 3) := by decide +kernel
theorem dX2_token_39 : decode cX2_token 39 = .ok (.dup, 1) := by decide +kernel
theorem dX2_token_40 : decode cX2_token 40 = .ok (.iconst (-1), 1) := by decide +kernel
theorem dX2_token_41 : decode cX2_token 41 = .ok (.aload_n 0, 1) := by decide +kernel
theorem dX2_token_42 : decode cX2_token 42 = .ok (.getfield 25, 3) := by decide +kernel
theorem dX2_token_45 : decode cX2_token 45 = .ok (.invokespecial 47, 3) := by decide +kernel
theorem dX2_token_48 : decode cX2_token 48 = .ok (.athrow, 1) := by decide +kernel
theorem dX2_token_49 : decode cX2_token 49 = .ok (.aload_n 0, 1) := by decide +kernel
theorem dX2_token_50 : decode cX2_token 50 = .ok (.getfield 25, 3) := by decide +kernel
theorem dX2_token_53 : decode cX2_token 53 = .ok (.iload_n 1, 1) := by decide +kernel
theorem dX2_token_54 : decode cX2_token 54 = .ok (.isub, 1) := by decide +kernel
theorem dX2_token_55 : decode cX2_token 55 = .ok (.bipush 20, 2) := by decide +kernel
theorem dX2_token_57 : decode cX2_token 57 = .ok (.if_icmp .le 14, 3) := by decide +kernel
theorem dX2_token_60 : decode cX2_token 60 = .ok (.new 45, 3) := by decide +kernel
theorem dX2_token_63 : decode cX2_token 63 = .ok (.dup, 1) := by decide +kernel
theorem dX2_token_64 : decode cX2_token 64 = .ok (.bipush (-3), 2) := by decide +kernel
theorem dX2_token_66 : decode cX2_token 66 = .ok (.iload_n 1, 1) := by decide +kernel
theorem dX2_token_67 : decode cX2_token 67 = .ok (.invokespecial 47, 3) := by decide +kernel
theorem dX2_token_70 : decode cX2_token 70 = .ok (.athrow, 1) := by decide +kernel
theorem dX2_token_71 : decode cX2_token 71 = .ok (.aload_n 0, 1) := by decide +kernel
theorem dX2_token_72 : decode cX2_token 72 = .ok (.iload_n 1, 1) := by decide +kernel
theorem dX2_token_73 : decode cX2_token 73 = .ok (.invokevirtual 64, 3) := by decide +kernel
theorem dX2_token_76 : decode cX2_token 76 = .ok (.areturn, 1) := by decide +kernel
def c_X2_token_5 : Nat → MEM → Int → Int → Option zc_O
  | 0, _, _, _ => none
  | n + 1, μ, x0, x1 => ck (zt [3, 15] (μ x0 (-1)) = true) (bc (c_X2_here μ x0) (fun r2 μ3 => bc (c_X0_isToken μ3 r2) (fun r5 μ6 => if r5 = 0 then (ck (zt [3, 15] (μ6 x0 (-1)) = true) (if (μ6 x0 2) = x1 then (ck (1 ≤ μ6 0 1 ∧ (8 : Int) ≤ μ6 0 2) (nu (mnew μ6 22 0 8) (fun μ10 => ck (zt [3, 15] (μ10 x0 (-1)) = true) (bc (b_finit μ10 (μ6 0 0) (-1) (μ10 x0 2)) (fun _ μ14 => ck (0 < (μ6 0 0)) (some (1, (μ6 0 0), μ14))))))) else (ck (inR ((μ6 x0 2) - x1)) (if ((μ6 x0 2) - x1) ≤ 20 then (bc (c_X2_cut μ6 x0 x1) (fun r17 μ18 => some (0, r17, μ18))) else (ck (1 ≤ μ6 0 1 ∧ (8 : Int) ≤ μ6 0 2) (nu (mnew μ6 22 0 8) (fun μ20 => bc (b_finit μ20 (μ6 0 0) (-3) x1) (fun _ μ22 => ck (0 < (μ6 0 0)) (some (1, (μ6 0 0), μ22)))))))))) else (ck (zt [3, 15] (μ6 x0 (-1)) = true) (ck (inR ((μ6 x0 2) + 1)) (nu (mup μ6 x0 2 ((μ6 x0 2) + 1)) (fun μ26 => c_X2_token_5 n μ26 x0 x1)))))))
theorem u_X2_token_5 {C : zv_Cx zc_O} {G : zc_G} {μ0 : MEM} (h : zv_Ok C cX2_token "TreePress$Reader") (hc : zc_C C G μ0 2 (Option.some (FieldType.array FieldType.byte)) 4 7 142 "token" []) : ∀ (n : Nat) (μ : MEM) (x0 x1 : Int), inR x1 → VV C (c_X2_token_5 n μ x0 x1) μ [(0, zc_rv G x0), (1, iv x1)] [] 5 := by
  have hN : ∀ i, i < 2 → i < zv_n C := fun i q => by rw [hc.2.1]; exact q
  intro n
  induction n with
  | zero => intros; exact r_none
  | succ n ih =>
    intro μ x0 x1 hx1
    rw [c_X2_token_5]
    refine c_aload_n (x := x0) h 0 dX2_token_5 rfl rfl ?_
    refine r_ck (fun ht1 => ?_)
    refine c_callV (x := x0) h hc (As := []) (fun o1 e1 => u_X2_here _ x0 o1 e1) [3, 15] ht1 (by decide) q668 q493 (fun t ht => by simp only [List.mem_cons, List.not_mem_nil, or_false] at ht; rcases ht with rfl | rfl <;> first | exact q2213 | exact q2214) q494 q137 (by omega) (by omega) zc_s0 (by omega) (fun z hz => by cases hz) ⟨by decide, by decide⟩ (n := 0) (by decide +kernel) rfl rfl dX2_token_6 (fun r2 μ3 hr4 => r_k1 ?_)
    refine c_callSN h hc (As := [iv r2]) (fun o1 e1 => u_X0_isToken _ r2 hr4 o1 e1) (host := "TreePress") (by decide) q679 q680 q132 (by omega) (by omega) zc_s0 (by omega) (fun z hz => by cases hz) ⟨by decide, by decide⟩ (n := 1) (by decide +kernel) rfl rfl dX2_token_9 (fun r5 μ6 hr7 => r_k3 ?_)
    refine r_if_eq (x := r5) h hr7.r 28 dX2_token_12 rfl ?_ ?_
    · refine c_aload_n (x := x0) h 0 dX2_token_28 rfl rfl ?_
      refine r_ck (fun ht8 => ?_)
      refine c_getI (fin := false) h hc [3, 15] 2 (zc_lk1 h q453) ht8 (by decide) dX2_token_29 (fun hr9 => ?_)
      refine r_iload_n h 1 dX2_token_32 rfl rfl ?_
      refine r_icmp_ne (x := (μ6 x0 2)) (y := x1) h hr9 hx1 49 dX2_token_33 rfl ?_ ?_
      · refine c_newF h hc q576 q577 q153 dX2_token_36 (fun _ μ10 he11 => ?_)
        refine r_dup h dX2_token_39 (zc_rv_cat G _) ?_
        refine r_iconst h dX2_token_40 ?_
        refine c_aload_n (x := x0) h 0 dX2_token_41 rfl rfl ?_
        refine r_ck (fun ht12 => ?_)
        refine c_getI (fin := false) h hc [3, 15] 2 (zc_lk1 h q453) ht12 (by decide) dX2_token_42 (fun hr13 => ?_)
        refine c_callI (x := (μ6 0 0)) h hc (As := [iv (-1), iv (μ10 x0 2)]) (fun o1 e1 => w_finit _ (μ6 0 0) (-1) (μ10 x0 2) (by decide) hr13 o1 e1) [22] (zt_nw he11) (by decide) q615 q616 rfl q617 q153 (by omega) (by omega) (zc_sc (zc_rv_cat G _) zc_s0) (by omega) (fun z hz => by cases hz) ⟨by decide, by decide⟩ (n := 2) (by decide +kernel) rfl rfl dX2_token_45 (fun _ μ14 _ => r_k0 ?_)
        exact c_athrow h hc (fun z hz => by cases hz) dX2_token_48
      · refine c_aload_n (x := x0) h 0 dX2_token_49 rfl rfl ?_
        refine c_getI (fin := false) h hc [3, 15] 2 (zc_lk1 h q453) ht8 (by decide) dX2_token_50 (fun hr15 => ?_)
        refine r_iload_n h 1 dX2_token_53 rfl rfl ?_
        refine r_isub h dX2_token_54 ?_
        refine r_bipush h dX2_token_55 (by decide) ?_
        refine r_ck (fun hk16 => ?_)
        refine r_icmp_le (x := ((μ6 x0 2) - x1)) (y := 20) h hk16 (by decide) 71 dX2_token_57 rfl ?_ ?_
        · refine c_aload_n (x := x0) h 0 dX2_token_71 rfl rfl ?_
          refine r_iload_n h 1 dX2_token_72 rfl rfl ?_
          refine c_callV (x := x0) h hc (As := [iv x1]) (fun o1 e1 => u_X2_cut _ x0 x1 hx1 o1 e1) [3, 15] ht8 (by decide) q682 q683 (fun t ht => by simp only [List.mem_cons, List.not_mem_nil, or_false] at ht; rcases ht with rfl | rfl <;> first | exact q685 | exact q686) q687 q137 (by omega) (by omega) zc_s0 (by omega) (fun z hz => by cases hz) ⟨by decide, by decide⟩ (n := 1) (by decide +kernel) rfl rfl dX2_token_73 (fun r17 μ18 hr19 => r_k4 ?_)
          exact c_aret h hc rfl (Or.inr ⟨_, rfl⟩) dX2_token_76
        · refine c_newF h hc q576 q577 q153 dX2_token_60 (fun _ μ20 he21 => ?_)
          refine r_dup h dX2_token_63 (zc_rv_cat G _) ?_
          refine r_bipush h dX2_token_64 (by decide) ?_
          refine r_iload_n h 1 dX2_token_66 rfl rfl ?_
          refine c_callI (x := (μ6 0 0)) h hc (As := [iv (-3), iv x1]) (fun o1 e1 => w_finit _ (μ6 0 0) (-3) x1 (by decide) hx1 o1 e1) [22] (zt_nw he21) (by decide) q615 q616 rfl q617 q153 (by omega) (by omega) (zc_sc (zc_rv_cat G _) zc_s0) (by omega) (fun z hz => by cases hz) ⟨by decide, by decide⟩ (n := 2) (by decide +kernel) rfl rfl dX2_token_67 (fun _ μ22 _ => r_k0 ?_)
          exact c_athrow h hc (fun z hz => by cases hz) dX2_token_70
    · refine c_aload_n (x := x0) h 0 dX2_token_15 rfl rfl ?_
      refine r_dup h dX2_token_16 (zc_rv_cat G _) ?_
      refine r_ck (fun ht23 => ?_)
      refine c_getI (fin := false) h hc [3, 15] 2 (zc_lk1 h q453) ht23 (by decide) dX2_token_17 (fun hr24 => ?_)
      refine r_iconst h dX2_token_20 ?_
      refine r_iadd h dX2_token_21 ?_
      refine r_ck (fun hk25 => ?_)
      refine c_putI (x := x0) (y := ((μ6 x0 2) + 1)) h hc [3, 15] 2 false (zc_lk1 h q453) ht23 (by decide) (Or.inl rfl) hk25 dX2_token_22 (fun μ26 he27 => ?_)
      refine r_goto h 5 dX2_token_25 rfl ?_
      exact r_lv [0, 1] rfl (ih _ x0 x1 hx1)
def c_X2_token (μ : MEM) (a0 : Int) : Option zc_O := ck (zt [3, 15] (μ a0 (-1)) = true) (c_X2_token_5 zF μ a0 (μ a0 2))
theorem u_X2_token {G : zc_G} (μ : MEM) (a0 : Int) (o : zc_O) (hd : c_X2_token μ a0 = some o) : zc_Met G yX2_token cX2_token 2 (Option.some (FieldType.array FieldType.byte)) 4 7 142 μ [zc_rv G a0] o := by
  refine zc_intro hd (by decide) (by simp [lg_sl, zc_rv_cat, iv_cat, jv_cat]) (lv := [(0, zc_rv G a0)]) (by simp [lv_args, zc_rv_cat, iv_cat, jv_cat]) (fun C h hc => ?_)
  have h : zv_Ok C cX2_token "TreePress$Reader" := h
  have hc : zc_C C G μ 2 (Option.some (FieldType.array FieldType.byte)) 4 7 142 "token" [] := hc
  have hN : ∀ i, i < 2 → i < zv_n C := fun i q => by rw [hc.2.1]; exact q
  unfold c_X2_token
  refine c_aload_n (x := a0) h 0 dX2_token_0 rfl rfl ?_
  refine r_ck (fun ht1 => ?_)
  refine c_getI (fin := false) h hc [3, 15] 2 (zc_lk1 h q453) ht1 (by decide) dX2_token_1 (fun hr2 => ?_)
  refine r_istore_n (i := 1) (lv' := [(1, iv (μ a0 2)), (0, zc_rv G a0)]) h dX2_token_4 rfl (hN _ (by decide)) (by simp [zc_rv_cat]) ?_
  exact r_lv [1, 0] rfl (u_X2_token_5 h hc zF _ a0 (μ a0 2) hr2)
theorem dX2_name_0 : decode cX2_name 0 = .ok (.aload_n 0, 1) := by decide +kernel
theorem dX2_name_1 : decode cX2_name 1 = .ok (.invokevirtual 50, 3) := by decide +kernel
theorem dX2_name_4 : decode cX2_name 4 = .ok (.invokestatic 53, 3) := by decide +kernel
theorem dX2_name_7 : decode cX2_name 7 = .ok (.ifCond .ne 16, 3) := by decide +kernel
theorem dX2_name_10 : decode cX2_name 10 = .ok (.new 45, 3) := by decide +kernel
theorem dX2_name_13 : decode cX2_name 13 = .ok (.dup, 1) := by decide +kernel
theorem dX2_name_14 : decode cX2_name 14 = .ok (.iconst (-1), 1) := by decide +kernel
theorem dX2_name_15 : decode cX2_name 15 = .ok (.aload_n 0, 1) := by decide +kernel
theorem dX2_name_16 : decode cX2_name 16 = .ok (.getfield 25, 3) := by decide +kernel
theorem dX2_name_19 : decode cX2_name 19 = .ok (.invokespecial 47, 3) := by decide +kernel
theorem dX2_name_22 : decode cX2_name 22 = .ok (.athrow, 1) := by decide +kernel
theorem dX2_name_23 : decode cX2_name 23 = .ok (.aload_n 0, 1) := by decide +kernel
theorem dX2_name_24 : decode cX2_name 24 = .ok (.invokevirtual 57, 3) := by decide +kernel
theorem dX2_name_27 : decode cX2_name 27 = .ok (.areturn, 1) := by decide +kernel
def c_X2_name (μ : MEM) (a0 : Int) : Option zc_O := ck (zt [3, 15] (μ a0 (-1)) = true) (bc (c_X2_here μ a0) (fun r2 μ3 => bc (c_X0_isFirst μ3 r2) (fun r5 μ6 => if r5 = 0 then (ck (1 ≤ μ6 0 1 ∧ (8 : Int) ≤ μ6 0 2) (nu (mnew μ6 22 0 8) (fun μ8 => ck (zt [3, 15] (μ8 a0 (-1)) = true) (bc (b_finit μ8 (μ6 0 0) (-1) (μ8 a0 2)) (fun _ μ12 => ck (0 < (μ6 0 0)) (some (1, (μ6 0 0), μ12))))))) else (ck (zt [3, 15] (μ6 a0 (-1)) = true) (bc (c_X2_token μ6 a0) (fun r14 μ15 => some (0, r14, μ15)))))))
theorem u_X2_name {G : zc_G} (μ : MEM) (a0 : Int) (o : zc_O) (hd : c_X2_name μ a0 = some o) : zc_Met G yX2_name cX2_name 1 (Option.some (FieldType.array FieldType.byte)) 4 8 163 μ [zc_rv G a0] o := by
  refine zc_intro hd (by decide) (by simp [lg_sl, zc_rv_cat, iv_cat, jv_cat]) (lv := [(0, zc_rv G a0)]) (by simp [lv_args, zc_rv_cat, iv_cat, jv_cat]) (fun C h hc => ?_)
  have h : zv_Ok C cX2_name "TreePress$Reader" := h
  have hc : zc_C C G μ 1 (Option.some (FieldType.array FieldType.byte)) 4 8 163 "name" [] := hc
  have hN : ∀ i, i < 1 → i < zv_n C := fun i q => by rw [hc.2.1]; exact q
  unfold c_X2_name
  refine c_aload_n (x := a0) h 0 dX2_name_0 rfl rfl ?_
  refine r_ck (fun ht1 => ?_)
  refine c_callV (x := a0) h hc (As := []) (fun o1 e1 => u_X2_here _ a0 o1 e1) [3, 15] ht1 (by decide) q668 q493 (fun t ht => by simp only [List.mem_cons, List.not_mem_nil, or_false] at ht; rcases ht with rfl | rfl <;> first | exact q2213 | exact q2214) q494 q137 (by omega) (by omega) zc_s0 (by omega) (fun z hz => by cases hz) ⟨by decide, by decide⟩ (n := 0) (by decide +kernel) rfl rfl dX2_name_1 (fun r2 μ3 hr4 => r_k1 ?_)
  refine c_callSN h hc (As := [iv r2]) (fun o1 e1 => u_X0_isFirst _ r2 hr4 o1 e1) (host := "TreePress") (by decide) q670 q671 q132 (by omega) (by omega) zc_s0 (by omega) (fun z hz => by cases hz) ⟨by decide, by decide⟩ (n := 1) (by decide +kernel) rfl rfl dX2_name_4 (fun r5 μ6 hr7 => r_k3 ?_)
  refine r_if_ne (x := r5) h hr7.r 23 dX2_name_7 rfl ?_ ?_
  · refine c_newF h hc q576 q577 q153 dX2_name_10 (fun _ μ8 he9 => ?_)
    refine r_dup h dX2_name_13 (zc_rv_cat G _) ?_
    refine r_iconst h dX2_name_14 ?_
    refine c_aload_n (x := a0) h 0 dX2_name_15 rfl rfl ?_
    refine r_ck (fun ht10 => ?_)
    refine c_getI (fin := false) h hc [3, 15] 2 (zc_lk1 h q453) ht10 (by decide) dX2_name_16 (fun hr11 => ?_)
    refine c_callI (x := (μ6 0 0)) h hc (As := [iv (-1), iv (μ8 a0 2)]) (fun o1 e1 => w_finit _ (μ6 0 0) (-1) (μ8 a0 2) (by decide) hr11 o1 e1) [22] (zt_nw he9) (by decide) q615 q616 rfl q617 q153 (by omega) (by omega) (zc_sc (zc_rv_cat G _) zc_s0) (by omega) (fun z hz => by cases hz) ⟨by decide, by decide⟩ (n := 2) (by decide +kernel) rfl rfl dX2_name_19 (fun _ μ12 _ => r_k0 ?_)
    exact c_athrow h hc (fun z hz => by cases hz) dX2_name_22
  · refine c_aload_n (x := a0) h 0 dX2_name_23 rfl rfl ?_
    refine r_ck (fun ht13 => ?_)
    refine c_callV (x := a0) h hc (As := []) (fun o1 e1 => u_X2_token _ a0 o1 e1) [3, 15] ht13 (by decide) q672 q673 (fun t ht => by simp only [List.mem_cons, List.not_mem_nil, or_false] at ht; rcases ht with rfl | rfl <;> first | exact q675 | exact q676) q677 q137 (by omega) (by omega) zc_s0 (by omega) (fun z hz => by cases hz) ⟨by decide, by decide⟩ (n := 0) (by decide +kernel) rfl rfl dX2_name_24 (fun r14 μ15 hr16 => r_k4 ?_)
    exact c_aret h hc rfl (Or.inr ⟨_, rfl⟩) dX2_name_27
theorem dX3_nameOf_0 : decode cX3_nameOf 0 = .ok (.aload_n 0, 1) := by decide +kernel
theorem dX3_nameOf_1 : decode cX3_nameOf 1 = .ok (.invokevirtual 31, 3) := by decide +kernel
theorem dX3_nameOf_4 : decode cX3_nameOf 4 = .ok (.istore_n 2, 1) := by decide +kernel
theorem dX3_nameOf_5 : decode cX3_nameOf 5 = .ok (.aload_n 0, 1) := by decide +kernel
theorem dX3_nameOf_6 : decode cX3_nameOf 6 = .ok (.invokevirtual 113, 3) := by decide +kernel
theorem dX3_nameOf_9 : decode cX3_nameOf 9 = .ok (.astore_n 3, 1) := by decide +kernel
theorem dX3_nameOf_10 : decode cX3_nameOf 10 = .ok (.aload_n 1, 1) := by decide +kernel
theorem dX3_nameOf_11 : decode cX3_nameOf 11 = .ok (.getfield 156, 3) := by decide +kernel
theorem dX3_nameOf_14 : decode cX3_nameOf 14 = .ok (.invokevirtual 94, 3) := by decide +kernel
theorem dX3_nameOf_17 : decode cX3_nameOf 17 = .ok (.bipush 40, 2) := by decide +kernel
theorem dX3_nameOf_19 : decode cX3_nameOf 19 = .ok (.if_icmp .ne 14, 3) := by decide +kernel
theorem dX3_nameOf_22 : decode cX3_nameOf 22 = .ok (.new 50, 3) := by decide +kernel
theorem dX3_nameOf_25 : decode cX3_nameOf 25 = .ok (.dup, 1) := by decide +kernel
theorem dX3_nameOf_26 : decode cX3_nameOf 26 = .ok (.bipush (-3), 2) := by decide +kernel
theorem dX3_nameOf_28 : decode cX3_nameOf 28 = .ok (.iload_n 2, 1) := by decide +kernel
theorem dX3_nameOf_29 : decode cX3_nameOf 29 = .ok (.invokespecial 52, 3) := by decide +kernel
theorem dX3_nameOf_32 : decode cX3_nameOf 32 = .ok (.athrow, 1) := by decide +kernel
theorem dX3_nameOf_33 : decode cX3_nameOf 33 = .ok (.aload_n 1, 1) := by decide +kernel
theorem dX3_nameOf_34 : decode cX3_nameOf 34 = .ok (.getfield 156, 3) := by decide +kernel
theorem dX3_nameOf_37 : decode cX3_nameOf 37 = .ok (.aload_n 3, 1) := by decide +kernel
theorem dX3_nameOf_38 : decode cX3_nameOf 38 = .ok (.invokevirtual 152, 3) := by decide +kernel
theorem dX3_nameOf_41 : decode cX3_nameOf 41 = .ok (.pop, 1) := by decide +kernel
theorem dX3_nameOf_42 : decode cX3_nameOf 42 = .ok (.aload_n 1, 1) := by decide +kernel
theorem dX3_nameOf_43 : decode cX3_nameOf 43 = .ok (.getfield 156, 3) := by decide +kernel
theorem dX3_nameOf_46 : decode cX3_nameOf 46 = .ok (.invokevirtual 94, 3) := by decide +kernel
theorem dX3_nameOf_49 : decode cX3_nameOf 49 = .ok (.iconst 1, 1) := by decide +kernel
theorem dX3_nameOf_50 : decode cX3_nameOf 50 = .ok (.isub, 1) := by decide +kernel
theorem dX3_nameOf_51 : decode cX3_nameOf 51 = .ok (.ireturn, 1) := by decide +kernel
def c_X3_nameOf (μ : MEM) (a0 a1 : Int) : Option zc_O := ck (zt [3] (μ a0 (-1)) = true) (bc (c_X2_place μ a0) (fun r2 μ3 => ck (zt [3] (μ3 a0 (-1)) = true) (bc (c_X2_name μ3 a0) (fun r6 μ7 => ck (zt [8] (μ7 a1 (-1)) = true) (ck (zt [40] (μ7 (μ7 a1 2) (-1)) = true) (bc (b_lsize μ7 (μ7 a1 2)) (fun r11 μ12 => if r11 = 40 then (ck (1 ≤ μ12 0 1 ∧ (8 : Int) ≤ μ12 0 2) (nu (mnew μ12 22 0 8) (fun μ14 => bc (b_finit μ14 (μ12 0 0) (-3) r2) (fun _ μ16 => ck (0 < (μ12 0 0)) (some (1, (μ12 0 0), μ16)))))) else (ck (zt [8] (μ12 a1 (-1)) = true) (ck (zt [40] (μ12 (μ12 a1 2) (-1)) = true) (bc (b_ladd μ12 (μ12 a1 2) r6) (fun r19 μ20 => ck (zt [8] (μ20 a1 (-1)) = true) (ck (zt [40] (μ20 (μ20 a1 2) (-1)) = true) (bc (b_lsize μ20 (μ20 a1 2)) (fun r24 μ25 => ck (inR (r24 - 1)) (some (0, (r24 - 1), μ25))))))))))))))))
theorem u_X3_nameOf {G : zc_G} (μ : MEM) (a0 a1 : Int) (o : zc_O) (hd : c_X3_nameOf μ a0 a1 = some o) : zc_Met G yX3_nameOf cX3_nameOf 4 (Option.some FieldType.int) 1 9 183 μ [zc_rv G a0, zc_rv G a1] o := by
  refine zc_intro hd (by decide) (by simp [lg_sl, zc_rv_cat, iv_cat, jv_cat]) (lv := [(0, zc_rv G a0), (1, zc_rv G a1)]) (by simp [lv_args, zc_rv_cat, iv_cat, jv_cat]) (fun C h hc => ?_)
  have h : zv_Ok C cX3_nameOf "TreePress$Parser" := h
  have hc : zc_C C G μ 4 (Option.some FieldType.int) 1 9 183 "nameOf" [] := hc
  have hN : ∀ i, i < 4 → i < zv_n C := fun i q => by rw [hc.2.1]; exact q
  unfold c_X3_nameOf
  refine c_aload_n (x := a0) h 0 dX3_nameOf_0 rfl rfl ?_
  refine r_ck (fun ht1 => ?_)
  refine c_callU (x := a0) (xm := ⟨"TreePress$Parser", "place", "()I"⟩) (owner := "TreePress$Reader") h hc (As := []) (fun o1 e1 => u_X2_place _ a0 o1 e1) [3] ht1 (by decide) q483 q484 (va_Decl.of (h.2.2.2.2 _ q487) (h.2.2.2.2 _ q488)) ⟨by decide, by decide⟩ q487 (fun t ht => by cases List.mem_singleton.mp ht; exact q486) q488 q137 (by omega) (by omega) zc_s0 (by omega) (fun z hz => by cases hz) (n := 0) (by decide +kernel) rfl rfl dX3_nameOf_1 (fun r2 μ3 hr4 => r_k1 ?_)
  refine r_istore_n (i := 2) (lv' := [(2, iv r2), (0, zc_rv G a0), (1, zc_rv G a1)]) h dX3_nameOf_4 rfl (hN _ (by decide)) (by simp [zc_rv_cat]) ?_
  refine c_aload_n (x := a0) h 1 dX3_nameOf_5 rfl rfl ?_
  refine r_ck (fun ht5 => ?_)
  refine c_callU (x := a0) (xm := ⟨"TreePress$Parser", "name", "()[B"⟩) (owner := "TreePress$Reader") h hc (As := []) (fun o1 e1 => u_X2_name _ a0 o1 e1) [3] ht5 (by decide) q662 q663 (va_Decl.of (h.2.2.2.2 _ q666) (h.2.2.2.2 _ q667)) ⟨by decide, by decide⟩ q666 (fun t ht => by cases List.mem_singleton.mp ht; exact q665) q667 q137 (by omega) (by omega) zc_s0 (by omega) (fun z hz => by cases hz) (n := 0) (by decide +kernel) rfl rfl dX3_nameOf_6 (fun r6 μ7 hr8 => r_k4 ?_)
  refine c_astore_n (i := 3) (lv' := [(3, zc_rv G r6), (2, iv r2), (0, zc_rv G a0), (1, zc_rv G a1)]) h dX3_nameOf_9 rfl (hN _ (by decide)) rfl ?_
  refine c_aload_n (x := a1) h 3 dX3_nameOf_10 rfl rfl ?_
  refine r_ck (fun ht9 => ?_)
  refine c_getR (fin := true) h hc [8] 2 (zc_lk3 hc (O := "TreePress$Spec") (n := "places") (ds := "Ljava/util/ArrayList;") (host := "TreePress") (by decide)) ht9 (by decide) dX3_nameOf_11 ?_
  refine r_ck (fun ht10 => ?_)
  refine c_callV (x := (μ7 a1 2)) h hc (As := []) (fun o1 e1 => w_lsize _ (μ7 a1 2) o1 e1) [40] ht10 (by decide) q695 q343 (fun t ht => by cases List.mem_singleton.mp ht; exact q344) q345 q135 (by omega) (by omega) zc_s0 (by omega) (fun z hz => by cases hz) ⟨by decide, by decide⟩ (n := 0) (by decide +kernel) rfl rfl dX3_nameOf_14 (fun r11 μ12 hr13 => r_k1 ?_)
  refine r_bipush h dX3_nameOf_17 (by decide) ?_
  refine r_icmp_ne (x := r11) (y := 40) h hr13 (by decide) 33 dX3_nameOf_19 rfl ?_ ?_
  · refine c_newF h hc q650 q577 q153 dX3_nameOf_22 (fun _ μ14 he15 => ?_)
    refine r_dup h dX3_nameOf_25 (zc_rv_cat G _) ?_
    refine r_bipush h dX3_nameOf_26 (by decide) ?_
    refine r_iload_n h 1 dX3_nameOf_28 rfl rfl ?_
    refine c_callI (x := (μ12 0 0)) h hc (As := [iv (-3), iv r2]) (fun o1 e1 => w_finit _ (μ12 0 0) (-3) r2 (by decide) hr4 o1 e1) [22] (zt_nw he15) (by decide) q651 q616 rfl q617 q153 (by omega) (by omega) (zc_sc (zc_rv_cat G _) zc_s0) (by omega) (fun z hz => by cases hz) ⟨by decide, by decide⟩ (n := 2) (by decide +kernel) rfl rfl dX3_nameOf_29 (fun _ μ16 _ => r_k0 ?_)
    exact c_athrow h hc (fun z hz => by cases hz) dX3_nameOf_32
  · refine c_aload_n (x := a1) h 3 dX3_nameOf_33 rfl rfl ?_
    refine r_ck (fun ht17 => ?_)
    refine c_getR (fin := true) h hc [8] 2 (zc_lk3 hc (O := "TreePress$Spec") (n := "places") (ds := "Ljava/util/ArrayList;") (host := "TreePress") (by decide)) ht17 (by decide) dX3_nameOf_34 ?_
    refine c_aload_n (x := r6) h 0 dX3_nameOf_37 rfl rfl ?_
    refine r_ck (fun ht18 => ?_)
    refine c_callV (x := (μ12 a1 2)) h hc (As := [zc_rv G r6]) (fun o1 e1 => w_ladd _ (μ12 a1 2) r6 o1 e1) [40] ht18 (by decide) q765 q347 (fun t ht => by cases List.mem_singleton.mp ht; exact q348) q349 q135 (by omega) (by omega) zc_s0 (by omega) (fun z hz => by cases hz) ⟨by decide, by decide⟩ (n := 1) (by decide +kernel) rfl rfl dX3_nameOf_38 (fun r19 μ20 hr21 => r_k3 ?_)
    refine r_pop h dX3_nameOf_41 (iv_cat _) ?_
    refine c_aload_n (x := a1) h 3 dX3_nameOf_42 rfl rfl ?_
    refine r_ck (fun ht22 => ?_)
    refine c_getR (fin := true) h hc [8] 2 (zc_lk3 hc (O := "TreePress$Spec") (n := "places") (ds := "Ljava/util/ArrayList;") (host := "TreePress") (by decide)) ht22 (by decide) dX3_nameOf_43 ?_
    refine r_ck (fun ht23 => ?_)
    refine c_callV (x := (μ20 a1 2)) h hc (As := []) (fun o1 e1 => w_lsize _ (μ20 a1 2) o1 e1) [40] ht23 (by decide) q695 q343 (fun t ht => by cases List.mem_singleton.mp ht; exact q344) q345 q135 (by omega) (by omega) zc_s0 (by omega) (fun z hz => by cases hz) ⟨by decide, by decide⟩ (n := 0) (by decide +kernel) rfl rfl dX3_nameOf_46 (fun r24 μ25 hr26 => r_k1 ?_)
    refine r_iconst h dX3_nameOf_49 ?_
    refine r_isub h dX3_nameOf_50 ?_
    refine r_ck (fun hk27 => ?_)
    exact c_iret h hc rfl hk27 dX3_nameOf_51
theorem dX9_init_0 : decode cX9_init 0 = .ok (.aload_n 0, 1) := by decide +kernel
theorem dX9_init_1 : decode cX9_init 1 = .ok (.invokespecial 1, 3) := by decide +kernel
theorem dX9_init_4 : decode cX9_init 4 = .ok (.return_, 1) := by decide +kernel
def c_X9_init (μ : MEM) (a0 : Int) : Option zc_O := ck (zt [9] (μ a0 (-1)) = true) (some (0, 0, μ))
theorem u_X9_init {G : zc_G} (μ : MEM) (a0 : Int) (o : zc_O) (hd : c_X9_init μ a0 = some o) : zc_Met G yX9_init cX9_init 1 (Option.none : Option FieldType) 0 1 20 μ [zc_rv G a0] o := by
  refine zc_intro hd (by decide) (by simp [lg_sl, zc_rv_cat, iv_cat, jv_cat]) (lv := [(0, zc_rv G a0)]) (by simp [lv_args, zc_rv_cat, iv_cat, jv_cat]) (fun C h hc => ?_)
  have h : zv_Ok C cX9_init "TreePress$Part" := h
  have hc : zc_C C G μ 1 (Option.none : Option FieldType) 0 1 20 "<init>" [] := hc
  have hN : ∀ i, i < 1 → i < zv_n C := fun i q => by rw [hc.2.1]; exact q
  unfold c_X9_init
  refine c_aload_n (x := a0) h 0 dX9_init_0 rfl rfl ?_
  refine r_ck (fun ht1 => ?_)
  refine c_oinit h hc [9] ht1 (by decide) q771 q173 q174 (by omega) zc_s0 (by omega) dX9_init_1 ?_
  exact c_vret h hc rfl dX9_init_4
