set_option maxRecDepth 100000
/-! THE CLASS SIDE (written by wip/gen/clayer.py). Memory μ x j: x > 0 the cell x - 1, x = 0 null, x < 0 the String constant -x; j ≥ 0 a field's column or an element's index, j = -1 the tag (0: not ours; 1..21 an object of that class; 30..36 an array; 40 an ArrayList; 41 an ArrayList's own array), j = -2 the length, j = -3, -4 a list's room and its array; μ 0 0: the next cell's number, μ 0 1: cells left, μ 0 2: slots left -/
def zc_R : Nat → String := fun t => match t with
  | 1 => RX0
  | 3 => RX3
  | 4 => RX4
  | 6 => RX6
  | 7 => RX7
  | 8 => RX8
  | 9 => RX9
  | 10 => RX10
  | 11 => RX11
  | 13 => RX13
  | 14 => RX14
  | 15 => RX15
  | 16 => RX16
  | 17 => RX17
  | 18 => RX18
  | 19 => RX19
  | 21 => RJ2
  | _ => "?"
def zc_T : Nat → u_T := fun t => match t with
  | 1 => TX0
  | 3 => TX3
  | 4 => TX4
  | 6 => TX6
  | 7 => TX7
  | 8 => TX8
  | 9 => TX9
  | 10 => TX10
  | 11 => TX11
  | 13 => TX13
  | 14 => TX14
  | 15 => TX15
  | 16 => TX16
  | 17 => TX17
  | 18 => TX18
  | 19 => TX19
  | 21 => TJ2
  | _ => (fun _ => ("?", "?", "?", false))
def zc_N : Nat → Nat := fun t => match t with
  | 1 => 18
  | 3 => 8
  | 4 => 8
  | 6 => 4
  | 7 => 8
  | 8 => 7
  | 9 => 3
  | 10 => 7
  | 11 => 6
  | 13 => 5
  | 14 => 4
  | 15 => 5
  | 16 => 4
  | 17 => 5
  | 18 => 5
  | 19 => 3
  | 21 => 3
  | _ => 0
def zc_ty : Nat → (Nat → FieldType) := fun t => match t with
  | 1 => tyX0
  | 3 => tyX3
  | 4 => tyX4
  | 6 => tyX6
  | 7 => tyX7
  | 8 => tyX8
  | 9 => tyX9
  | 10 => tyX10
  | 11 => tyX11
  | 13 => tyX13
  | 14 => tyX14
  | 15 => tyX15
  | 16 => tyX16
  | 17 => tyX17
  | 18 => tyX18
  | 19 => tyX19
  | 21 => tyJ2
  | _ => (fun _ => .int)
def zc_kd : Nat → Nat → Nat := fun t k => match t, k with
  | 1, 0 => 9
  | 1, 1 => 0
  | 1, 2 => 0
  | 1, 3 => 9
  | 1, 4 => 9
  | 1, 5 => 9
  | 1, 6 => 9
  | 1, 7 => 9
  | 1, 8 => 0
  | 1, 9 => 0
  | 1, 10 => 0
  | 1, 11 => 9
  | 1, 12 => 9
  | 1, 13 => 9
  | 1, 14 => 9
  | 1, 15 => 0
  | 1, 16 => 0
  | 1, 17 => 9
  | 3, 0 => 9
  | 3, 1 => 0
  | 3, 2 => 0
  | 3, 3 => 9
  | 3, 4 => 9
  | 3, 5 => 9
  | 3, 6 => 0
  | 3, 7 => 1
  | 4, 0 => 9
  | 4, 1 => 9
  | 4, 2 => 9
  | 4, 3 => 9
  | 4, 4 => 9
  | 4, 5 => 9
  | 4, 6 => 0
  | 4, 7 => 9
  | 6, 0 => 0
  | 6, 1 => 9
  | 6, 2 => 9
  | 6, 3 => 0
  | 7, 0 => 8
  | 7, 1 => 8
  | 7, 2 => 8
  | 7, 3 => 8
  | 7, 4 => 8
  | 7, 5 => 8
  | 7, 6 => 0
  | 7, 7 => 0
  | 8, 0 => 9
  | 8, 1 => 0
  | 8, 2 => 9
  | 8, 3 => 9
  | 8, 4 => 2
  | 8, 5 => 2
  | 8, 6 => 1
  | 9, 0 => 2
  | 9, 1 => 2
  | 9, 2 => 1
  | 10, 0 => 9
  | 10, 1 => 9
  | 10, 2 => 0
  | 10, 3 => 0
  | 10, 4 => 0
  | 10, 5 => 9
  | 10, 6 => 9
  | 11, 0 => 0
  | 11, 1 => 9
  | 11, 2 => 9
  | 11, 3 => 0
  | 11, 4 => 9
  | 11, 5 => 9
  | 13, 0 => 9
  | 13, 1 => 0
  | 13, 2 => 9
  | 13, 3 => 9
  | 13, 4 => 1
  | 14, 0 => 9
  | 14, 1 => 0
  | 14, 2 => 9
  | 14, 3 => 1
  | 15, 0 => 9
  | 15, 1 => 0
  | 15, 2 => 0
  | 15, 3 => 9
  | 15, 4 => 1
  | 16, 0 => 0
  | 16, 1 => 1
  | 16, 2 => 9
  | 16, 3 => 9
  | 17, 0 => 0
  | 17, 1 => 0
  | 17, 2 => 1
  | 17, 3 => 9
  | 17, 4 => 9
  | 18, 0 => 9
  | 18, 1 => 0
  | 18, 2 => 0
  | 18, 3 => 0
  | 18, 4 => 9
  | 19, 0 => 0
  | 19, 1 => 0
  | 19, 2 => 1
  | 21, 0 => 0
  | 21, 1 => 9
  | 21, 2 => 0
  | _, _ => 8
def zc_col : Nat → Nat → Int := fun t k => match t, k with
  | 1, 0 => 0
  | 1, 1 => 1
  | 1, 2 => 2
  | 1, 3 => 3
  | 1, 4 => 4
  | 1, 5 => 5
  | 1, 6 => 6
  | 1, 7 => 7
  | 1, 8 => 8
  | 1, 9 => 9
  | 1, 10 => 10
  | 1, 11 => 11
  | 1, 12 => 12
  | 1, 13 => 13
  | 1, 14 => 14
  | 1, 15 => 15
  | 1, 16 => 16
  | 1, 17 => 17
  | 3, 0 => 0
  | 3, 1 => 1
  | 3, 2 => 2
  | 3, 3 => 3
  | 3, 4 => 4
  | 3, 5 => 5
  | 3, 6 => 6
  | 3, 7 => 7
  | 4, 0 => 0
  | 4, 1 => 1
  | 4, 2 => 2
  | 4, 3 => 3
  | 4, 4 => 4
  | 4, 5 => 5
  | 4, 6 => 6
  | 4, 7 => 7
  | 6, 0 => 0
  | 6, 1 => 1
  | 6, 2 => 2
  | 6, 3 => 3
  | 7, 0 => 0
  | 7, 1 => 1
  | 7, 2 => 2
  | 7, 3 => 3
  | 7, 4 => 4
  | 7, 5 => 5
  | 7, 6 => 6
  | 7, 7 => 7
  | 8, 0 => 0
  | 8, 1 => 1
  | 8, 2 => 2
  | 8, 3 => 3
  | 8, 4 => 4
  | 8, 5 => 5
  | 8, 6 => 6
  | 9, 0 => 0
  | 9, 1 => 1
  | 9, 2 => 2
  | 10, 0 => 0
  | 10, 1 => 1
  | 10, 2 => 2
  | 10, 3 => 3
  | 10, 4 => 4
  | 10, 5 => 5
  | 10, 6 => 6
  | 11, 0 => 0
  | 11, 1 => 1
  | 11, 2 => 2
  | 11, 3 => 3
  | 11, 4 => 4
  | 11, 5 => 5
  | 13, 0 => 6
  | 13, 1 => 0
  | 13, 2 => 1
  | 13, 3 => 7
  | 13, 4 => 8
  | 14, 0 => 6
  | 14, 1 => 0
  | 14, 2 => 1
  | 14, 3 => 9
  | 15, 0 => 0
  | 15, 1 => 1
  | 15, 2 => 2
  | 15, 3 => 3
  | 15, 4 => 4
  | 16, 0 => 0
  | 16, 1 => 1
  | 16, 2 => 2
  | 16, 3 => 3
  | 17, 0 => 0
  | 17, 1 => 1
  | 17, 2 => 2
  | 17, 3 => 3
  | 17, 4 => 4
  | 18, 0 => 0
  | 18, 1 => 1
  | 18, 2 => 2
  | 18, 3 => 3
  | 18, 4 => 4
  | 19, 0 => 0
  | 19, 1 => 1
  | 19, 2 => 2
  | 21, 0 => 0
  | 21, 1 => 1
  | 21, 2 => 2
  | _, _ => 0
def zc_tags : List Nat := [1, 3, 4, 6, 7, 8, 9, 10, 11, 13, 14, 15, 16, 17, 18, 19, 21]
theorem zc_tg {t : Nat} (h : 0 < zc_N t) : t ∈ zc_tags := by
  unfold zc_N at h
  split at h <;> first | decide | omega
theorem zc_all {P : Nat → Prop} (h : ∀ t ∈ zc_tags, P t) {t : Nat} (ht : 0 < zc_N t) : P t := h t (zc_tg ht)
theorem zc_in {t : Nat} (ht : 0 < zc_N t) : ∀ w ∈ u_ws (zc_R t) (zc_T t) (zc_N t), w ∈ lw_all := by
  have h := zc_tg ht
  simp only [zc_tags, List.mem_cons, List.not_mem_nil, or_false] at h
  rcases h with rfl | rfl | rfl | rfl | rfl | rfl | rfl | rfl | rfl | rfl | rfl | rfl | rfl | rfl | rfl | rfl | rfl
  · exact in_X0
  · exact in_X3
  · exact in_X4
  · exact in_X6
  · exact in_X7
  · exact in_X8
  · exact in_X9
  · exact in_X10
  · exact in_X11
  · exact in_X13
  · exact in_X14
  · exact in_X15
  · exact in_X16
  · exact in_X17
  · exact in_X18
  · exact in_X19
  · exact in_J2
theorem zc_tyok {t : Nat} (ht : 0 < zc_N t) : ∀ k, k < zc_N t → parseFieldDescriptor (zc_T t k).2.2.1 = some (zc_ty t k) := by
  have h := zc_tg ht
  simp only [zc_tags, List.mem_cons, List.not_mem_nil, or_false] at h
  rcases h with rfl | rfl | rfl | rfl | rfl | rfl | rfl | rfl | rfl | rfl | rfl | rfl | rfl | rfl | rfl | rfl | rfl
  · exact tyX0_ok
  · exact tyX3_ok
  · exact tyX4_ok
  · exact tyX6_ok
  · exact tyX7_ok
  · exact tyX8_ok
  · exact tyX9_ok
  · exact tyX10_ok
  · exact tyX11_ok
  · exact tyX13_ok
  · exact tyX14_ok
  · exact tyX15_ok
  · exact tyX16_ok
  · exact tyX17_ok
  · exact tyX18_ok
  · exact tyX19_ok
  · exact tyJ2_ok
theorem zc_nm {t : Nat} (ht : 0 < zc_N t) : ∀ a, a < zc_N t → ∀ b, b < zc_N t → a ≠ b → (zc_T t a).2.1 ≠ (zc_T t b).2.1 := by
  have h := zc_tg ht
  simp only [zc_tags, List.mem_cons, List.not_mem_nil, or_false] at h
  rcases h with rfl | rfl | rfl | rfl | rfl | rfl | rfl | rfl | rfl | rfl | rfl | rfl | rfl | rfl | rfl | rfl | rfl
  · exact nmX0
  · exact nmX3
  · exact nmX4
  · exact nmX6
  · exact nmX7
  · exact nmX8
  · exact nmX9
  · exact nmX10
  · exact nmX11
  · exact nmX13
  · exact nmX14
  · exact nmX15
  · exact nmX16
  · exact nmX17
  · exact nmX18
  · exact nmX19
  · exact nmJ2
/-- the bytes of the String constant n -/
def zs_b : Nat → List Int := fun n => match n with
  | 1 => [60, 33, 45, 45]
  | 2 => [45, 45]
  | 3 => [62]
  | 4 => [60, 33, 68, 79, 67, 84, 89, 80, 69]
  | 5 => [91]
  | 6 => [93]
  | 7 => [60, 33, 69, 76, 69, 77, 69, 78, 84]
  | 8 => [69, 77, 80, 84, 89]
  | 9 => [65, 78, 89]
  | 10 => [40]
  | 11 => [35, 80, 67, 68, 65, 84, 65]
  | 12 => [41]
  | 13 => [124]
  | 14 => [42]
  | 15 => [60, 33, 65, 84, 84, 76, 73, 83, 84]
  | 16 => [67, 68, 65, 84, 65]
  | 17 => [73, 68]
  | 18 => [35, 82, 69, 81, 85, 73, 82, 69, 68]
  | 19 => [35, 73, 77, 80, 76, 73, 69, 68]
  | 20 => [35, 70, 73, 88, 69, 68]
  | 21 => [38, 108, 116, 59]
  | 22 => [38, 103, 116, 59]
  | 23 => [38, 97, 109, 112, 59]
  | 24 => [38, 113, 117, 111, 116, 59]
  | 25 => [38, 97, 112, 111, 115, 59]
  | 26 => [38, 35]
  | 27 => [59]
  | 28 => [60]
  | 29 => [61]
  | 30 => [47, 62]
  | 31 => [60, 47]
  | 32 => [47]
  | 33 => [47, 47]
  | 34 => [46]
  | 35 => [64]
  | 36 => [46, 46]
  | 37 => [116, 101, 120, 116, 40, 41]
  | 38 => [42]
  | 39 => [91]
  | 40 => [108, 97, 115, 116, 40, 41]
  | 41 => [61]
  | 42 => [46, 61]
  | 43 => [93]
  | _ => []
def zc_nmt : Nat → String := fun t => match t with
  | 1 => "TreePress"
  | 3 => "TreePress$Parser"
  | 4 => "TreePress$Document"
  | 6 => "TreePress$Parent"
  | 7 => "TreePress$Fault"
  | 8 => "TreePress$Spec"
  | 9 => "TreePress$Part"
  | 10 => "TreePress$Rule"
  | 11 => "TreePress$Element"
  | 13 => "TreePress$Attribute"
  | 14 => "TreePress$Text"
  | 15 => "TreePress$PathReader"
  | 16 => "TreePress$Step"
  | 17 => "TreePress$Test"
  | 18 => "TreePress$Line"
  | 19 => "TreePress$Block"
  | 21 => "java/util/ArrayList"
  | 30 => "[B"
  | 31 => "[B"
  | 32 => "[Z"
  | 33 => "[I"
  | 34 => "[J"
  | 35 => "[LTreePress$Node;"
  | 36 => "[Ljava/lang/Object;"
  | 40 => "java/util/ArrayList"
  | _ => "?"
def zc_vt : List Nat := [1, 3, 4, 6, 7, 8, 9, 10, 11, 13, 14, 15, 16, 17, 18, 19, 21, 31, 32, 33, 34, 35, 40]
abbrev zc_G : Type := (Nat → ClassId) × (Nat → Nat → Nat) × (Nat → ClassId) × (Nat → Nat) × Heap
abbrev zc_cid (G : zc_G) : Nat → ClassId := G.1
abbrev zc_sl (G : zc_G) : Nat → Nat → Nat := G.2.1
abbrev zc_ac (G : zc_G) : Nat → ClassId := G.2.2.1
abbrev zc_st (G : zc_G) : Nat → Nat := G.2.2.2.1
abbrev zc_h0 (G : zc_G) : Heap := G.2.2.2.2
/-- the constant arrays of bytes: 50: KEEP, 100 + n: the value of the String constant n -/
def zc_cb (n : Nat) : List Int := if n = 50 then [107, 101, 101, 112] else zs_b (n - 100)
def zc_cl : List Nat := 50 :: (List.range 43).map (· + 101)
def zc_ra (G : zc_G) (x : Int) : Option Nat := if x = 0 then none else if 0 < x then some (x - 1).toNat else some (zc_st G (-x).toNat)
def zc_rv (G : zc_G) (x : Int) : Value := va_rf (zc_ra G x)
def zc_ad (G : zc_G) (x : Int) : Nat := if 0 < x then (x - 1).toNat else zc_st G (-x).toNat
theorem zc_rv_0 (G : zc_G) : zc_rv G 0 = .null := rfl
theorem zc_rv_p (G : zc_G) {x : Int} (h : 0 < x) : zc_rv G x = .ref (x - 1).toNat := by
  unfold zc_rv zc_ra
  rw [if_neg (by omega), if_pos h]
  rfl
theorem zc_rv_n (G : zc_G) {x : Int} (h : x ≠ 0) : zc_rv G x = .ref (zc_ad G x) := by
  unfold zc_rv zc_ra zc_ad
  rw [if_neg h]
  split <;> rfl
theorem zc_rv_or (G : zc_G) (x : Int) : zc_rv G x = .null ∨ ∃ a, zc_rv G x = .ref a := va_rf_or _
theorem zc_rv_cat (G : zc_G) (x : Int) : (zc_rv G x).category = 1 := by
  rcases zc_rv_or G x with h | ⟨a, h⟩ <;> rw [h] <;> rfl
def zt (ts : List Nat) (z : Int) : Bool := ts.any (fun t => z == (t : Int))
theorem zt_mem {ts : List Nat} {z : Int} (h : zt ts z = true) : ∃ t ∈ ts, z = (t : Int) := by
  unfold zt at h
  obtain ⟨t, h1, h2⟩ := List.any_eq_true.mp h
  exact ⟨t, h1, by simpa using h2⟩
def zc_fok (G : zc_G) (kd : Nat) (v : Value) (x : Int) : Prop := match kd with
  | 0 => v = iv x ∧ inR x
  | 1 => v = iv x ∧ isB x
  | 2 => v = jv x ∧ inL x
  | 9 => v = zc_rv G x
  | _ => True
def zc_et (t : Nat) : FieldType := match t with
  | 32 => .boolean
  | 33 => .int
  | 34 => .long
  | 35 => .object "TreePress$Node"
  | 36 => .object "java/lang/Object"
  | _ => .byte
def zc_ev (G : zc_G) (t : Nat) (x : Int) : Value := match t with
  | 34 => jv x
  | 35 => zc_rv G x
  | 36 => zc_rv G x
  | _ => iv x
def zc_er (t : Nat) (x : Int) : Prop := match t with
  | 30 => isY x
  | 31 => isY x
  | 32 => isB x
  | 33 => inR x
  | 34 => inL x
  | _ => True
def zc_ob (G : zc_G) (μ : MEM) (H : Heap) (x : Int) (t : Nat) : Prop := ∃ f : Nat → Value, t_OB (zc_ad G x) (zc_cid G t) (zc_N t) (zc_sl G t) H f ∧ ∀ k, k < zc_N t → zc_fok G (zc_kd t k) (f k) (μ x (zc_col t k))
def zc_ar (G : zc_G) (μ : MEM) (H : Heap) (x : Int) (t : Nat) : Prop := 0 ≤ μ x (-2) ∧ μ x (-2) < 2147483648 ∧ H[zc_ad G x]? = some (arrV (zc_ac G t) (μ x (-2)).toNat (fun i => zc_ev G t (μ x i))) ∧ ∀ i : Nat, (i : Int) < μ x (-2) → zc_er t (μ x i)
def zc_ls (G : zc_G) (μ : MEM) (H : Heap) (x : Int) : Prop := ∃ (f : Nat → Value) (w : Int32) (e : Nat), t_OB (zc_ad G x) (zc_cid G 21) 3 (zc_sl G 21) H f ∧ f 0 = .int w ∧ f 1 = .ref e ∧ f 2 = iv (μ x (-2)) ∧ 0 ≤ μ x (-2) ∧ μ x (-2) ≤ μ x (-3) ∧ (μ x (-3) < 2147483648 ∧ ∀ i : Nat, (i : Int) < μ x (-2) → μ x i = 0 ∨ zt zc_vt (μ (μ x i) (-1)) = true) ∧ ((H[e]? = some (arrV (zc_ac G 36) (μ x (-3)).toNat (fun i => if (i : Int) < μ x (-2) then zc_rv G (μ x i) else .null)) ∧ μ x (-4) = (e : Int) + 1 ∧ μ ((e : Int) + 1) (-1) = 41 ∧ μ ((e : Int) + 1) (-5) = x) ∨ (μ x (-3) = 0 ∧ μ x (-4) = -51 ∧ e = zc_st G 51))
def zc_cr (μ : MEM) (x : Int) : Prop := x < 0 ∧ (-x).toNat ∈ zc_cl ∧ μ x (-2) = ((zc_cb (-x).toNat).length : Int) ∧ ∀ i : Nat, i < (zc_cb (-x).toNat).length → μ x i = (zc_cb (-x).toNat).getD i 0
/-- a Fault that is not yet made -/
def zc_fr (G : zc_G) (H : Heap) (x : Int) : Prop := ∃ cell : Cell, H[zc_ad G x]? = some cell ∧ cell.cls = zc_cid G 7 ∧ cell.vm = .none ∧ cell.monitor.owner = none ∧ cell.monitor.count = 0 ∧ (∃ k : Class, cell.slots = k.instanceTypes.map defaultValue) ∧ ∀ k, k < 8 → cell.slots[zc_sl G 7 k]? = some (defaultValue (zc_ty 7 k))
def zc_row (G : zc_G) (μ : MEM) (H : Heap) (x : Int) : Prop := ∀ t : Nat, μ x (-1) = (t : Int) → (0 < zc_N t → zc_ob G μ H x t) ∧ (31 ≤ t → t ≤ 36 → zc_ar G μ H x t) ∧ (t = 40 → zc_ls G μ H x) ∧ (t = 30 → zc_cr μ x) ∧ (t = 37 ∨ t = 22 → (t = 37 ∧ x = -51 ∧ μ x (-2) = 0) ∨ (t = 22 ∧ zc_fr G H x))
def zc_Gok (G : zc_G) : Prop := ∀ n, zc_st G n < (zc_h0 G).size
/-- THE HEAP holds the memory -/
def zc_H (G : zc_G) (μ : MEM) (H : Heap) : Prop := zc_Gok G ∧ (∀ x, μ x (-1) ≠ 0 → (((zc_h0 G).size : Int) < x ∧ x ≤ (H.size : Int)) ∨ (x < 0 ∧ (μ x (-1) = 30 ∨ μ x (-1) = 37))) ∧ (∀ x, zc_row G μ H x) ∧ (zc_h0 G).size ≤ H.size ∧ ∀ q : Nat, q < (zc_h0 G).size → H[q]? = (zc_h0 G)[q]?
theorem zc_row_nil {G : zc_G} {μ : MEM} {H : Heap} {x : Int} (h : μ x (-1) = 0) : zc_row G μ H x := by
  intro t ht
  have : t = 0 := by omega
  subst this
  exact ⟨fun q => absurd q (by decide), fun q => absurd q (by decide), fun q => absurd q (by decide), fun q => absurd q (by decide), fun q => absurd q (by decide)⟩
theorem zc_row_kept {G : zc_G} {μ μ' : MEM} {H H' : Heap} {x : Int} (h : zc_row G μ H x) (hμ : ∀ j, μ' x j = μ x j) (hH : H'[zc_ad G x]? = H[zc_ad G x]?)
    (hv : ∀ y, zt zc_vt (μ y (-1)) = true → zt zc_vt (μ' y (-1)) = true)
    (hl : μ x (-1) = 40 → ∀ e : Nat, μ ((e : Int) + 1) (-1) = 41 → μ ((e : Int) + 1) (-5) = x → H'[e]? = H[e]? ∧ μ' ((e : Int) + 1) (-1) = μ ((e : Int) + 1) (-1) ∧ μ' ((e : Int) + 1) (-5) = μ ((e : Int) + 1) (-5)) : zc_row G μ' H' x := by
  intro t ht
  rw [hμ] at ht
  obtain ⟨a, b, c, r30, r37⟩ := h t ht
  refine ⟨fun q => ?_, fun q1 q2 => ?_, fun q => ?_, fun q => ?_, fun q => (r37 q).imp (fun w => ⟨w.1, w.2.1, by rw [hμ]; exact w.2.2⟩) (fun w => ⟨w.1, (let ⟨ce, w1, w2⟩ := w.2; ⟨ce, hH.trans w1, w2⟩)⟩)⟩
  · obtain ⟨f, h1, h2⟩ := a q
    exact ⟨f, h1.kept hH, fun k hk => by rw [hμ]; exact h2 k hk⟩
  · obtain ⟨h1, h2, h3, h4⟩ := b q1 q2
    refine ⟨by rw [hμ]; exact h1, by rw [hμ]; exact h2, ?_, fun i hi => ?_⟩
    · rw [hH, h3, hμ]
      congr 2
      funext i
      rw [hμ]
    · rw [hμ] at hi ⊢
      exact h4 i hi
  · obtain ⟨f, w, e, h1, h2, h3, h4, h5, h6, h7, h8⟩ := c q
    subst q
    refine ⟨f, w, e, h1.kept hH, h2, h3, by rw [hμ]; exact h4, by rw [hμ]; exact h5, by rw [hμ, hμ]; exact h6, ⟨by rw [hμ]; exact h7.1, fun i hi => by rw [hμ] at hi ⊢; exact (h7.2 i hi).imp id (hv _)⟩, ?_⟩
    rcases h8 with ⟨k1, k2, k3, k4⟩ | k1
    · have hk := hl ht e k3 k4
      refine Or.inl ⟨?_, by rw [hμ]; exact k2, by rw [hk.2.1]; exact k3, by rw [hk.2.2]; exact k4⟩
      rw [hk.1, k1, hμ]
      congr 2
      funext i
      rw [hμ, hμ]
    · exact Or.inr (by rw [hμ, hμ]; exact k1)
  · obtain ⟨k1, k2, k3, k4⟩ := r30 q
    exact ⟨k1, k2, by rw [hμ]; exact k3, fun i hi => by rw [hμ]; exact k4 i hi⟩
theorem zc_ad_p {G : zc_G} {x : Int} (h : 0 < x) : zc_ad G x = (x - 1).toNat := by unfold zc_ad; rw [if_pos h]
theorem zc_ad_ne {G : zc_G} {μ : MEM} {H : Heap} (hg : zc_Gok G) {x z : Int} (hz : ((zc_h0 G).size : Int) < z) (hx : x ≠ z) : zc_ad G x ≠ (z - 1).toNat := by
  unfold zc_ad
  split
  · omega
  · have := hg (-x).toNat
    omega
theorem zc_H_pos {G : zc_G} {μ : MEM} {H : Heap} (h : zc_H G μ H) {z : Int} {t : Nat} (hz : μ z (-1) = (t : Int)) (ht : t ≠ 0) (ht30 : t ≠ 30 ∧ t ≠ 37) : ((zc_h0 G).size : Int) < z ∧ z ≤ (H.size : Int) := by
  rcases h.2.1 z (by omega) with a | a
  · exact a
  · omega
/-- one cell of ours is written -/
theorem zc_H_upd {G : zc_G} {μ μ' : MEM} {H H' : Heap} (h : zc_H G μ H) {z : Int} {t : Nat} (hz : μ z (-1) = (t : Int)) (ht : t ≠ 0 ∧ (t ≠ 30 ∧ t ≠ 37) ∧ t ≠ 40 ∧ t ≠ 41) (hsz : H'.size = H.size) (ho : ∀ q : Nat, q ≠ (z - 1).toNat → H'[q]? = H[q]?)
    (hμ : ∀ y j, y ≠ z → μ' y j = μ y j) (htag : μ' z (-1) = μ z (-1)) (hrow : zc_row G μ' H' z) : zc_H G μ' H' := by
  have hzp := zc_H_pos h hz ht.1 ht.2.1
  obtain ⟨hg, h1, h2, h3, h4⟩ := h
  refine ⟨hg, fun x hx => ?_, fun x => ?_, by omega, fun q hq => by rw [ho q (by omega)]; exact h4 q hq⟩
  · by_cases e : x = z
    · subst e
      rw [htag] at hx ⊢
      rw [hsz]
      exact h1 x hx
    · rw [hμ x _ e] at hx ⊢
      rw [hsz]
      exact h1 x hx
  · by_cases e : x = z
    · rw [e]; exact hrow
    · refine zc_row_kept (h2 x) (fun j => hμ x j e) (ho _ (zc_ad_ne (μ := μ) (H := H) hg hzp.1 e)) (fun y hy => ?_) (fun _ y hy _ => ?_)
      · by_cases ey : y = z
        · rw [ey, htag]; rw [ey] at hy; exact hy
        · rw [hμ y _ ey]; exact hy
      have hne : (y : Int) + 1 ≠ z := by
        intro q
        rw [q, hz] at hy
        omega
      exact ⟨ho y (by omega), hμ _ _ hne, hμ _ _ hne⟩
/-- a new cell -/
theorem zc_H_push {G : zc_G} {μ μ' : MEM} {H H' : Heap} (h : zc_H G μ H) (hsz : H'.size = H.size + 1) (ho : ∀ q : Nat, q < H.size → H'[q]? = H[q]?)
    (hμ : ∀ y j, y ≠ (H.size : Int) + 1 → y ≠ 0 → μ' y j = μ y j) (h0 : μ' 0 (-1) = 0) (hrow : zc_row G μ' H' ((H.size : Int) + 1)) : zc_H G μ' H' := by
  obtain ⟨hg, h1, h2, h3, h4⟩ := h
  refine ⟨hg, fun x hx => ?_, fun x => ?_, by omega, fun q hq => by rw [ho q (by omega)]; exact h4 q hq⟩
  · by_cases e : x = (H.size : Int) + 1
    · left; omega
    · by_cases e0 : x = 0
      · subst e0; exact absurd h0 hx
      · rw [hμ x _ e e0] at hx ⊢
        rcases h1 x hx with a | a
        · left; omega
        · exact Or.inr a
  · by_cases e : x = (H.size : Int) + 1
    · rw [e]; exact hrow
    · by_cases e0 : x = 0
      · subst e0; exact zc_row_nil h0
      · by_cases ez : μ x (-1) = 0
        · exact zc_row_nil (by rw [hμ x _ e e0]; exact ez)
        · have hlt : zc_ad G x < H.size := by
            rcases h1 x ez with a | a
            · unfold zc_ad; rw [if_pos (by omega)]; omega
            · unfold zc_ad; rw [if_neg (by omega)]; have := hg (-x).toNat; omega
          refine zc_row_kept (h2 x) (fun j => hμ x j e e0) (ho _ hlt) (fun y hy => ?_) (fun _ y hy _ => ?_)
          · obtain ⟨t, ht, hz⟩ := zt_mem hy
            have ht0 : t ≠ 0 := fun e => by rw [e] at ht; exact absurd ht (by decide)
            have hy1 : y ≠ (H.size : Int) + 1 := fun ey => by
              rcases h1 y (by omega) with a | a <;> omega
            have hy0 : y ≠ 0 := fun ey => by
              rcases h1 y (by omega) with a | a <;> omega
            rw [hμ y _ hy1 hy0]; exact hy
          have hy2 : y < H.size := by
            rcases h1 _ (show μ ((y : Int) + 1) (-1) ≠ 0 by rw [hy]; decide) with a | a <;> omega
          exact ⟨ho y hy2, hμ _ _ (by omega) (by omega), hμ _ _ (by omega) (by omega)⟩
/-- what the memory is behind a new cell of tag t, length n, s slots -/
def mnew (μ : MEM) (t n s : Int) : MEM := fun y j => if y = μ 0 0 then (if j = -1 then t else if j = -2 then n else 0) else if y = 0 then (if j = 0 then μ 0 0 + 1 else if j = 1 then μ 0 1 - 1 else if j = 2 then μ 0 2 - s else μ 0 j) else μ y j

theorem zc_dflt {G : zc_G} {t : Nat} (ht : 0 < zc_N t) : ∀ k, k < zc_N t → zc_fok G (zc_kd t k) (defaultValue (zc_ty t k)) 0 := by
  have h := zc_tg ht
  simp only [zc_tags, List.mem_cons, List.not_mem_nil, or_false] at h
  rcases h with rfl | rfl | rfl | rfl | rfl | rfl | rfl | rfl | rfl | rfl | rfl | rfl | rfl | rfl | rfl | rfl | rfl
  · intro k hk
    match k, hk with
    | 0, _ => exact rfl
    | 1, _ => exact ⟨rfl, by decide⟩
    | 2, _ => exact ⟨rfl, by decide⟩
    | 3, _ => exact rfl
    | 4, _ => exact rfl
    | 5, _ => exact rfl
    | 6, _ => exact rfl
    | 7, _ => exact rfl
    | 8, _ => exact ⟨rfl, by decide⟩
    | 9, _ => exact ⟨rfl, by decide⟩
    | 10, _ => exact ⟨rfl, by decide⟩
    | 11, _ => exact rfl
    | 12, _ => exact rfl
    | 13, _ => exact rfl
    | 14, _ => exact rfl
    | 15, _ => exact ⟨rfl, by decide⟩
    | 16, _ => exact ⟨rfl, by decide⟩
    | 17, _ => exact rfl
    | k + 18, hk => exact absurd hk (by show ¬ k + 18 < 18; omega)
  · intro k hk
    match k, hk with
    | 0, _ => exact rfl
    | 1, _ => exact ⟨rfl, by decide⟩
    | 2, _ => exact ⟨rfl, by decide⟩
    | 3, _ => exact rfl
    | 4, _ => exact rfl
    | 5, _ => exact rfl
    | 6, _ => exact ⟨rfl, by decide⟩
    | 7, _ => exact ⟨rfl, by decide⟩
    | k + 8, hk => exact absurd hk (by show ¬ k + 8 < 8; omega)
  · intro k hk
    match k, hk with
    | 0, _ => exact rfl
    | 1, _ => exact rfl
    | 2, _ => exact rfl
    | 3, _ => exact rfl
    | 4, _ => exact rfl
    | 5, _ => exact rfl
    | 6, _ => exact ⟨rfl, by decide⟩
    | 7, _ => exact rfl
    | k + 8, hk => exact absurd hk (by show ¬ k + 8 < 8; omega)
  · intro k hk
    match k, hk with
    | 0, _ => exact ⟨rfl, by decide⟩
    | 1, _ => exact rfl
    | 2, _ => exact rfl
    | 3, _ => exact ⟨rfl, by decide⟩
    | k + 4, hk => exact absurd hk (by show ¬ k + 4 < 4; omega)
  · intro k hk
    match k, hk with
    | 0, _ => exact trivial
    | 1, _ => exact trivial
    | 2, _ => exact trivial
    | 3, _ => exact trivial
    | 4, _ => exact trivial
    | 5, _ => exact trivial
    | 6, _ => exact ⟨rfl, by decide⟩
    | 7, _ => exact ⟨rfl, by decide⟩
    | k + 8, hk => exact absurd hk (by show ¬ k + 8 < 8; omega)
  · intro k hk
    match k, hk with
    | 0, _ => exact rfl
    | 1, _ => exact ⟨rfl, by decide⟩
    | 2, _ => exact rfl
    | 3, _ => exact rfl
    | 4, _ => exact ⟨rfl, by decide⟩
    | 5, _ => exact ⟨rfl, by decide⟩
    | 6, _ => exact ⟨rfl, by decide⟩
    | k + 7, hk => exact absurd hk (by show ¬ k + 7 < 7; omega)
  · intro k hk
    match k, hk with
    | 0, _ => exact ⟨rfl, by decide⟩
    | 1, _ => exact ⟨rfl, by decide⟩
    | 2, _ => exact ⟨rfl, by decide⟩
    | k + 3, hk => exact absurd hk (by show ¬ k + 3 < 3; omega)
  · intro k hk
    match k, hk with
    | 0, _ => exact rfl
    | 1, _ => exact rfl
    | 2, _ => exact ⟨rfl, by decide⟩
    | 3, _ => exact ⟨rfl, by decide⟩
    | 4, _ => exact ⟨rfl, by decide⟩
    | 5, _ => exact rfl
    | 6, _ => exact rfl
    | k + 7, hk => exact absurd hk (by show ¬ k + 7 < 7; omega)
  · intro k hk
    match k, hk with
    | 0, _ => exact ⟨rfl, by decide⟩
    | 1, _ => exact rfl
    | 2, _ => exact rfl
    | 3, _ => exact ⟨rfl, by decide⟩
    | 4, _ => exact rfl
    | 5, _ => exact rfl
    | k + 6, hk => exact absurd hk (by show ¬ k + 6 < 6; omega)
  · intro k hk
    match k, hk with
    | 0, _ => exact rfl
    | 1, _ => exact ⟨rfl, by decide⟩
    | 2, _ => exact rfl
    | 3, _ => exact rfl
    | 4, _ => exact ⟨rfl, by decide⟩
    | k + 5, hk => exact absurd hk (by show ¬ k + 5 < 5; omega)
  · intro k hk
    match k, hk with
    | 0, _ => exact rfl
    | 1, _ => exact ⟨rfl, by decide⟩
    | 2, _ => exact rfl
    | 3, _ => exact ⟨rfl, by decide⟩
    | k + 4, hk => exact absurd hk (by show ¬ k + 4 < 4; omega)
  · intro k hk
    match k, hk with
    | 0, _ => exact rfl
    | 1, _ => exact ⟨rfl, by decide⟩
    | 2, _ => exact ⟨rfl, by decide⟩
    | 3, _ => exact rfl
    | 4, _ => exact ⟨rfl, by decide⟩
    | k + 5, hk => exact absurd hk (by show ¬ k + 5 < 5; omega)
  · intro k hk
    match k, hk with
    | 0, _ => exact ⟨rfl, by decide⟩
    | 1, _ => exact ⟨rfl, by decide⟩
    | 2, _ => exact rfl
    | 3, _ => exact rfl
    | k + 4, hk => exact absurd hk (by show ¬ k + 4 < 4; omega)
  · intro k hk
    match k, hk with
    | 0, _ => exact ⟨rfl, by decide⟩
    | 1, _ => exact ⟨rfl, by decide⟩
    | 2, _ => exact ⟨rfl, by decide⟩
    | 3, _ => exact rfl
    | 4, _ => exact rfl
    | k + 5, hk => exact absurd hk (by show ¬ k + 5 < 5; omega)
  · intro k hk
    match k, hk with
    | 0, _ => exact rfl
    | 1, _ => exact ⟨rfl, by decide⟩
    | 2, _ => exact ⟨rfl, by decide⟩
    | 3, _ => exact ⟨rfl, by decide⟩
    | 4, _ => exact rfl
    | k + 5, hk => exact absurd hk (by show ¬ k + 5 < 5; omega)
  · intro k hk
    match k, hk with
    | 0, _ => exact ⟨rfl, by decide⟩
    | 1, _ => exact ⟨rfl, by decide⟩
    | 2, _ => exact ⟨rfl, by decide⟩
    | k + 3, hk => exact absurd hk (by show ¬ k + 3 < 3; omega)
  · intro k hk
    match k, hk with
    | 0, _ => exact ⟨rfl, by decide⟩
    | 1, _ => exact rfl
    | 2, _ => exact ⟨rfl, by decide⟩
    | k + 3, hk => exact absurd hk (by show ¬ k + 3 < 3; omega)
theorem zc_colinj {t : Nat} (ht : 0 < zc_N t) : ∀ a, a < zc_N t → ∀ b, b < zc_N t → zc_col t a = zc_col t b → a = b := by
  have h := zc_tg ht
  simp only [zc_tags, List.mem_cons, List.not_mem_nil, or_false] at h
  rcases h with rfl | rfl | rfl | rfl | rfl | rfl | rfl | rfl | rfl | rfl | rfl | rfl | rfl | rfl | rfl | rfl | rfl <;> decide +kernel
theorem zc_colpos {t : Nat} (ht : 0 < zc_N t) : ∀ a, a < zc_N t → 0 ≤ zc_col t a := by
  have h := zc_tg ht
  simp only [zc_tags, List.mem_cons, List.not_mem_nil, or_false] at h
  rcases h with rfl | rfl | rfl | rfl | rfl | rfl | rfl | rfl | rfl | rfl | rfl | rfl | rfl | rfl | rfl | rfl | rfl <;> decide +kernel
def zc_nF : List (String × Nat × String × String × String × String) := [("TreePress$Parser", 83, "TreePress$Document", "root", "LTreePress$Parent;", "TreePress"), ("TreePress", 236, "TreePress$Document", "root", "LTreePress$Parent;", "TreePress"), ("TreePress$Parser", 91, "TreePress$Document", "nodes", "Ljava/util/ArrayList;", "TreePress"), ("TreePress", 85, "TreePress$Document", "nodes", "Ljava/util/ArrayList;", "TreePress"), ("TreePress$Parser", 103, "TreePress$Document", "type", "[B", "TreePress"), ("TreePress", 141, "TreePress$Document", "type", "[B", "TreePress"), ("TreePress$Parser", 131, "TreePress$Document", "specs", "Ljava/util/ArrayList;", "TreePress"), ("TreePress", 325, "TreePress$Document", "specs", "Ljava/util/ArrayList;", "TreePress"), ("TreePress$Parser", 224, "TreePress$Document", "rules", "Ljava/util/ArrayList;", "TreePress"), ("TreePress", 328, "TreePress$Document", "rules", "Ljava/util/ArrayList;", "TreePress"), ("TreePress", 144, "TreePress$Document", "findings", "Ljava/util/ArrayList;", "TreePress"), ("TreePress$Parser", 331, "TreePress$Document", "deep", "I", "TreePress"), ("TreePress", 331, "TreePress$Document", "deep", "I", "TreePress"), ("TreePress", 96, "TreePress$Fault", "kind", "I", "TreePress"), ("TreePress", 95, "TreePress$Fault", "place", "I", "TreePress"), ("TreePress$Document", 63, "TreePress$Spec", "name", "[B", "TreePress"), ("TreePress$Document", 85, "TreePress$Spec", "kind", "I", "TreePress"), ("TreePress$Parser", 143, "TreePress$Spec", "kind", "I", "TreePress"), ("TreePress$Parser", 156, "TreePress$Spec", "places", "Ljava/util/ArrayList;", "TreePress"), ("TreePress$Parser", 207, "TreePress$Spec", "follow", "[J", "TreePress"), ("TreePress$Parser", 177, "TreePress$Spec", "first", "J", "TreePress"), ("TreePress$Parser", 180, "TreePress$Spec", "last", "J", "TreePress"), ("TreePress$Parser", 185, "TreePress$Spec", "nothing", "Z", "TreePress"), ("TreePress$Parser", 171, "TreePress$Part", "first", "J", "TreePress"), ("TreePress$Parser", 178, "TreePress$Part", "last", "J", "TreePress"), ("TreePress$Parser", 181, "TreePress$Part", "nothing", "Z", "TreePress"), ("TreePress$Document", 73, "TreePress$Rule", "of", "[B", "TreePress"), ("TreePress$Parser", 233, "TreePress$Rule", "of", "[B", "TreePress"), ("TreePress$Document", 76, "TreePress$Rule", "name", "[B", "TreePress"), ("TreePress$Parser", 240, "TreePress$Rule", "name", "[B", "TreePress"), ("TreePress$Document", 108, "TreePress$Rule", "number", "I", "TreePress"), ("TreePress$Parser", 252, "TreePress$Rule", "number", "I", "TreePress"), ("TreePress$Document", 102, "TreePress$Rule", "type", "I", "TreePress"), ("TreePress$Parser", 257, "TreePress$Rule", "type", "I", "TreePress"), ("TreePress$Document", 136, "TreePress$Rule", "how", "I", "TreePress"), ("TreePress$Parser", 269, "TreePress$Rule", "how", "I", "TreePress"), ("TreePress$Parser", 264, "TreePress$Rule", "tokens", "Ljava/util/ArrayList;", "TreePress"), ("TreePress$Document", 105, "TreePress$Rule", "value", "[B", "TreePress"), ("TreePress$Parser", 278, "TreePress$Rule", "value", "[B", "TreePress"), ("TreePress$Document", 128, "TreePress$Element", "name", "[B", "TreePress"), ("TreePress$Parser", 356, "TreePress$Element", "name", "[B", "TreePress"), ("TreePress$Document", 144, "TreePress$Element", "attributes", "Ljava/util/ArrayList;", "TreePress"), ("TreePress", 194, "TreePress$Element", "attributes", "Ljava/util/ArrayList;", "TreePress"), ("TreePress$Parser", 360, "TreePress$Element", "attributes", "Ljava/util/ArrayList;", "TreePress"), ("TreePress$Element", 35, "TreePress$Attribute", "name", "[B", "TreePress"), ("TreePress$Document", 129, "TreePress$Attribute", "name", "[B", "TreePress"), ("TreePress", 197, "TreePress$Attribute", "name", "[B", "TreePress"), ("TreePress$Document", 147, "TreePress$Attribute", "given", "Z", "TreePress"), ("TreePress", 133, "TreePress$Attribute", "given", "Z", "TreePress"), ("TreePress$Spec", 62, "TreePress$Text", "blank", "Z", "TreePress"), ("TreePress", 239, "TreePress$PathReader", "steps", "Ljava/util/ArrayList;", "TreePress"), ("TreePress", 233, "TreePress$PathReader", "top", "Z", "TreePress"), ("TreePress$PathReader", 78, "TreePress$Step", "kind", "I", "TreePress"), ("TreePress", 187, "TreePress$Step", "kind", "I", "TreePress"), ("TreePress$PathReader", 69, "TreePress$Step", "deep", "Z", "TreePress"), ("TreePress", 208, "TreePress$Step", "deep", "Z", "TreePress"), ("TreePress$PathReader", 90, "TreePress$Step", "name", "[B", "TreePress"), ("TreePress", 196, "TreePress$Step", "name", "[B", "TreePress"), ("TreePress$PathReader", 97, "TreePress$Step", "tests", "Ljava/util/ArrayList;", "TreePress"), ("TreePress", 198, "TreePress$Step", "tests", "Ljava/util/ArrayList;", "TreePress"), ("TreePress$PathReader", 105, "TreePress$Test", "kind", "I", "TreePress"), ("TreePress", 151, "TreePress$Test", "kind", "I", "TreePress"), ("TreePress$PathReader", 106, "TreePress$Test", "place", "I", "TreePress"), ("TreePress", 154, "TreePress$Test", "place", "I", "TreePress"), ("TreePress$PathReader", 114, "TreePress$Test", "side", "Z", "TreePress"), ("TreePress", 166, "TreePress$Test", "side", "Z", "TreePress"), ("TreePress$PathReader", 117, "TreePress$Test", "name", "[B", "TreePress"), ("TreePress", 171, "TreePress$Test", "name", "[B", "TreePress"), ("TreePress$PathReader", 123, "TreePress$Test", "value", "[B", "TreePress"), ("TreePress", 155, "TreePress$Test", "value", "[B", "TreePress"), ("TreePress", 271, "TreePress$Line", "bytes", "[B", "TreePress"), ("TreePress", 274, "TreePress$Line", "many", "I", "TreePress"), ("TreePress", 316, "TreePress$Line", "page", "I", "TreePress"), ("TreePress", 319, "TreePress$Line", "row", "I", "TreePress"), ("TreePress", 263, "TreePress$Line", "of", "LTreePress$Node;", "TreePress"), ("TreePress", 310, "TreePress$Block", "first", "I", "TreePress"), ("TreePress", 309, "TreePress$Block", "last", "I", "TreePress"), ("TreePress", 313, "TreePress$Block", "keep", "Z", "TreePress")]
def zc_nM : List (String × Nat × MethodName × String) := [("TreePress$Document", 11, ⟨"TreePress$Parent", "<init>", "()V"⟩, "TreePress"), ("TreePress$Parent", 1, ⟨"TreePress$Node", "<init>", "()V"⟩, "TreePress"), ("TreePress$Parser", 38, ⟨"TreePress", "isSpace", "(I)Z"⟩, "TreePress"), ("TreePress$Parser", 67, ⟨"TreePress", "isChar", "(I)Z"⟩, "TreePress"), ("TreePress$Reader", 53, ⟨"TreePress", "isFirst", "(I)Z"⟩, "TreePress"), ("TreePress$Reader", 61, ⟨"TreePress", "isToken", "(I)Z"⟩, "TreePress"), ("TreePress$Parser", 215, ⟨"TreePress$Part", "<init>", "()V"⟩, "TreePress"), ("TreePress$Parser", 216, ⟨"TreePress", "isFirst", "(I)Z"⟩, "TreePress"), ("TreePress$Parser", 236, ⟨"TreePress", "isSame", "([B[B)Z"⟩, "TreePress"), ("TreePress$Document", 67, ⟨"TreePress", "isSame", "([B[B)Z"⟩, "TreePress"), ("TreePress$Element", 1, ⟨"TreePress$Parent", "<init>", "()V"⟩, "TreePress"), ("TreePress$Element", 36, ⟨"TreePress", "isSame", "([B[B)Z"⟩, "TreePress"), ("TreePress$Row", 1, ⟨"TreePress$Node", "<init>", "()V"⟩, "TreePress"), ("TreePress$Spec", 35, ⟨"TreePress", "isSame", "([B[B)Z"⟩, "TreePress"), ("TreePress$Document", 94, ⟨"TreePress$Spec", "isDoubled", "(J)Z"⟩, "TreePress"), ("TreePress$Rule", 34, ⟨"TreePress", "isName", "([B)Z"⟩, "TreePress"), ("TreePress$Rule", 47, ⟨"TreePress", "isSame", "([B[B)Z"⟩, "TreePress"), ("TreePress$Document", 116, ⟨"TreePress$Spec", "isRow", "(LTreePress$Element;)Z"⟩, "TreePress"), ("TreePress$Document", 125, ⟨"TreePress$Spec", "hasPlace", "([B)Z"⟩, "TreePress"), ("TreePress$PathReader", 59, ⟨"TreePress", "isFirst", "(I)Z"⟩, "TreePress"), ("TreePress$PathReader", 68, ⟨"TreePress$Step", "<init>", "()V"⟩, "TreePress"), ("TreePress$PathReader", 104, ⟨"TreePress$Test", "<init>", "()V"⟩, "TreePress"), ("TreePress$PathReader", 130, ⟨"TreePress", "isChar", "(I)Z"⟩, "TreePress")]
def zc_nC : List (String × String) := [("TreePress$Fault", "TreePress$Fault"), ("TreePress$Attribute", "TreePress$Node"), ("TreePress$Element", "TreePress$Node"), ("TreePress$Parent", "TreePress$Node"), ("TreePress$Text", "TreePress$Node"), ("TreePress$Element", "TreePress$Parent"), ("TreePress$Node", "java/lang/Object"), ("TreePress", "java/lang/Object"), ("java/util/ArrayList", "java/lang/Object"), ("TreePressModel", "java/lang/Object"), ("TreePress$Parser", "java/lang/Object"), ("TreePress$Document", "java/lang/Object"), ("TreePress$Parent", "java/lang/Object"), ("TreePress$Fault", "java/lang/Object"), ("TreePress$Spec", "java/lang/Object"), ("TreePress$Part", "java/lang/Object"), ("TreePress$Rule", "java/lang/Object"), ("TreePress$Element", "java/lang/Object"), ("TreePress$Attribute", "java/lang/Object"), ("TreePress$Text", "java/lang/Object"), ("TreePress$PathReader", "java/lang/Object"), ("TreePress$Step", "java/lang/Object"), ("TreePress$Test", "java/lang/Object"), ("TreePress$Line", "java/lang/Object"), ("TreePress$Block", "java/lang/Object"), ("java/lang/Throwable", "java/lang/Object"), ("java/lang/String", "java/lang/Object"), ("[LTreePress$Node;", "java/lang/Object"), ("[B", "java/lang/Object"), ("[Z", "java/lang/Object"), ("[Ljava/lang/Object;", "java/lang/Object"), ("[J", "java/lang/Object"), ("[I", "java/lang/Object")]
def zc_nN : List (String × String) := [("TreePress", "TreePress$Attribute"), ("TreePress", "TreePress$Element"), ("TreePress", "TreePress$Fault"), ("TreePress", "TreePress$Node"), ("TreePress", "TreePress$Parent"), ("TreePress", "TreePress$Text"), ("TreePress$Attribute", "TreePress$Element"), ("TreePress$Attribute", "TreePress$Fault"), ("TreePress$Attribute", "TreePress$Parent"), ("TreePress$Attribute", "TreePress$Text"), ("TreePress$Block", "TreePress$Attribute"), ("TreePress$Block", "TreePress$Element"), ("TreePress$Block", "TreePress$Fault"), ("TreePress$Block", "TreePress$Node"), ("TreePress$Block", "TreePress$Parent"), ("TreePress$Block", "TreePress$Text"), ("TreePress$Document", "TreePress$Attribute"), ("TreePress$Document", "TreePress$Element"), ("TreePress$Document", "TreePress$Fault"), ("TreePress$Document", "TreePress$Node"), ("TreePress$Document", "TreePress$Parent"), ("TreePress$Document", "TreePress$Text"), ("TreePress$Element", "TreePress$Attribute"), ("TreePress$Element", "TreePress$Fault"), ("TreePress$Element", "TreePress$Text"), ("TreePress$Fault", "TreePress$Attribute"), ("TreePress$Fault", "TreePress$Element"), ("TreePress$Fault", "TreePress$Node"), ("TreePress$Fault", "TreePress$Parent"), ("TreePress$Fault", "TreePress$Text"), ("TreePress$Line", "TreePress$Attribute"), ("TreePress$Line", "TreePress$Element"), ("TreePress$Line", "TreePress$Fault"), ("TreePress$Line", "TreePress$Node"), ("TreePress$Line", "TreePress$Parent"), ("TreePress$Line", "TreePress$Text"), ("TreePress$Parent", "TreePress$Attribute"), ("TreePress$Parent", "TreePress$Element"), ("TreePress$Parent", "TreePress$Fault"), ("TreePress$Parent", "TreePress$Text"), ("TreePress$Parser", "TreePress$Attribute"), ("TreePress$Parser", "TreePress$Element"), ("TreePress$Parser", "TreePress$Fault"), ("TreePress$Parser", "TreePress$Node"), ("TreePress$Parser", "TreePress$Parent"), ("TreePress$Parser", "TreePress$Text"), ("TreePress$Part", "TreePress$Attribute"), ("TreePress$Part", "TreePress$Element"), ("TreePress$Part", "TreePress$Fault"), ("TreePress$Part", "TreePress$Node"), ("TreePress$Part", "TreePress$Parent"), ("TreePress$Part", "TreePress$Text"), ("TreePress$PathReader", "TreePress$Attribute"), ("TreePress$PathReader", "TreePress$Element"), ("TreePress$PathReader", "TreePress$Fault"), ("TreePress$PathReader", "TreePress$Node"), ("TreePress$PathReader", "TreePress$Parent"), ("TreePress$PathReader", "TreePress$Text"), ("TreePress$Rule", "TreePress$Attribute"), ("TreePress$Rule", "TreePress$Element"), ("TreePress$Rule", "TreePress$Fault"), ("TreePress$Rule", "TreePress$Node"), ("TreePress$Rule", "TreePress$Parent"), ("TreePress$Rule", "TreePress$Text"), ("TreePress$Spec", "TreePress$Attribute"), ("TreePress$Spec", "TreePress$Element"), ("TreePress$Spec", "TreePress$Fault"), ("TreePress$Spec", "TreePress$Node"), ("TreePress$Spec", "TreePress$Parent"), ("TreePress$Spec", "TreePress$Text"), ("TreePress$Step", "TreePress$Attribute"), ("TreePress$Step", "TreePress$Element"), ("TreePress$Step", "TreePress$Fault"), ("TreePress$Step", "TreePress$Node"), ("TreePress$Step", "TreePress$Parent"), ("TreePress$Step", "TreePress$Text"), ("TreePress$Test", "TreePress$Attribute"), ("TreePress$Test", "TreePress$Element"), ("TreePress$Test", "TreePress$Fault"), ("TreePress$Test", "TreePress$Node"), ("TreePress$Test", "TreePress$Parent"), ("TreePress$Test", "TreePress$Text"), ("TreePress$Text", "TreePress$Attribute"), ("TreePress$Text", "TreePress$Element"), ("TreePress$Text", "TreePress$Fault"), ("TreePress$Text", "TreePress$Parent"), ("TreePressModel", "TreePress$Attribute"), ("TreePressModel", "TreePress$Element"), ("TreePressModel", "TreePress$Fault"), ("TreePressModel", "TreePress$Node"), ("TreePressModel", "TreePress$Parent"), ("TreePressModel", "TreePress$Text"), ("[B", "TreePress$Attribute"), ("[B", "TreePress$Element"), ("[B", "TreePress$Parent"), ("[B", "TreePress$Text"), ("[I", "TreePress$Attribute"), ("[I", "TreePress$Element"), ("[I", "TreePress$Parent"), ("[I", "TreePress$Text"), ("[J", "TreePress$Attribute"), ("[J", "TreePress$Element"), ("[J", "TreePress$Parent"), ("[J", "TreePress$Text"), ("[LTreePress$Node;", "TreePress$Attribute"), ("[LTreePress$Node;", "TreePress$Element"), ("[LTreePress$Node;", "TreePress$Parent"), ("[LTreePress$Node;", "TreePress$Text"), ("[Ljava/lang/Object;", "TreePress$Attribute"), ("[Ljava/lang/Object;", "TreePress$Element"), ("[Ljava/lang/Object;", "TreePress$Parent"), ("[Ljava/lang/Object;", "TreePress$Text"), ("[Z", "TreePress$Attribute"), ("[Z", "TreePress$Element"), ("[Z", "TreePress$Parent"), ("[Z", "TreePress$Text"), ("java/lang/String", "TreePress$Attribute"), ("java/lang/String", "TreePress$Element"), ("java/lang/String", "TreePress$Node"), ("java/lang/String", "TreePress$Parent"), ("java/lang/String", "TreePress$Text"), ("java/lang/Throwable", "TreePress$Attribute"), ("java/lang/Throwable", "TreePress$Element"), ("java/lang/Throwable", "TreePress$Node"), ("java/lang/Throwable", "TreePress$Parent"), ("java/lang/Throwable", "TreePress$Text"), ("java/util/ArrayList", "TreePress$Attribute"), ("java/util/ArrayList", "TreePress$Element"), ("java/util/ArrayList", "TreePress$Fault"), ("java/util/ArrayList", "TreePress$Node"), ("java/util/ArrayList", "TreePress$Parent"), ("java/util/ArrayList", "TreePress$Text")]
def zc_lits : List (Nat × String × Nat × String) := [(1, "TreePress$Parser", 55, "<!--"), (2, "TreePress$Parser", 61, "--"), (3, "TreePress$Parser", 70, ">"), (4, "TreePress$Parser", 78, "<!DOCTYPE"), (5, "TreePress$Parser", 117, "["), (6, "TreePress$Parser", 119, "]"), (7, "TreePress$Parser", 121, "<!ELEMENT"), (8, "TreePress$Parser", 138, "EMPTY"), (9, "TreePress$Parser", 146, "ANY"), (10, "TreePress$Parser", 159, "("), (11, "TreePress$Parser", 161, "#PCDATA"), (12, "TreePress$Parser", 192, ")"), (13, "TreePress$Parser", 186, "|"), (14, "TreePress$Parser", 194, "*"), (15, "TreePress$Parser", 126, "<!ATTLIST"), (16, "TreePress$Parser", 255, "CDATA"), (17, "TreePress$Parser", 259, "ID"), (18, "TreePress$Parser", 267, "#REQUIRED"), (19, "TreePress$Parser", 271, "#IMPLIED"), (20, "TreePress$Parser", 273, "#FIXED"), (21, "TreePress$Parser", 286, "&lt;"), (22, "TreePress$Parser", 288, "&gt;"), (23, "TreePress$Parser", 290, "&amp;"), (24, "TreePress$Parser", 292, "&quot;"), (25, "TreePress$Parser", 294, "&apos;"), (26, "TreePress$Parser", 296, "&#"), (27, "TreePress$Parser", 298, ";"), (28, "TreePress$Parser", 322, "<"), (29, "TreePress$Parser", 363, "="), (30, "TreePress$Parser", 344, "/>"), (31, "TreePress$Parser", 354, "</"), (32, "TreePress$PathReader", 28, "/"), (33, "TreePress$PathReader", 34, "//"), (34, "TreePress$PathReader", 55, "."), (35, "TreePress$PathReader", 57, "@"), (36, "TreePress$PathReader", 76, ".."), (37, "TreePress$PathReader", 82, "text()"), (38, "TreePress$PathReader", 84, "*"), (39, "TreePress$PathReader", 100, "["), (40, "TreePress$PathReader", 112, "last()"), (41, "TreePress$PathReader", 118, "="), (42, "TreePress$PathReader", 126, ".="), (43, "TreePress$PathReader", 128, "]")]
def zs_len (w : Int) : Int := ((zs_b (-w).toNat).length : Int)
def zs_chr (w k : Int) : Int := (zs_b (-w).toNat).getD k.toNat 0
def zc_nD : List MethodName := [⟨"TreePress$Node", "kind", "()I"⟩, ⟨"TreePress$Node", "size", "()I"⟩, ⟨"TreePress$Node", "at", "(I)I"⟩, ⟨"java/lang/Exception", "<init>", "()V"⟩, ⟨"java/lang/Throwable", "<init>", "()V"⟩]
def zc_sf (G : zc_G) : Int := if zc_st G 54 = zc_st G 53 then -53 else 0
def zc_o (G : zc_G) : Nat → Prop := fun q => (zc_h0 G).size ≤ q
/-- the constants -/
def zc_kst (G : zc_G) (U : State) : Prop :=
  (∀ q ∈ zc_lits, vk_R q.2.1 q.2.2.1 q.2.2.2 (zc_st G q.1) U) ∧ (∀ n : Nat, 1 ≤ n → n ≤ 43 → va_O "java/lang/String" (zc_st G n) (zc_o G) U (zc_h0 G) ∧ va_OF "java/lang/String" "coder" "B" (.int 0) (zc_st G n) (zc_o G) U (zc_h0 G) ∧ va_OF "java/lang/String" "value" "[B" (.ref (zc_st G (n + 100))) (zc_st G n) (zc_o G) U (zc_h0 G)) ∧ (∀ n ∈ zc_cl, va_T .byte (zc_st G n) (zc_cb n).length (fun j => iv ((zc_cb n).getD j 0)) (zc_o G) U (zc_h0 G)) ∧
  va_Z "TreePress" "KEEP" "[B" (.ref (zc_st G 50)) (zc_o G) U (zc_h0 G) ∧ va_Z "java/util/ArrayList" "DEFAULTCAPACITY_EMPTY_ELEMENTDATA" "[Ljava/lang/Object;" (.ref (zc_st G 51)) (zc_o G) U (zc_h0 G) ∧ va_T (.object "java/lang/Object") (zc_st G 51) 0 (fun _ => .null) (zc_o G) U (zc_h0 G) ∧
  va_Z "java/lang/String" "COMPACT_STRINGS" "Z" (.int 1) (zc_o G) U (zc_h0 G) ∧ va_Z "jdk/internal/util/Preconditions" "SIOOBE_FORMATTER" "Ljava/util/function/BiFunction;" (zc_rv G (zc_sf G)) (zc_o G) U (zc_h0 G) ∧ va_Zq "java/lang/Throwable" "UNASSIGNED_STACK" "[Ljava/lang/StackTraceElement;" (zc_o G) U (zc_h0 G) ∧ va_Zq "java/lang/Throwable" "SUPPRESSED_SENTINEL" "Ljava/util/List;" (zc_o G) U (zc_h0 G) ∧
  va_Mi "[Ljava/lang/Object;" (zc_st G 52) U ∧ va_Dc U ∧ (∀ x ∈ zc_nD, va_Nw (.declares x) U)
def zc_ly (G : zc_G) (U : State) : Prop := ∀ q ∈ [("UNASSIGNED_STACK", "[Ljava/lang/StackTraceElement;"), ("SUPPRESSED_SENTINEL", "Ljava/util/List;")], ∃ (c : ClassId) (k : Class) (i : Nat) (f : Field) (a : Nat) (cell : Cell), U.vm.findClass "java/lang/Throwable" = some c ∧ U.fieldFound? "java/lang/Throwable" q.1 q.2 = some (c, k, i, f) ∧ f.isStatic = true ∧ k.statics = some a ∧ (zc_h0 G)[a]? = some cell ∧ cell.vm.isStatics = true ∧ cell.cls = c ∧ f.slot < cell.slots.size ∧ k.staticTypes[f.slot]? = some f.type ∧ ∃ r : RefV, cell.slots[f.slot]? = some r.v
theorem zc_ly.moved {G : zc_G} {u U : State} (hvm : u.vm.Alike U.vm) (h : zc_ly G u) : zc_ly G U := by
  intro q hq
  obtain ⟨c, k, i, f, a, cell, h1, h2, h3, h4, h5, h6, h7, h8, h9, h10⟩ := h q hq
  obtain ⟨k', hi', he⟩ := State.fieldFound?_setVm hvm h2
  exact ⟨c, k', i, f, a, cell, by rw [hvm.findClass]; exact h1, hi', h3, by rw [he]; exact h4, h5, h6, h7, h8, by rw [he]; exact h9, h10⟩
def zc_K (G : zc_G) (U : State) : Prop :=
  (∀ t, 0 < zc_N t → u_Kn U (zc_R t) (zc_T t) (zc_N t) (zc_cid G t) (zc_sl G t)) ∧ (∀ t, 31 ≤ t → t ≤ 36 → ArrOfT U (zc_ac G t) (zc_et t) ∧ va_RA U (zc_ac G t) (zc_et t)) ∧ zc_ly G U ∧
  (∀ q ∈ zc_nF, va_Nw (.fieldLinkNest q.1 q.2.1 q.2.2.1 q.2.2.2.1 q.2.2.2.2.1 q.2.2.2.2.2) U) ∧ (∀ q ∈ zc_nM, va_Nw (.methodLinkNest q.1 q.2.1 q.2.2.1 q.2.2.2) U) ∧ (∀ q ∈ zc_nC, va_Nw (.castable q.1 q.2) U) ∧ (∀ q ∈ zc_nN, va_Nc q.1 q.2 U) ∧ va_AO "TreePress$Node" U ∧ va_AO "java/lang/Object" U ∧ zc_kst G U

