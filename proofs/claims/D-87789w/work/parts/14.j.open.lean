set_option maxRecDepth 100000
/-! A LIST IS OPENED: its row becomes an ordinary object's, its hidden array's an ordinary array's; and closed again -/
def lopn (μ : MEM) (x m : Int) : MEM := fun y j => if y = x then (if j = -1 then 21 else if j = 0 then m else if j = 1 then μ x (-4) else if j = 2 then μ x (-2) else 0) else if y = μ x (-4) then (if μ x (-4) = -51 then (if j = -1 then 37 else 0) else (if j = -1 then 36 else if j = -2 then μ x (-3) else if 0 ≤ j ∧ j < μ x (-2) then μ x j else 0)) else μ y j
/-- what is known of a list -/
def lfx (μ : MEM) (x : Int) : Prop := 0 < x ∧ x < μ 0 0 ∧ 0 ≤ μ x (-2) ∧ μ x (-2) ≤ μ x (-3) ∧ μ x (-3) < 2147483648 ∧ (∀ i : Int, 0 ≤ i → i < μ x (-2) → μ x i = 0 ∨ zt zc_vt (μ (μ x i) (-1)) = true) ∧ ((μ x (-4) = -51 ∧ μ x (-3) = 0) ∨ (0 < μ x (-4) ∧ μ (μ x (-4)) (-1) = 41 ∧ μ x (-4) < μ 0 0 ∧ μ (μ x (-4)) (-5) = x)) ∧ μ 0 (-1) = 0 ∧ (∀ z, zt zc_vt (μ z (-1)) = true → 0 < z ∧ z < μ 0 0) ∧ (μ (-51) (-1) = 0 ∨ (μ (-51) (-1) = 37 ∧ μ (-51) (-2) = 0)) ∧ μ x (-1) = 40 ∧ μ (μ 0 0) (-1) = 0
theorem zt_neg {μ : MEM} {G : zc_G} {H : Heap} (h : zc_H G μ H) {z : Int} (hz : zt zc_vt (μ z (-1)) = true) : ((zc_h0 G).size : Int) < z ∧ z ≤ (H.size : Int) := by
  obtain ⟨t, ht, hzt⟩ := zt_mem hz
  exact zc_H_pos h hzt (fun e => by rw [e] at ht; exact absurd ht (by decide)) ⟨fun e => by rw [e] at ht; exact absurd ht (by decide), fun e => by rw [e] at ht; exact absurd ht (by decide)⟩
theorem lfx_of {G : zc_G} {μ : MEM} {H : Heap} {x : Int} (h : zc_H G μ H) (h0 : μ 0 0 = (H.size : Int) + 1) (hx : μ x (-1) = 40) : lfx μ x := by
  have hxp := zc_H_pos h (t := 40) hx (by decide) (by decide)
  obtain ⟨f, w, e, a1, a2, a3, a4, a5, a6, ⟨a7, av⟩, a8⟩ := (h.2.2.1 x 40 hx).2.2.1 rfl
  refine ⟨by omega, by omega, a5, a6, a7, fun i h1 h2 => ?_, ?_, ?_, fun z hz => ?_, ?_, hx, ?_⟩
  · have := av i.toNat (by omega)
    rw [show ((i.toNat : Nat) : Int) = i by omega] at this
    exact this
  · rcases a8 with ⟨k1, k2, k3, k4⟩ | ⟨k1, k2, k3⟩
    · right
      rw [k2]
      have hep := zc_H_pos h (t := 41) k3 (by decide) (by decide)
      exact ⟨by omega, k3, by omega, k4⟩
    · exact Or.inl ⟨k2, k1⟩
  · by_cases q : μ 0 (-1) = 0
    · exact q
    · rcases h.2.1 0 q with w | w <;> omega
  · have := zt_neg h hz
    omega
  · by_cases q : μ (-51) (-1) = 0
    · exact Or.inl q
    · rcases h.2.1 (-51) q with w | ⟨_, w | w⟩
      · omega
      · exact absurd ((h.2.2.1 (-51) 30 w).2.2.2.1 rfl).2.1 (by decide)
      · exact Or.inr ⟨w, ((h.2.2.1 (-51) 37 w).2.2.2.2 (Or.inl rfl)).elim (fun z => z.2.2) (fun z => absurd z.1 (by decide))⟩
  · by_cases q : μ (μ 0 0) (-1) = 0
    · exact q
    · rcases h.2.1 (μ 0 0) q with w | ⟨w, _⟩ <;> omega
theorem lopn_H {G : zc_G} {μ : MEM} {H : Heap} {x : Int} (h : zc_H G μ H) (hx : μ x (-1) = 40) : ∃ m, inR m ∧ zc_H G (lopn μ x m) H := by
  have hxp := zc_H_pos h (t := 40) hx (by decide) (by decide)
  have hh := h
  obtain ⟨hg, h1, h2, h3, h4⟩ := h
  obtain ⟨f, w, e, a1, a2, a3, a4, a5, a6, ⟨a7, av⟩, a8⟩ := (h2 x 40 hx).2.2.1 rfl
  have lx : ∀ j, lopn μ x w.toInt x j = if j = -1 then 21 else if j = 0 then w.toInt else if j = 1 then μ x (-4) else if j = 2 then μ x (-2) else 0 := fun j => by unfold lopn; rw [if_pos rfl]
  have lo : ∀ y j, y ≠ x → y ≠ μ x (-4) → lopn μ x w.toInt y j = μ y j := fun y j q1 q2 => by unfold lopn; rw [if_neg q1, if_neg q2]
  have hcase : (μ x (-4) = (e : Int) + 1 ∧ (e : Int) + 1 ≠ x ∧ μ ((e : Int) + 1) (-1) = 41 ∧ μ ((e : Int) + 1) (-5) = x ∧ H[e]? = some (arrV (zc_ac G 36) (μ x (-3)).toNat (fun i => if (i : Int) < μ x (-2) then zc_rv G (μ x i) else .null))) ∨ (μ x (-4) = -51 ∧ μ x (-3) = 0 ∧ e = zc_st G 51) := by
    rcases a8 with ⟨k1, k2, k3, k4⟩ | ⟨k1, k2, k3⟩
    · exact Or.inl ⟨k2, fun q => by rw [q, hx] at k3; exact absurd k3 (by decide), k3, k4, k1⟩
    · exact Or.inr ⟨k2, k1, k3⟩
  have hv : ∀ z, zt zc_vt (μ z (-1)) = true → zt zc_vt (lopn μ x w.toInt z (-1)) = true := fun z hz => by
    by_cases q1 : z = x
    · rw [q1, lx, if_pos rfl]; decide
    · by_cases q2 : z = μ x (-4)
      · exfalso
        rcases hcase with ⟨k1, _, k3, _⟩ | ⟨k1, _⟩
        · rw [q2, k1, k3] at hz; exact absurd hz (by decide)
        · have := zt_neg hh hz; omega
      · rw [lo z _ q1 q2]; exact hz
  refine ⟨w.toInt, inR_t w, hg, fun y hy => ?_, fun y => ?_, h3, h4⟩
  · by_cases q1 : y = x
    · exact Or.inl (by rw [q1]; exact hxp)
    · by_cases q2 : y = μ x (-4)
      · rcases hcase with ⟨k1, _, k3, _⟩ | ⟨k1, _⟩
        · rcases h1 ((e : Int) + 1) (by rw [k3]; decide) with z | z
          · left; rw [q2, k1]; exact z
          · omega
        · right
          refine ⟨by omega, Or.inr ?_⟩
          unfold lopn
          rw [if_neg q1, if_pos q2, if_pos k1, if_pos rfl]
      · rw [lo y _ q1 q2] at hy ⊢
        exact h1 y hy
  · by_cases q1 : y = x
    · subst q1
      intro t ht
      rw [lx, if_pos rfl] at ht
      have e5 : 21 = t := by omega
      subst e5
      refine ⟨fun _ => ⟨f, a1, fun k hk => ?_⟩, fun q => absurd q (by decide), fun q => absurd q (by decide), fun q => absurd q (by decide), fun q => absurd q (by decide)⟩
      have hk3 : k < 3 := hk
      rcases (show k = 0 ∨ k = 1 ∨ k = 2 by omega) with rfl | rfl | rfl
      · refine ⟨?_, ?_⟩
        · rw [a2]
          show Value.int w = iv (lopn μ y w.toInt y 0)
          rw [lx]
          show Value.int w = Value.int (Int32.ofInt w.toInt)
          rw [Int32.ofInt_toInt]
        · show inR (lopn μ y w.toInt y 0)
          rw [lx]
          exact inR_t w
      · show f 1 = zc_rv G (lopn μ y w.toInt y 1)
        rw [lx, a3]
        show Value.ref e = zc_rv G (μ y (-4))
        rcases hcase with ⟨k1, _⟩ | ⟨k1, _, k3⟩
        · rw [k1, zc_rv_p G (by omega), show ((e : Int) + 1 - 1).toNat = e by omega]
        · rw [k1, k3]; rfl
      · refine ⟨?_, ?_⟩
        · show f 2 = iv (lopn μ y w.toInt y 2)
          rw [lx, a4]
          rfl
        · show inR (lopn μ y w.toInt y 2)
          rw [lx]
          show inR (μ y (-2))
          exact ⟨by omega, by omega⟩
    · by_cases q2 : y = μ x (-4)
      · rcases hcase with ⟨k1, k2, k3, k4, k5⟩ | ⟨k1, k2, k3⟩
        · have le : ∀ j, lopn μ x w.toInt y j = if j = -1 then 36 else if j = -2 then μ x (-3) else if 0 ≤ j ∧ j < μ x (-2) then μ x j else 0 := fun j => by unfold lopn; rw [if_neg q1, if_pos q2, if_neg (by omega)]
          intro t ht
          rw [le, if_pos rfl] at ht
          have e5 : 36 = t := by omega
          subst e5
          refine ⟨fun q => absurd q (by decide), fun _ _ => ⟨?_, ?_, ?_, fun i _ => trivial⟩, fun q => absurd q (by decide), fun q => absurd q (by decide), fun q => absurd q (by decide)⟩
          · rw [le, if_neg (by decide), if_pos rfl]; omega
          · rw [le, if_neg (by decide), if_pos rfl]; omega
          · rw [q2, k1, zc_ad_p (by omega), show ((e : Int) + 1 - 1).toNat = e by omega, k5]
            rw [q2, k1] at le
            rw [le, if_neg (by decide), if_pos rfl]
            congr 2
            funext i
            rw [le, if_neg (show ¬ ((i : Int) = -1) by omega), if_neg (show ¬ ((i : Int) = -2) by omega)]
            by_cases hi : (i : Int) < μ x (-2)
            · rw [if_pos hi, if_pos (show 0 ≤ (i : Int) ∧ (i : Int) < μ x (-2) from ⟨by omega, hi⟩)]; rfl
            · rw [if_neg hi, if_neg (show ¬ (0 ≤ (i : Int) ∧ (i : Int) < μ x (-2)) from fun q => hi q.2)]; rfl
        · have le : ∀ j, lopn μ x w.toInt y j = if j = -1 then 37 else 0 := fun j => by unfold lopn; rw [if_neg q1, if_pos q2, if_pos k1]
          intro t ht
          rw [le, if_pos rfl] at ht
          have e5 : 37 = t := by omega
          subst e5
          exact ⟨fun q => absurd q (by decide), fun q1 q2 => absurd q2 (by decide), fun q => absurd q (by decide), fun q => absurd q (by decide), fun _ => Or.inl ⟨rfl, by rw [q2, k1], by rw [le]; rfl⟩⟩
      · refine zc_row_kept (h2 y) (fun j => lo y j q1 q2) rfl hv (fun hy40 e' k3' k4' => ⟨rfl, ?_⟩)
        have w1 : (e' : Int) + 1 ≠ x := fun q => by rw [q, hx] at k3'; exact absurd k3' (by decide)
        have w2 : (e' : Int) + 1 ≠ μ x (-4) := fun q => by
          rcases hcase with ⟨k1, _, _, k4, _⟩ | ⟨k1, _⟩
          · rw [q, k1, k4] at k4'; exact q1 k4'.symm
          · omega
        exact ⟨lo _ _ w1 w2, lo _ _ w1 w2⟩
theorem arrV_cg {c : ClassId} {N : Nat} {f g : Nat → Value} (h : ∀ i, i < N → f i = g i) : arrV c N f = arrV c N g := by
  unfold arrV
  congr 2
  funext j
  exact h j.val j.isLt
/-- closing -/
theorem zc_cls {G : zc_G} {μ1 μ' : MEM} {H : Heap} (h : zc_H G μ1 H) {x e1 : Int} (hx : μ1 x (-1) = 21) (he : μ1 x 1 = e1) (hex : e1 ≠ x)
    (hcase : (e1 = -51 ∧ μ1 x 2 = 0 ∧ μ' x (-3) = 0) ∨ (μ1 e1 (-1) = 36 ∧ 0 ≤ μ1 x 2 ∧ μ1 x 2 ≤ μ1 e1 (-2) ∧ (∀ i : Int, 0 ≤ i → i < μ1 x 2 → μ' x i = μ1 e1 i ∧ (μ1 e1 i = 0 ∨ zt zc_vt (μ1 (μ1 e1 i) (-1)) = true)) ∧ (∀ i : Int, μ1 x 2 ≤ i → i < μ1 e1 (-2) → μ1 e1 i = 0) ∧ μ' x (-3) = μ1 e1 (-2) ∧ μ' e1 (-1) = 41 ∧ μ' e1 (-5) = x))
    (g1 : μ' x (-1) = 40) (g2 : μ' x (-2) = μ1 x 2) (g4 : μ' x (-4) = e1)
    (hr : ∀ y, y ≠ x → (y ≠ e1 ∨ e1 = -51) → (∀ j, μ' y j = μ1 y j) ∨ (μ' y (-1) = 41 ∧ μ1 y (-1) = 36) ∨ (μ' y (-1) = 0 ∧ y ≤ 0) ∨ (y = -51 ∧ μ' y (-1) = 37 ∧ μ' y (-2) = 0)) : zc_H G μ' H := by
  have hxp := zc_H_pos h (t := 21) hx (by decide) (by decide)
  have hh := h
  obtain ⟨hg, h1, h2, h3, h4⟩ := h
  have hv : ∀ z, zt zc_vt (μ1 z (-1)) = true → zt zc_vt (μ' z (-1)) = true := fun z hz => by
    by_cases q1 : z = x
    · rw [q1, g1]; decide
    · by_cases q2 : z ≠ e1 ∨ e1 = -51
      · rcases hr z q1 q2 with k | ⟨_, k⟩ | ⟨_, k⟩ | ⟨k, _⟩
        · rw [k]; exact hz
        · rw [k] at hz; exact absurd hz (by decide)
        · have := zt_neg hh hz; omega
        · have := zt_neg hh hz; omega
      · have e3 : z = e1 := Classical.byContradiction (fun w => q2 (Or.inl w))
        have e4 : e1 ≠ -51 := fun w => q2 (Or.inr w)
        rcases hcase with ⟨k, _⟩ | ⟨k, _⟩
        · exact absurd k e4
        · rw [e3, k] at hz; exact absurd hz (by decide)
  obtain ⟨f, a1, hf⟩ := (h2 x 21 hx).1 (by decide)
  have f0 := hf 0 (by decide)
  have f1 := hf 1 (by decide)
  have f2 := hf 2 (by decide)
  refine ⟨hg, fun y hy => ?_, fun y => ?_, h3, h4⟩
  · by_cases q1 : y = x
    · exact Or.inl (by rw [q1]; exact hxp)
    · by_cases q2 : y ≠ e1 ∨ e1 = -51
      · rcases hr y q1 q2 with k | ⟨_, k⟩ | ⟨k, _⟩ | ⟨k, k2, _⟩
        · rw [k] at hy ⊢; exact h1 y hy
        · exact Or.inl (zc_H_pos hh (t := 36) k (by decide) (by decide))
        · exact absurd k hy
        · exact Or.inr ⟨by omega, Or.inr k2⟩
      · have e3 : y = e1 := Classical.byContradiction (fun w => q2 (Or.inl w))
        have e4 : e1 ≠ -51 := fun w => q2 (Or.inr w)
        rcases hcase with ⟨k, _⟩ | ⟨k, _⟩
        · exact absurd k e4
        · exact Or.inl (by rw [e3]; exact zc_H_pos hh (t := 36) k (by decide) (by decide))
  · by_cases q1 : y = x
    · subst q1
      intro t ht
      rw [g1] at ht
      have e5 : 40 = t := by omega
      subst e5
      refine ⟨fun q => absurd q (by decide), fun _ q => absurd q (by decide), fun _ => ?_, fun q => absurd q (by decide), fun q => absurd q (by decide)⟩
      have c0 : zc_col 21 0 = 0 := rfl
      have w0 : f 0 = .int (Int32.ofInt (μ1 y 0)) := f0.1
      have w1 : f 1 = zc_rv G (μ1 y 1) := f1
      have w2 : f 2 = iv (μ1 y 2) := f2.1
      have r2 : inR (μ1 y 2) := f2.2
      rcases hcase with ⟨k1, k2, k3⟩ | ⟨k1, k2, k3, k4, k5, k6, k7, k8⟩
      · refine ⟨f, _, zc_st G 51, a1, w0, ?_, by rw [g2]; exact w2, by rw [g2]; omega, by rw [g2]; omega, ⟨by omega, fun i hi => by omega⟩, Or.inr ⟨k3, by rw [g4]; exact k1, rfl⟩⟩
        rw [w1, he, k1]; rfl
      · have hep := zc_H_pos hh (t := 36) k1 (by decide) (by decide)
        obtain ⟨b1, b2, b3, b4⟩ := (h2 e1 36 k1).2.1 (by decide) (by decide)
        refine ⟨f, _, (e1 - 1).toNat, a1, w0, ?_, by rw [g2]; exact w2, by rw [g2]; omega, by rw [g2, k6]; exact k3, ⟨by rw [k6]; exact b2, fun i hi => ?_⟩, Or.inl ⟨?_, ?_, ?_, ?_⟩⟩
        · rw [w1, he, zc_rv_p G (by omega)]
        · rw [g2] at hi
          obtain ⟨z1, z2⟩ := k4 i (by omega) hi
          rw [z1]
          exact z2.imp id (hv _)
        · rw [zc_ad_p (by omega)] at b3
          rw [b3, k6]
          refine congrArg some (arrV_cg (fun i hi9 => ?_))
          rw [g2]
          show zc_rv G (μ1 e1 i) = _
          by_cases hi : (i : Int) < μ1 y 2
          · rw [if_pos hi, (k4 i (by omega) hi).1]
          · rw [if_neg hi]
            by_cases hi2 : (i : Int) < μ1 e1 (-2)
            · rw [k5 i (by omega) hi2]; rfl
            · exfalso; omega
        · rw [g4]; omega
        · rw [show (((e1 - 1).toNat : Nat) : Int) + 1 = e1 by omega]; exact k7
        · rw [show (((e1 - 1).toNat : Nat) : Int) + 1 = e1 by omega]; exact k8
    · by_cases q2 : y ≠ e1 ∨ e1 = -51
      · rcases hr y q1 q2 with k | ⟨k, _⟩ | ⟨k, _⟩ | ⟨k, k2, k3⟩
        · refine zc_row_kept (h2 y) k rfl hv (fun hy40 e' k3' k4' => ⟨rfl, ?_⟩)
          have w1 : (e' : Int) + 1 ≠ x := fun q => by rw [q, hx] at k3'; exact absurd k3' (by decide)
          have w2 : (e' : Int) + 1 ≠ e1 ∨ e1 = -51 := by
            rcases hcase with ⟨z, _⟩ | ⟨z, _⟩
            · exact Or.inr z
            · exact Or.inl (fun q => by rw [q, z] at k3'; exact absurd k3' (by decide))
          rcases hr _ w1 w2 with z | ⟨_, z⟩ | ⟨_, z⟩ | ⟨z, _⟩
          · exact ⟨z _, z _⟩
          · rw [z] at k3'; exact absurd k3' (by decide)
          · omega
          · omega
        · intro t ht
          rw [k] at ht
          have e5 : 41 = t := by omega
          subst e5
          exact ⟨fun q => absurd q (by decide), fun _ q => absurd q (by decide), fun q => absurd q (by decide), fun q => absurd q (by decide), fun q => absurd q (by decide)⟩
        · exact zc_row_nil k
        · intro t ht
          rw [k2] at ht
          have e5 : 37 = t := by omega
          subst e5
          exact ⟨fun q => absurd q (by decide), fun _ q => absurd q (by decide), fun q => absurd q (by decide), fun q => absurd q (by decide), fun _ => Or.inl ⟨rfl, k, k3⟩⟩
      · have e3 : y = e1 := Classical.byContradiction (fun w => q2 (Or.inl w))
        have e4 : e1 ≠ -51 := fun w => q2 (Or.inr w)
        rcases hcase with ⟨k, _⟩ | ⟨_, _, _, _, _, _, k, _⟩
        · exact absurd k e4
        · intro t ht
          rw [e3, k] at ht
          have e5 : 41 = t := by omega
          subst e5
          exact ⟨fun q => absurd q (by decide), fun _ q => absurd q (by decide), fun q => absurd q (by decide), fun q => absurd q (by decide), fun q => absurd q (by decide)⟩
/-- a contract over another memory of the same heap -/
theorem zc_conv {G : zc_G} {y : MethodName} {cc : ByteArray} {nL : Nat} {ret : Option FieldType} {rk fr lo : Nat} {μ : MEM} {av : List Value} {o : zc_O}
    (h : ∀ H : Heap, zc_H G μ H → μ 0 0 = (H.size : Int) + 1 → ∃ (μ1 : MEM) (o1 : zc_O), zc_H G μ1 H ∧ (μ1 0 0 = μ 0 0 ∧ μ1 0 1 = μ 0 1 ∧ μ1 0 2 = μ 0 2) ∧ (∀ z, 0 < z → (μ1 z (-1) = 0 ↔ μ z (-1) = 0)) ∧ zc_Met G y cc nL ret rk fr lo μ1 av o1 ∧ (o1.1 = o.1 ∧ o1.2.1 = o.2.1) ∧ (o1.2.2 0 0 = o.2.2 0 0 ∧ o1.2.2 0 1 = o.2.2 0 1 ∧ o1.2.2 0 2 = o.2.2 0 2) ∧ (∀ z, 0 < z → (o1.2.2 z (-1) = 0 ↔ o.2.2 z (-1) = 0)) ∧ ∀ H', zc_H G o1.2.2 H' → zc_H G o.2.2 H') : zc_Met G y cc nL ret rk fr lo μ av o := by
  intro l hL p e ha hcas hck s m args below hf happ hP hK
  obtain ⟨rfl, hH, h0, h1, h2, hKK⟩ := hP
  obtain ⟨μ1, o1, g1, ⟨z0, z1, z2⟩, gt, gM, ⟨e1, e2⟩, ⟨y0, y1, y2⟩, gt', gH⟩ := h _ hH h0
  have hrm : zc_rm fr lo μ1 = zc_rm fr lo μ := by unfold zc_rm; rw [z1, z2]
  obtain ⟨n, oc, a1, a2, a3, b1, L, k, n', b2, b3⟩ := gM l hL p e ha hcas hck s m _ below hf (by rw [hrm]; exact happ) ⟨rfl, g1, by rw [z0]; exact h0, by rw [z1]; exact h1, by rw [z2]; exact h2, hKK⟩ trivial
  refine ⟨n, oc, a1, a2, a3, ?_, L, k, n', b2, ?_⟩
  · unfold zc_out at b1 ⊢
    rw [← e1, ← e2]
    exact b1
  · obtain ⟨c1, c2, c3, c4, c5, c6, c7, c8, c9, c10⟩ := b3
    exact ⟨gH _ c1, c2, by rw [← y0]; exact c3, fun q hq => ((gt' _ (by omega)).symm.trans (c4 q hq)).trans (gt _ (by omega)), fun q hq hz => c5 q hq ((gt _ (by omega)).mpr hz), fun l hl => (c6 l hl).imp id (fun w z => w ((gt _ (by omega)).mpr z)), by omega, by omega, by omega, by omega⟩
