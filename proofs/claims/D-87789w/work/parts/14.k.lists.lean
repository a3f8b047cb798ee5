set_option maxRecDepth 100000
/-! THE LISTS' CONTRACTS -/
theorem ck_t {O : Type} {c : Prop} [Decidable c] {d : Option O} (h : c) : ck c d = d := if_pos h
theorem ck_i {O : Type} {c : Prop} [Decidable c] {d : Option O} {o : O} (h : ck c d = some o) : c ∧ d = some o := by
  unfold ck at h
  by_cases q : c
  · rw [if_pos q] at h; exact ⟨q, h⟩
  · rw [if_neg q] at h; cases h
theorem bc_t {r : Int} {μ : MEM} {k : Int → MEM → Option zc_O} : bc (some (0, r, μ)) k = k r μ := rfl
section LK
variable {G : zc_G} {μ : MEM} {x m : Int}
theorem lopn_x (j : Int) : lopn μ x m x j = if j = -1 then 21 else if j = 0 then m else if j = 1 then μ x (-4) else if j = 2 then μ x (-2) else 0 := by unfold lopn; rw [if_pos rfl]
theorem lopn_xt : lopn μ x m x (-1) = 21 := by rw [lopn_x]; rfl
theorem lopn_x1 : lopn μ x m x 1 = μ x (-4) := by rw [lopn_x]; rfl
theorem lopn_x2 : lopn μ x m x 2 = μ x (-2) := by rw [lopn_x]; rfl
theorem lopn_o {y : Int} (j : Int) (h1 : y ≠ x) (h2 : y ≠ μ x (-4)) : lopn μ x m y j = μ y j := by unfold lopn; rw [if_neg h1, if_neg h2]
theorem lopn_e (j : Int) (h1 : μ x (-4) ≠ x) (h2 : μ x (-4) ≠ -51) : lopn μ x m (μ x (-4)) j = if j = -1 then 36 else if j = -2 then μ x (-3) else if 0 ≤ j ∧ j < μ x (-2) then μ x j else 0 := by unfold lopn; rw [if_neg h1, if_pos rfl, if_neg h2]
theorem lopn_E (j : Int) (h1 : μ x (-4) ≠ x) (h2 : μ x (-4) = -51) : lopn μ x m (-51) j = if j = -1 then 37 else 0 := by unfold lopn; rw [if_neg (by rw [← h2]; exact h1), if_pos h2.symm, if_pos h2]
theorem lfx_ne (h : lfx μ x) : μ x (-4) ≠ x ∧ x ≠ 0 ∧ μ x (-4) ≠ 0 ∧ μ x (-4) ≠ μ 0 0 := by
  obtain ⟨a1, a2, a3, a4, a5, a6, a7, a8, a9, a10, a11, a12⟩ := h
  rcases a7 with ⟨b1, b2⟩ | ⟨b1, b2, b3, b4⟩
  · omega
  · exact ⟨fun q => by rw [q, a11] at b2; exact absurd b2 (by decide), by omega, by omega, by omega⟩
theorem lopn_0 (h : lfx μ x) (j : Int) : lopn μ x m 0 j = μ 0 j := lopn_o j (fun q => (lfx_ne h).2.1 q.symm) (fun q => (lfx_ne h).2.2.1 q.symm)
theorem lopn_N (h : lfx μ x) (j : Int) : lopn μ x m (μ 0 0) j = μ (μ 0 0) j := lopn_o j (fun q => by have := h.2.1; omega) (fun q => (lfx_ne h).2.2.2 q.symm)
theorem lopn_t (h : lfx μ x) {z : Int} (hz : 0 < z) : lopn μ x m z (-1) = 0 ↔ μ z (-1) = 0 := by
  have hn := lfx_ne h
  by_cases q1 : z = x
  · rw [q1, lopn_xt, h.2.2.2.2.2.2.2.2.2.2.1]; decide
  · by_cases q2 : z = μ x (-4)
    · rcases h.2.2.2.2.2.2.1 with ⟨b1, b2⟩ | ⟨b1, b2, b3, b4⟩
      · omega
      · rw [q2, lopn_e _ hn.1 (by omega), b2, if_pos rfl]; decide
    · rw [lopn_o _ q1 q2]
theorem lopn_v (h : lfx μ x) {z : Int} (hz : z = 0 ∨ zt zc_vt (μ z (-1)) = true) : z = 0 ∨ (zt zc_vt (lopn μ x m z (-1)) = true ∧ z ≠ μ x (-4) ∧ z ≠ μ 0 0) := by
  rcases hz with hz | hz
  · exact Or.inl hz
  · right
    have hn := lfx_ne h
    have hp := h.2.2.2.2.2.2.2.2.1 z hz
    have q2 : z ≠ μ x (-4) := by
      intro q
      rcases h.2.2.2.2.2.2.1 with ⟨b1, b2⟩ | ⟨b1, b2, b3, b4⟩
      · omega
      · rw [q, b2] at hz; exact absurd hz (by decide)
    refine ⟨?_, q2, by omega⟩
    by_cases q1 : z = x
    · rw [q1, lopn_xt]; decide
    · rw [lopn_o _ q1 q2]; exact hz
theorem lcls_id {H : Heap} (h : lfx μ x) (hH : zc_H G (lopn μ x m) H) : zc_H G μ H := by
  have hn := lfx_ne h
  obtain ⟨a1, a2, a3, a4, a5, a6, a7, a8, a9, a10, a11, a12⟩ := id h
  refine zc_cls hH lopn_xt lopn_x1 hn.1 ?_ a11 lopn_x2.symm rfl (fun y h1 h2 => ?_)
  · rcases a7 with ⟨b1, b2⟩ | ⟨b1, b2, b3, b4⟩
    · left
      rw [lopn_x2]
      exact ⟨b1, by omega, b2⟩
    · right
      have hE : ∀ j, lopn μ x m (μ x (-4)) j = _ := fun j => lopn_e j hn.1 (by omega)
      rw [lopn_x2]
      refine ⟨by rw [hE]; rfl, a3, by rw [hE]; exact a4, fun i q1 q2 => ?_, fun i q1 q2 => ?_, by rw [hE]; rfl, b2, b4⟩
      · have e : lopn μ x m (μ x (-4)) i = μ x i := by rw [hE, if_neg (by omega), if_neg (by omega), if_pos ⟨q1, q2⟩]
        refine ⟨e.symm, ?_⟩
        rw [e]
        exact (lopn_v h (a6 i q1 q2)).imp id (fun w => w.1)
      · rw [hE, if_neg (by omega), if_neg (by omega), if_neg (by omega)]
  · by_cases q : y = μ x (-4)
    · have e5 : μ x (-4) = -51 := by
        rcases h2 with w | w
        · exact absurd q w
        · exact w
      rw [e5] at q
      subst q
      rcases a10 with w | w
      · exact Or.inr (Or.inr (Or.inl ⟨w, by omega⟩))
      · exact Or.inr (Or.inr (Or.inr ⟨rfl, w⟩))
    · exact Or.inl (fun j => (lopn_o j h1 q).symm)
theorem w_lsize {G : zc_G} (μ : MEM) (x : Int) (o : zc_O) (hd : b_lsize μ x = some o) : zc_Met G yJ2_size cJ2_size 1 (some .int) 1 0 0 μ [zc_rv G x] o := by
  obtain ⟨hx, hd⟩ := ck_i hd
  cases hd
  refine zc_conv (fun H hH h0 => ?_)
  obtain ⟨m, hm, h1⟩ := lopn_H hH hx
  have hf := lfx_of hH h0 hx
  refine ⟨lopn μ x m, (0, μ x (-2), lopn μ x m), h1, ⟨lopn_0 hf _, lopn_0 hf _, lopn_0 hf _⟩, fun z hz => lopn_t hf hz, u_J2_size _ x _ ?_, ⟨rfl, rfl⟩, ⟨lopn_0 hf _, lopn_0 hf _, lopn_0 hf _⟩, fun z hz => lopn_t hf hz, fun H' hH' => lcls_id hf hH'⟩
  unfold c_J2_size
  rw [ck_t (by rw [lopn_xt]; decide), lopn_x2]
theorem w_lget {G : zc_G} (μ : MEM) (x i : Int) (hi : inR i) (o : zc_O) (hd : b_lget μ x i = some o) : zc_Met G yJ2_get cJ2_get 2 (some (.object "java/lang/Object")) 4 2 43 μ [zc_rv G x, iv i] o := by
  obtain ⟨hx, hd⟩ := ck_i hd
  obtain ⟨hb, hd⟩ := ck_i hd
  cases hd
  refine zc_conv (fun H hH h0 => ?_)
  obtain ⟨m, hm, h1⟩ := lopn_H hH hx
  have hf := lfx_of hH h0 hx
  have hn := lfx_ne hf
  have hne : μ x (-4) ≠ -51 := by
    have := hf.2.2.2.1
    rcases hf.2.2.2.2.2.2.1 with ⟨b1, b2⟩ | ⟨b1, b2, b3, b4⟩ <;> omega
  have hE : ∀ j, lopn μ x m (μ x (-4)) j = _ := fun j => lopn_e j hn.1 hne
  refine ⟨lopn μ x m, (0, μ x i, lopn μ x m), h1, ⟨lopn_0 hf _, lopn_0 hf _, lopn_0 hf _⟩, fun z hz => lopn_t hf hz, u_J2_get _ x i hi _ ?_, ⟨rfl, rfl⟩, ⟨lopn_0 hf _, lopn_0 hf _, lopn_0 hf _⟩, fun z hz => lopn_t hf hz, fun H' hH' => lcls_id hf hH'⟩
  unfold c_J2_get c_J13_checkIndex c_J8_checkIndex c_J2_elementData
  rw [ck_t (by rw [lopn_xt]; decide), lopn_x2, if_neg (by omega), if_pos hb.2]
  rw [bc_t, bc_t, ck_t (by rw [lopn_xt]; decide), ck_t (by rw [lopn_xt]; decide), lopn_x1, ck_t (by rw [hE, if_pos rfl]; decide), ck_t ⟨hb.1, by rw [hE, if_neg (by omega), if_pos rfl]; have := hf.2.2.2.1; omega⟩, bc_t]
  rw [hE, if_neg (by omega), if_neg (by omega), if_pos hb]
theorem zmax1 {c : Int} (h : 0 ≤ c) (h2 : c ≤ 2147483647) : 1 ≤ zmax 1 (i_shr c 1) ∧ (1 ≤ c → zmax 1 (i_shr c 1) ≤ c) := by
  have e : i_shr c 1 = c / 2 := by
    have e : (Int32.ofInt c >>> (Int32.ofInt 1 &&& 31)).toInt = (Int32.ofInt c).toInt >>> (1 : Nat) := by
      show ((Int32.ofInt c) >>> (Int32.ofInt 1 &&& 31)).toBitVec.toInt = _
      rw [show (Int32.ofInt 1 &&& 31 : Int32) = 1 by decide, Int32.toBitVec_shiftRight]
      rw [show (Int32.toBitVec 1).smod 32 = 1#32 by decide]
      rw [BitVec.sshiftRight_eq', BitVec.toInt_sshiftRight]
      rfl
    unfold i_shr
    rw [e, oi_t ⟨by omega, h2⟩, Int.shiftRight_eq_div_pow]
    rfl
  rw [e]
  unfold zmax
  constructor
  · split <;> omega
  · intro h3; split <;> omega
theorem w_lclear_l : ∀ (n : Nat) (μ : MEM) (e c i : Int), (c - i).toNat < n → 0 ≤ i → c < 90000 → μ e (-1) = 36 → c ≤ μ e (-2) → e ≠ 0 → c_J2_clear_27 n μ e c i = some (0, 0, fun y j => if y = e ∧ i ≤ j ∧ j < c then 0 else μ y j) := by
  intro n
  induction n with
  | zero => intros; omega
  | succ n ih =>
    intro μ e c i h1 h2 h3 h4 h5 h6
    rw [c_J2_clear_27]
    by_cases q : c ≤ i
    · rw [if_pos q]
      congr 3
      funext y j
      rw [if_neg (by omega)]
    · rw [if_neg q, ck_t (by rw [h4]; decide), ck_t (Or.inl rfl), ck_t ⟨h2, by omega⟩]
      show ck (inR (i + 1)) (c_J2_clear_27 n (mup μ e i 0) e c (i + 1)) = _
      rw [ck_t ⟨by omega, by omega⟩, ih _ e c (i + 1) (by omega) (by omega) h3 (by rw [mup_n _ _ (by omega)]; exact h4) (by rw [mup_n _ _ (by omega)]; exact h5) h6]
      congr 3
      funext y j
      by_cases q1 : y = e ∧ i + 1 ≤ j ∧ j < c
      · rw [if_pos q1, if_pos (by omega)]
      · rw [if_neg q1]
        by_cases q2 : y = e ∧ j = i
        · rw [q2.1, q2.2, mup_s, if_pos ⟨rfl, by omega, by omega⟩]
        · rw [mup_n _ _ q2, if_neg (by omega)]
theorem w_lclear {G : zc_G} (μ : MEM) (x : Int) (o : zc_O) (hd : b_lclear μ x = some o) : zc_Met G yJ2_clear cJ2_clear 4 none 0 0 0 μ [zc_rv G x] o := by
  obtain ⟨hx, hd⟩ := ck_i hd
  obtain ⟨hb, hd⟩ := ck_i hd
  cases hd
  refine zc_conv (fun H hH h0 => ?_)
  obtain ⟨m, hm, h1⟩ := lopn_H hH hx
  have hf := lfx_of hH h0 hx
  have hn := lfx_ne hf
  obtain ⟨a1, a2, a3, a4, a5, a6, a7, a8, a9, a10, a11, a12⟩ := id hf
  -- the memory when clear has ended
  have hμF : ∃ μF : MEM, c_J2_clear (lopn μ x m) x = some (0, 0, μF) ∧ (∀ j, j ≠ 0 → j ≠ 2 → μF x j = lopn μ x m x j) ∧ μF x 2 = 0 ∧ (∀ y j, y ≠ x → μF y j = if y = μ x (-4) ∧ 0 ≤ j ∧ j < μ x (-2) then 0 else lopn μ x m y j) := by
    refine ⟨fun y j => if y = μ x (-4) ∧ 0 ≤ j ∧ j < μ x (-2) then 0 else mup (mup (lopn μ x m) x 0 (zw (lopn μ x m x 0 + 1))) x 2 0 y j, ?_, fun j q1 q2 => ?_, ?_, fun y j q => ?_⟩
    · unfold c_J2_clear
      rw [ck_t (by rw [lopn_xt]; decide)]
      show c_J2_clear_27 zF (mup (mup (lopn μ x m) x 0 (zw (lopn μ x m x 0 + 1))) x 2 0) (mup (lopn μ x m) x 0 (zw (lopn μ x m x 0 + 1)) x 1) (mup (lopn μ x m) x 0 (zw (lopn μ x m x 0 + 1)) x 2) 0 = _
      rw [mup_n _ _ (show ¬ (x = x ∧ (1 : Int) = 0) by omega), mup_n _ _ (show ¬ (x = x ∧ (2 : Int) = 0) by omega), lopn_x1, lopn_x2]
      rcases a7 with ⟨b1, b2⟩ | ⟨b1, b2, b3, b4⟩
      · have e0 : μ x (-2) = 0 := by omega
        rw [e0]
        show c_J2_clear_27 (99999 + 1) _ _ 0 0 = _
        rw [c_J2_clear_27, if_pos (Int.le_refl 0)]
        congr 3
        funext y j
        rw [if_neg (by omega)]
      · have hE : ∀ j, lopn μ x m (μ x (-4)) j = _ := fun j => lopn_e j hn.1 (by omega)
        exact w_lclear_l zF _ _ _ _ (by show _ < 100000; omega) (by omega) hb (by rw [mup_n _ _ (by omega), mup_n _ _ (by omega), hE]; rfl) (by rw [mup_n _ _ (by omega), mup_n _ _ (by omega), hE]; exact a4) (by omega)
    · show (if _ then _ else _) = _
      rw [if_neg (fun w => hn.1 w.1.symm), mup_n _ _ (by omega), mup_n _ _ (by omega)]
    · show (if _ then _ else _) = _
      rw [if_neg (fun w => hn.1 w.1.symm), mup_s]
    · show (if _ then _ else _) = _
      rw [mup_n _ _ (by omega), mup_n _ _ (by omega)]
  obtain ⟨μF, g1, g2, g3, g4⟩ := hμF
  have hnx : ∀ y : Int, y ≠ x → ∀ j, j < 0 → μF y j = lopn μ x m y j := fun y q j q2 => by rw [g4 y j q, if_neg (by omega)]
  have h0' : ∀ j, μF 0 j = μ 0 j := fun j => by rw [g4 0 j (by omega), if_neg (by omega), lopn_0 hf]
  have mF : ∀ y j, ¬ (y = x ∧ j = -2) → mup μ x (-2) 0 y j = μ y j := fun y j q => mup_n _ _ q
  refine ⟨lopn μ x m, (0, 0, μF), h1, ⟨lopn_0 hf _, lopn_0 hf _, lopn_0 hf _⟩, fun z hz => lopn_t hf hz, u_J2_clear _ x _ g1, ⟨rfl, rfl⟩, ?_, fun z hz => ?_, fun H' hH' => ?_⟩
  · show μF 0 0 = mup μ x (-2) 0 0 0 ∧ μF 0 1 = mup μ x (-2) 0 0 1 ∧ μF 0 2 = mup μ x (-2) 0 0 2
    rw [h0', h0', h0', mF _ _ (by omega), mF _ _ (by omega), mF _ _ (by omega)]
    exact ⟨rfl, rfl, rfl⟩
  · show μF z (-1) = 0 ↔ mup μ x (-2) 0 z (-1) = 0
    rw [mF _ _ (by omega), ← lopn_t (m := m) hf hz]
    by_cases q : z = x
    · rw [q, g2 _ (by decide) (by decide)]
    · rw [hnx z q _ (by decide)]
  · have hH' : zc_H G μF H' := hH'
    show zc_H G (mup μ x (-2) 0) H'
    refine zc_cls hH' (x := x) (e1 := μ x (-4)) (by rw [g2 _ (by decide) (by decide), lopn_xt]) (by rw [g2 _ (by decide) (by decide), lopn_x1]) hn.1 ?_ (by show mup μ x (-2) 0 x (-1) = 40; rw [mF _ _ (by omega), a11]) (by show mup μ x (-2) 0 x (-2) = μF x 2; rw [mup_s, g3]) (mF _ _ (by omega)) (fun y q1 q2 => ?_)
    · rcases a7 with ⟨b1, b2⟩ | ⟨b1, b2, b3, b4⟩
      · exact Or.inl ⟨b1, g3, by show mup μ x (-2) 0 x (-3) = 0; rw [mF _ _ (by omega)]; exact b2⟩
      · right
        have hE : ∀ j, lopn μ x m (μ x (-4)) j = _ := fun j => lopn_e j hn.1 (by omega)
        have e2 : μF (μ x (-4)) (-2) = μ x (-3) := by rw [hnx _ hn.1 _ (by decide), hE]; rfl
        rw [g3, e2]
        refine ⟨by rw [hnx _ hn.1 _ (by decide), hE]; rfl, Int.le_refl 0, by omega, fun i z1 z2 => by omega, fun i z1 z2 => ?_, mF _ _ (by omega), ?_, ?_⟩
        · rw [g4 _ _ hn.1]
          by_cases q : i < μ x (-2)
          · rw [if_pos ⟨rfl, z1, q⟩]
          · rw [if_neg (fun w => q w.2.2), hE, if_neg (by omega), if_neg (by omega), if_neg (fun w => q w.2)]
        · show mup μ x (-2) 0 _ (-1) = 41
          rw [mF _ _ (by omega)]; exact b2
        · show mup μ x (-2) 0 _ (-5) = x
          rw [mF _ _ (by omega)]; exact b4
    · by_cases q : y = μ x (-4)
      · have e5 : μ x (-4) = -51 := by
          rcases q2 with w | w
          · exact absurd q w
          · exact w
        have qq : y = -51 := by omega
        have w1 : mup μ x (-2) 0 y (-1) = μ (-51) (-1) := by rw [mF _ _ (by omega), qq]
        have w2 : mup μ x (-2) 0 y (-2) = μ (-51) (-2) := by rw [mF _ _ (by omega), qq]
        rcases a10 with w | w
        · exact Or.inr (Or.inr (Or.inl ⟨w1.trans w, by omega⟩))
        · exact Or.inr (Or.inr (Or.inr ⟨qq, w1.trans w.1, w2.trans w.2⟩))
      · left
        intro j
        show mup μ x (-2) 0 y j = μF y j
        rw [mF _ _ (by omega), g4 y j q1, if_neg (fun w => q w.1), lopn_o _ q1 q]
/-- what stands behind add, once the row is open and the array has room -/
theorem ladd_fin {μa μF : MEM} {x e v n w : Int} (h1 : μa x (-1) = 21) (h2 : μa e (-1) = 36) (h3 : v = 0 ∨ zt zc_vt (μa v (-1)) = true) (h4 : 0 ≤ n ∧ n < μa e (-2)) (h5 : n < 2147483647) (hxe : e ≠ x) (hF : μF = mup (mup μa e n v) x 2 (n + 1)) : c_J2_add_2_11 μa x v e n = some (0, 0, μF) := by
  unfold c_J2_add_2_11
  rw [ck_t (by rw [h2]; decide), ck_t h3, ck_t h4]
  show ck (inR (n + 1)) (ck (zt [21] (mup μa e n v x (-1)) = true) (some (0, 0, mup (mup μa e n v) x 2 (n + 1)))) = _
  rw [ck_t ⟨by omega, by omega⟩, ck_t (by rw [mup_n _ _ (by omega), h1]; decide), hF]
theorem w_ladd {G : zc_G} (μ : MEM) (x v : Int) (o : zc_O) (hd : b_ladd μ x v = some o) : zc_Met G yJ2_add cJ2_add 2 (some .boolean) 3 6 131 μ [zc_rv G x, zc_rv G v] o := by
  obtain ⟨hx, hd⟩ := ck_i hd
  obtain ⟨hv, hd⟩ := ck_i hd
  refine zc_conv (fun H hH h0 => ?_)
  obtain ⟨m, hm, h1⟩ := lopn_H hH hx
  have hf := lfx_of hH h0 hx
  have hn := lfx_ne hf
  obtain ⟨a1, a2, a3, a4, a5, a6, a7, a8, a9, a10, a11, a12⟩ := id hf
  have hvo := lopn_v (m := m) hf hv
  have hNx : μ 0 0 ≠ x := by omega
  have hN0 : (0 : Int) < μ 0 0 := by omega
  -- the row with one more change
  have h3 : ∃ w, w = zw (lopn μ x m x 0 + 1) := ⟨_, rfl⟩
  obtain ⟨w, hw⟩ := h3
  have m3 : ∀ y j, ¬ (y = x ∧ j = 0) → mup (lopn μ x m) x 0 w y j = lopn μ x m y j := fun y j q => mup_n _ _ q
  have hstart : ∀ μF : MEM, c_J2_add_2 (mup (lopn μ x m) x 0 w) x v (μ x (-4)) (μ x (-2)) = some (0, 0, μF) → c_J2_add (lopn μ x m) x v = some (0, 1, μF) := by
    intro μF hq
    unfold c_J2_add
    rw [ck_t (by rw [lopn_xt]; decide)]
    show bc (c_J2_add_2 (mup (lopn μ x m) x 0 (zw (lopn μ x m x 0 + 1))) x v (mup (lopn μ x m) x 0 (zw (lopn μ x m x 0 + 1)) x 1) (mup (lopn μ x m) x 0 (zw (lopn μ x m x 0 + 1)) x 2)) (fun _ μ6 => some (0, 1, μ6)) = _
    rw [← hw, m3 _ _ (by omega), m3 _ _ (by omega), lopn_x1, lopn_x2, hq]
    rfl
  by_cases hfull : μ x (-2) < μ x (-3)
  · rw [if_pos hfull] at hd
    cases hd
    have hne : μ x (-4) ≠ -51 := by
      rcases a7 with ⟨b1, b2⟩ | ⟨b1, b2, b3, b4⟩ <;> omega
    have b4 : 0 < μ x (-4) ∧ μ (μ x (-4)) (-1) = 41 ∧ μ x (-4) < μ 0 0 ∧ μ (μ x (-4)) (-5) = x := by
      rcases a7 with ⟨b1, b2⟩ | b
      · exact absurd b1 hne
      · exact b
    have hE : ∀ j, lopn μ x m (μ x (-4)) j = _ := fun j => lopn_e j hn.1 hne
    have hEt : lopn μ x m (μ x (-4)) (-1) = 36 := by rw [hE]; rfl
    have hEl : lopn μ x m (μ x (-4)) (-2) = μ x (-3) := by rw [hE]; rfl
    have gF : ∃ μF : MEM, c_J2_add (lopn μ x m) x v = some (0, 1, μF) ∧ (∀ j, j ≠ 0 → j ≠ 2 → μF x j = lopn μ x m x j) ∧ μF x 2 = μ x (-2) + 1 ∧ (∀ y j, y ≠ x → μF y j = if y = μ x (-4) ∧ j = μ x (-2) then v else lopn μ x m y j) := by
      refine ⟨mup (mup (mup (lopn μ x m) x 0 w) (μ x (-4)) (μ x (-2)) v) x 2 (μ x (-2) + 1), hstart _ ?_, fun j q1 q2 => ?_, mup_s _ _ _ _, fun y j q => ?_⟩
      · unfold c_J2_add_2
        rw [ck_t (by rw [m3 _ _ (by omega), hEt]; decide), if_neg (by rw [m3 _ _ (by omega), hEl]; omega)]
        refine ladd_fin (w := 0) (by rw [m3 _ _ (by omega), lopn_xt]) (by rw [m3 _ _ (by omega), hEt]) ?_ ⟨a3, by rw [m3 _ _ (by omega), hEl]; exact hfull⟩ (by omega) hn.1 rfl
        rcases hvo with q | q
        · exact Or.inl q
        · exact Or.inr (by rw [m3 _ _ (by omega)]; exact q.1)
      · rw [mup_n _ _ (by omega), mup_n _ _ (by omega), m3 _ _ (by omega)]
      · rw [mup_n _ _ (by omega)]
        by_cases q2 : y = μ x (-4) ∧ j = μ x (-2)
        · rw [if_pos q2, q2.1, q2.2, mup_s]
        · rw [if_neg q2, mup_n _ _ q2, m3 _ _ (by omega)]
    obtain ⟨μF, g1, g2, g3, g4⟩ := gF
    have hnx : ∀ y : Int, y ≠ x → ∀ j, j < 0 → μF y j = lopn μ x m y j := fun y q j q2 => by rw [g4 y j q, if_neg (by omega)]
    have hft : ∀ z, zt zc_vt (lopn μ x m z (-1)) = true → zt zc_vt (μF z (-1)) = true := fun z hz => by
      by_cases q : z = x
      · rw [q, g2 _ (by decide) (by decide)]; rw [q] at hz; exact hz
      · rw [hnx z q _ (by decide)]; exact hz
    have h0' : ∀ j, μF 0 j = μ 0 j := fun j => by rw [g4 0 j (by omega), if_neg (by omega), lopn_0 hf]
    have mF : ∀ y j, ¬ (y = x ∧ (j = -2 ∨ j = μ x (-2))) → mup (mup μ x (μ x (-2)) v) x (-2) (μ x (-2) + 1) y j = μ y j := fun y j q => by rw [mup_n _ _ (by omega), mup_n _ _ (by omega)]
    refine ⟨lopn μ x m, (0, 1, μF), h1, ⟨lopn_0 hf _, lopn_0 hf _, lopn_0 hf _⟩, fun z hz => lopn_t hf hz, u_J2_add _ x v _ g1, ⟨rfl, rfl⟩, ?_, fun z hz => ?_, fun H' hH' => ?_⟩
    · show μF 0 0 = mup (mup μ x (μ x (-2)) v) x (-2) (μ x (-2) + 1) 0 0 ∧ μF 0 1 = mup (mup μ x (μ x (-2)) v) x (-2) (μ x (-2) + 1) 0 1 ∧ μF 0 2 = mup (mup μ x (μ x (-2)) v) x (-2) (μ x (-2) + 1) 0 2
      rw [h0', h0', h0', mF _ _ (by omega), mF _ _ (by omega), mF _ _ (by omega)]
      exact ⟨rfl, rfl, rfl⟩
    · show μF z (-1) = 0 ↔ mup (mup μ x (μ x (-2)) v) x (-2) (μ x (-2) + 1) z (-1) = 0
      rw [mF _ _ (by omega), ← lopn_t (m := m) hf hz]
      by_cases q : z = x
      · rw [q, g2 _ (by decide) (by decide)]
      · rw [hnx z q _ (by decide)]
    · have hH' : zc_H G μF H' := hH'
      show zc_H G (mup (mup μ x (μ x (-2)) v) x (-2) (μ x (-2) + 1)) H'
      refine zc_cls hH' (x := x) (e1 := μ x (-4)) (by rw [g2 _ (by decide) (by decide), lopn_xt]) (by rw [g2 _ (by decide) (by decide), lopn_x1]) hn.1 (Or.inr ?_) (by rw [mF _ _ (by omega), a11]) (by rw [mup_s, g3]) (mF _ _ (by omega)) (fun y q1 q2 => Or.inl (fun j => ?_))
      · have e2 : μF (μ x (-4)) (-2) = μ x (-3) := by rw [hnx _ hn.1 _ (by decide), hEl]
        rw [g3, e2]
        refine ⟨by rw [hnx _ hn.1 _ (by decide), hEt], by omega, by omega, fun i z1 z2 => ?_, fun i z1 z2 => ?_, mF _ _ (by omega), ?_, ?_⟩
        · by_cases q : i = μ x (-2)
          · have e : μF (μ x (-4)) i = v := by rw [g4 _ _ hn.1, if_pos ⟨rfl, q⟩]
            rw [e]
            refine ⟨by rw [mup_n _ _ (by omega), q, mup_s], ?_⟩
            rcases hvo with z | z
            · exact Or.inl z
            · exact Or.inr (hft _ z.1)
          · have e : μF (μ x (-4)) i = μ x i := by rw [g4 _ _ hn.1, if_neg (fun z => q z.2), hE, if_neg (by omega), if_neg (by omega), if_pos ⟨z1, by omega⟩]
            rw [e]
            refine ⟨mF _ _ (by omega), ?_⟩
            rcases lopn_v (m := m) hf (a6 i z1 (by omega)) with z | z
            · exact Or.inl z
            · exact Or.inr (hft _ z.1)
        · rw [g4 _ _ hn.1, if_neg (by omega), hE, if_neg (by omega), if_neg (by omega), if_neg (by omega)]
        · rw [mF _ _ (by omega)]; exact b4.2.1
        · rw [mF _ _ (by omega)]; exact b4.2.2.2
      · have q : y ≠ μ x (-4) := by
          rcases q2 with q | q
          · exact q
          · exact absurd q hne
        rw [mF _ _ (by omega), g4 y j q1, if_neg (fun w => q w.1), lopn_o _ q1 q]
  · rw [if_neg hfull] at hd
    obtain ⟨⟨k1, k2, k3, k4⟩, hd⟩ := ck_i hd
    cases hd
    have hsz : μ x (-2) = μ x (-3) := by omega
    have hlg : 0 < lgrow (μ x (-3)) ∧ μ x (-3) < lgrow (μ x (-3)) ∧ lgrow (μ x (-3)) ≤ 1000000 := by
      unfold lgrow
      split
      · omega
      · have := zmax1 (c := μ x (-3)) (by omega) (by omega)
        omega
    -- the memory at the end
    have gF : ∃ μF : MEM, c_J2_add (lopn μ x m) x v = some (0, 1, μF) ∧ (μF x (-1) = 21 ∧ μF x 1 = μ 0 0 ∧ μF x 2 = μ x (-2) + 1) ∧ (μF (μ 0 0) (-1) = 36 ∧ μF (μ 0 0) (-2) = lgrow (μ x (-3)) ∧ (∀ i, 0 ≤ i → i < μ x (-2) → μF (μ 0 0) i = μ x i) ∧ μF (μ 0 0) (μ x (-2)) = v ∧ ∀ i, μ x (-2) < i → μF (μ 0 0) i = 0) ∧ (μF 0 0 = μ 0 0 + 1 ∧ μF 0 1 = μ 0 1 - 1 ∧ μF 0 2 = μ 0 2 - lgrow (μ x (-3)) ∧ ∀ j, j ≠ 0 → j ≠ 1 → j ≠ 2 → μF 0 j = μ 0 j) ∧ (∀ y j, y ≠ x → y ≠ μ 0 0 → y ≠ 0 → μF y j = lopn μ x m y j) := by
      by_cases hE5 : μ x (-4) = -51
      · -- the first array
        have c0 : μ x (-3) = 0 := by
          rcases a7 with ⟨b1, b2⟩ | ⟨b1, b2, b3, b4⟩ <;> omega
        have lg : lgrow (μ x (-3)) = 10 := by rw [c0]; rfl
        rw [lg] at k4 ⊢
        have s0 : μ x (-2) = 0 := by omega
        have hE : ∀ j, lopn μ x m (-51) j = if j = -1 then 37 else 0 := fun j => lopn_E j hn.1 hE5
        have eN : mup (lopn μ x m) x 0 w 0 0 = μ 0 0 := by rw [m3 _ _ (by omega), lopn_0 hf]
        have e1 : mup (lopn μ x m) x 0 w 0 1 = μ 0 1 := by rw [m3 _ _ (by omega), lopn_0 hf]
        have e2 : mup (lopn μ x m) x 0 w 0 2 = μ 0 2 := by rw [m3 _ _ (by omega), lopn_0 hf]
        have n4 : ∀ y j, y ≠ μ 0 0 → y ≠ 0 → mnew (mup (lopn μ x m) x 0 w) 36 10 10 y j = mup (lopn μ x m) x 0 w y j := fun y j q1 q2 => by unfold mnew; rw [eN, if_neg q1, if_neg q2]
        have n4N : ∀ j, mnew (mup (lopn μ x m) x 0 w) 36 10 10 (μ 0 0) j = if j = -1 then 36 else if j = -2 then 10 else 0 := fun j => by unfold mnew; rw [eN, if_pos rfl]
        have n40 : ∀ j, mnew (mup (lopn μ x m) x 0 w) 36 10 10 0 j = if j = 0 then μ 0 0 + 1 else if j = 1 then μ 0 1 - 1 else if j = 2 then μ 0 2 - 10 else μ 0 j := fun j => by unfold mnew; rw [eN, if_neg (by omega), if_pos rfl, e1, e2, m3 _ _ (by omega), lopn_0 hf]
        have t4 : mnew (mup (lopn μ x m) x 0 w) 36 10 10 x (-1) = 21 := by rw [n4 _ _ (by omega) (by omega), m3 _ _ (by omega), lopn_xt]
        refine ⟨mup (mup (mup (mnew (mup (lopn μ x m) x 0 w) 36 10 10) x 1 (μ 0 0)) (μ 0 0) 0 v) x 2 1, hstart _ ?_, ⟨?_, ?_, ?_⟩, ⟨?_, ?_, fun i q1 q2 => by omega, ?_, fun i q => ?_⟩, ⟨?_, ?_, ?_, fun j q1 q2 q3 => ?_⟩, fun y j q1 q2 q3 => ?_⟩
        · unfold c_J2_add_2
          rw [hE5, s0, ck_t (by rw [m3 _ _ (by omega), hE]; decide), if_pos (by rw [m3 _ _ (by omega), hE]; rfl), ck_t (by rw [m3 _ _ (by omega), lopn_xt]; decide)]
          have hg : c_J2_grow (mup (lopn μ x m) x 0 w) x = some (0, μ 0 0, mup (mnew (mup (lopn μ x m) x 0 w) 36 10 10) x 1 (μ 0 0)) := by
            unfold c_J2_grow c_J2_grow_2
            rw [ck_t (by rw [m3 _ _ (by omega), lopn_xt]; decide), m3 x 2 (by omega), lopn_x2, s0, ck_t (by decide), m3 x 1 (by omega), lopn_x1, hE5]
            rw [ck_t (by rw [m3 _ _ (by omega), lopn_xt]; decide), ck_t (by rw [m3 _ _ (by omega), hE]; decide), if_neg (by rw [m3 _ _ (by omega), hE]; decide), ck_t (Or.inl rfl), if_pos rfl]
            rw [show zmax 10 (0 + 1) = 10 from rfl, ck_t (by decide), ck_t (by rw [e1, e2]; exact ⟨k3, k4⟩)]
            show bc (ck (zt [21] (mnew (mup (lopn μ x m) x 0 w) 36 10 10 x (-1)) = true) (some (0, mup (lopn μ x m) x 0 w 0 0, mup (mnew (mup (lopn μ x m) x 0 w) 36 10 10) x 1 (mup (lopn μ x m) x 0 w 0 0)))) _ = _
            rw [ck_t (by rw [t4]; decide), eN]
            rfl
          rw [hg, bc_t]
          refine ladd_fin (w := 0) (by rw [mup_n _ _ (by omega)]; exact t4) (by rw [mup_n _ _ (by omega), n4N]; rfl) ?_ ⟨by omega, by rw [mup_n _ _ (by omega), n4N]; decide⟩ (by omega) hNx rfl
          rcases hvo with q | q
          · exact Or.inl q
          · by_cases qv : v = 0
            · exact Or.inl qv
            · exact Or.inr (by rw [mup_n _ _ (by omega), n4 _ _ q.2.2 qv, m3 _ _ (by omega)]; exact q.1)
        · rw [mup_n _ _ (by omega), mup_n _ _ (by omega), mup_n _ _ (by omega)]; exact t4
        · rw [mup_n _ _ (by omega), mup_n _ _ (by omega), mup_s]
        · rw [mup_s, s0]; rfl
        · rw [mup_n _ _ (by omega), mup_n _ _ (by omega), mup_n _ _ (by omega), n4N]; rfl
        · rw [mup_n _ _ (by omega), mup_n _ _ (by omega), mup_n _ _ (by omega), n4N]; rfl
        · rw [s0, mup_n _ _ (by omega), mup_s]
        · rw [mup_n _ _ (by omega), mup_n _ _ (by omega), mup_n _ _ (by omega), n4N, if_neg (by omega), if_neg (by omega)]
        · rw [mup_n _ _ (by omega), mup_n _ _ (by omega), mup_n _ _ (by omega), n40]; rfl
        · rw [mup_n _ _ (by omega), mup_n _ _ (by omega), mup_n _ _ (by omega), n40]; rfl
        · rw [mup_n _ _ (by omega), mup_n _ _ (by omega), mup_n _ _ (by omega), n40]; rfl
        · rw [mup_n _ _ (by omega), mup_n _ _ (by omega), mup_n _ _ (by omega), n40, if_neg q1, if_neg q2, if_neg q3]
        · rw [mup_n _ _ (by omega), mup_n _ _ (by omega), mup_n _ _ (by omega), n4 _ _ q2 q3, m3 _ _ (by omega)]
      · -- a longer one
        have c0 : 0 < μ x (-3) := by omega
        have lg : lgrow (μ x (-3)) = μ x (-3) + zmax 1 (i_shr (μ x (-3)) 1) := by unfold lgrow; rw [if_neg (by omega)]
        have hE : ∀ j, lopn μ x m (μ x (-4)) j = _ := fun j => lopn_e j hn.1 hE5
        have hEt : lopn μ x m (μ x (-4)) (-1) = 36 := by rw [hE]; rfl
        have hEl : lopn μ x m (μ x (-4)) (-2) = μ x (-3) := by rw [hE]; rfl
        obtain ⟨L, hL⟩ : ∃ L, L = lgrow (μ x (-3)) := ⟨_, rfl⟩
        rw [← hL] at k4 hlg ⊢
        rw [← hL] at lg
        have eN : mup (lopn μ x m) x 0 w 0 0 = μ 0 0 := by rw [m3 _ _ (by omega), lopn_0 hf]
        have e1 : mup (lopn μ x m) x 0 w 0 1 = μ 0 1 := by rw [m3 _ _ (by omega), lopn_0 hf]
        have e2 : mup (lopn μ x m) x 0 w 0 2 = μ 0 2 := by rw [m3 _ _ (by omega), lopn_0 hf]
        have n4 : ∀ y j, y ≠ μ 0 0 → y ≠ 0 → mnew (mup (lopn μ x m) x 0 w) 36 L L y j = mup (lopn μ x m) x 0 w y j := fun y j q1 q2 => by unfold mnew; rw [eN, if_neg q1, if_neg q2]
        have n4N : ∀ j, mnew (mup (lopn μ x m) x 0 w) 36 L L (μ 0 0) j = if j = -1 then 36 else if j = -2 then L else 0 := fun j => by unfold mnew; rw [eN, if_pos rfl]
        have n40 : ∀ j, mnew (mup (lopn μ x m) x 0 w) 36 L L 0 j = if j = 0 then μ 0 0 + 1 else if j = 1 then μ 0 1 - 1 else if j = 2 then μ 0 2 - L else μ 0 j := fun j => by unfold mnew; rw [eN, if_neg (by omega), if_pos rfl, e1, e2, m3 _ _ (by omega), lopn_0 hf]
        have n4x : ∀ j, j ≠ 0 → mnew (mup (lopn μ x m) x 0 w) 36 L L x j = lopn μ x m x j := fun j q => by rw [n4 _ _ (by omega) (by omega), m3 _ _ (by omega)]
        have n4e : ∀ j, mnew (mup (lopn μ x m) x 0 w) 36 L L (μ x (-4)) j = lopn μ x m (μ x (-4)) j := fun j => by rw [n4 _ _ hn.2.2.2 hn.2.2.1, m3 _ _ (fun q => hn.1 q.1)]
        obtain ⟨μ5, h5⟩ : ∃ μ5, μ5 = mcpy (mnew (mup (lopn μ x m) x 0 w) 36 L L) (μ x (-4)) 0 (μ 0 0) 0 (μ x (-3)) := ⟨_, rfl⟩
        have c5 : ∀ y j, y ≠ μ 0 0 → μ5 y j = mnew (mup (lopn μ x m) x 0 w) 36 L L y j := fun y j q => by rw [h5]; unfold mcpy; rw [if_neg (fun z => q z.1)]
        have c5N : ∀ j, ¬ (0 ≤ j ∧ j < μ x (-3)) → μ5 (μ 0 0) j = if j = -1 then 36 else if j = -2 then L else 0 := fun j q => by rw [h5]; unfold mcpy; rw [if_neg (by omega), n4N]
        have c5C : ∀ j, 0 ≤ j → j < μ x (-3) → μ5 (μ 0 0) j = μ x j := fun j q1 q2 => by
          rw [h5]; unfold mcpy
          rw [if_pos ⟨rfl, q1, by omega⟩, n4e, hE, if_neg (by omega), if_neg (by omega), if_pos (by omega)]
          congr 1; omega
        have hvE : ∀ z, (z = 0 ∨ zt zc_vt (μ z (-1)) = true) → z = 0 ∨ zt zc_vt (mnew (mup (lopn μ x m) x 0 w) 36 L L z (-1)) = true := fun z hz => by
          rcases lopn_v (m := m) hf hz with q | q
          · exact Or.inl q
          · by_cases qv : z = 0
            · exact Or.inl qv
            · exact Or.inr (by rw [n4 _ _ q.2.2 qv, m3 _ _ (by omega)]; exact q.1)
        have hcopy : c_J5_copyOf (mup (lopn μ x m) x 0 w) (μ x (-4)) L = some (0, μ 0 0, μ5) := by
          unfold c_J5_copyOf c_J5_copyOf_2
          rw [ck_t (by rw [m3 _ _ (fun q => hn.1 q.1), hEt]; decide), ck_t rfl, ck_t ⟨by omega, by omega⟩, ck_t (by rw [e1, e2]; exact ⟨k3, k4⟩)]
          show bc (c_J5_copyOf_2_24 (mnew (mup (lopn μ x m) x 0 w) 36 L L) (μ x (-4)) L (mup (lopn μ x m) x 0 w 0 0)) _ = _
          rw [eN]
          have hz : zmin (μ x (-3)) L = μ x (-3) := by unfold zmin; rw [if_neg (by omega)]
          unfold c_J5_copyOf_2_24
          rw [n4e, n4e, hEt, hEl, hz, n4N, n4N, ck_t (by decide), ck_t (by decide), ck_t (by rw [if_pos rfl]; decide), ck_t ⟨by omega, by omega, by omega, by omega, by rw [if_neg (by omega), if_pos rfl]; omega⟩, ck_t ?_]
          · show bc (some (0, μ 0 0, mcpy (mnew (mup (lopn μ x m) x 0 w) 36 L L) (μ x (-4)) 0 (μ 0 0) 0 (μ x (-3)))) _ = _
            rw [← h5]; rfl
          · unfold zc_rfok
            refine List.all_eq_true.mpr (fun i hi => ?_)
            have hi2 : (i : Int) < μ x (-3) := by have := List.mem_range.mp hi; omega
            have e6 : mnew (mup (lopn μ x m) x 0 w) 36 L L (μ x (-4)) (0 + (i : Int)) = μ x i := by
              rw [n4e, hE, if_neg (by omega), if_neg (by omega), if_pos (by omega)]
              congr 1; omega
            rw [e6]
            rcases hvE _ (a6 i (by omega) (by omega)) with q | q
            · simp [q]
            · simp [q]
        have hgrow : c_J2_grow (mup (lopn μ x m) x 0 w) x = some (0, μ 0 0, mup μ5 x 1 (μ 0 0)) := by
          unfold c_J2_grow c_J2_grow_2
          have hEm : mup (lopn μ x m) x 0 w (μ x (-4)) (-1) = 36 := by rw [m3 _ _ (fun q => hn.1 q.1), hEt]
          have hEm2 : mup (lopn μ x m) x 0 w (μ x (-4)) (-2) = μ x (-3) := by rw [m3 _ _ (fun q => hn.1 q.1), hEl]
          have hxm : mup (lopn μ x m) x 0 w x (-1) = 21 := by rw [m3 _ _ (by omega), lopn_xt]
          rw [ck_t (by rw [hxm]; decide), m3 x 2 (by omega), lopn_x2, ck_t ⟨by omega, by omega⟩, m3 x 1 (by omega), lopn_x1]
          rw [ck_t (by rw [hxm]; decide), hEm, hEm2, ck_t (by decide), if_pos c0]
          unfold c_J2_grow_2_20 c_J3_newLength
          rw [show μ x (-2) + 1 - μ x (-3) = 1 by omega, ← lg, ck_t (by decide), ck_t ⟨by omega, by omega⟩, if_neg (by omega), if_neg (by omega), bc_t, ck_t (by rw [hxm]; decide), m3 x 1 (by omega), lopn_x1, hcopy, bc_t]
          rw [ck_t (by rw [c5 _ _ (by omega), n4x _ (by decide), lopn_xt]; decide)]
          rfl
        have x5 : ∀ j, j ≠ 0 → j ≠ 1 → mup μ5 x 1 (μ 0 0) x j = lopn μ x m x j := fun j q1 q2 => by rw [mup_n _ _ (by omega), c5 _ _ (by omega), n4x _ q1]
        refine ⟨mup (mup (mup μ5 x 1 (μ 0 0)) (μ 0 0) (μ x (-2)) v) x 2 (μ x (-2) + 1), hstart _ ?_, ⟨?_, ?_, ?_⟩, ⟨?_, ?_, fun i q1 q2 => ?_, ?_, fun i q => ?_⟩, ⟨?_, ?_, ?_, fun j q1 q2 q3 => ?_⟩, fun y j q1 q2 q3 => ?_⟩
        · unfold c_J2_add_2
          rw [ck_t (by rw [m3 _ _ (fun q => hn.1 q.1), hEt]; decide), if_pos (by rw [m3 _ _ (fun q => hn.1 q.1), hEl]; exact hsz), ck_t (by rw [m3 _ _ (by omega), lopn_xt]; decide), hgrow, bc_t]
          refine ladd_fin (w := 0) (by rw [x5 _ (by decide) (by decide), lopn_xt]) (by rw [mup_n _ _ (by omega), c5N _ (by omega)]; rfl) ?_ ⟨a3, by rw [mup_n _ _ (by omega), c5N _ (by omega), if_neg (by omega), if_pos rfl]; omega⟩ (by omega) hNx rfl
          rcases lopn_v (m := m) hf hv with q | q
          · exact Or.inl q
          · rcases hvE v hv with z | z
            · exact Or.inl z
            · exact Or.inr (by rw [mup_n _ _ (by omega), c5 _ _ q.2.2]; exact z)
        · rw [mup_n _ _ (by omega), mup_n _ _ (by omega), x5 _ (by decide) (by decide), lopn_xt]
        · rw [mup_n _ _ (by omega), mup_n _ _ (by omega), mup_s]
        · rw [mup_s]
        · rw [mup_n _ _ (by omega), mup_n _ _ (by omega), mup_n _ _ (by omega), c5N _ (by omega)]; rfl
        · rw [mup_n _ _ (by omega), mup_n _ _ (by omega), mup_n _ _ (by omega), c5N _ (by omega)]; rfl
        · rw [mup_n _ _ (by omega), mup_n _ _ (by omega), mup_n _ _ (by omega), c5C _ q1 (by omega)]
        · rw [mup_n _ _ (by omega), mup_s]
        · rw [mup_n _ _ (by omega), mup_n _ _ (by omega), mup_n _ _ (by omega), c5N _ (by omega), if_neg (by omega), if_neg (by omega)]
        · rw [mup_n _ _ (by omega), mup_n _ _ (by omega), mup_n _ _ (by omega), c5 _ _ (by omega), n40]; rfl
        · rw [mup_n _ _ (by omega), mup_n _ _ (by omega), mup_n _ _ (by omega), c5 _ _ (by omega), n40]; rfl
        · rw [mup_n _ _ (by omega), mup_n _ _ (by omega), mup_n _ _ (by omega), c5 _ _ (by omega), n40]; rfl
        · rw [mup_n _ _ (by omega), mup_n _ _ (by omega), mup_n _ _ (by omega), c5 _ _ (by omega), n40, if_neg q1, if_neg q2, if_neg q3]
        · rw [mup_n _ _ (by omega), mup_n _ _ (by omega), mup_n _ _ (by omega), c5 _ _ q2, n4 _ _ q2 q3, m3 _ _ (by omega)]
    obtain ⟨μF, g1, ⟨g2, g3, g4⟩, ⟨g5, g6, g7, g8, g9⟩, ⟨g10, g11, g12, g13⟩, g14⟩ := gF
    have dx : ∀ j, madd μ x v x j = if j = -2 then μ x (-2) + 1 else if j = -3 then lgrow (μ x (-3)) else if j = -4 then μ 0 0 else if j = μ x (-2) then v else μ x j := fun j => by unfold madd; rw [if_pos rfl]
    have dN : ∀ j, madd μ x v (μ 0 0) j = if j = -1 then 41 else if j = -5 then x else 0 := fun j => by unfold madd; rw [if_neg hNx, if_pos rfl]
    have d0 : ∀ j, madd μ x v 0 j = if j = 0 then μ 0 0 + 1 else if j = 1 then μ 0 1 - 1 else if j = 2 then μ 0 2 - lgrow (μ x (-3)) else μ 0 j := fun j => by unfold madd; rw [if_neg (by omega), if_neg (by omega), if_pos rfl]
    have dd : ∀ y j, y ≠ x → y ≠ μ 0 0 → y ≠ 0 → madd μ x v y j = μ y j := fun y j q1 q2 q3 => by unfold madd; rw [if_neg q1, if_neg q2, if_neg q3]
    have hft : ∀ z, zt zc_vt (lopn μ x m z (-1)) = true → z ≠ μ 0 0 → z ≠ 0 → zt zc_vt (μF z (-1)) = true := fun z hz q0 q9 => by
      by_cases q : z = x
      · rw [q, g2]; decide
      · rw [g14 z _ q q0 q9]; exact hz
    refine ⟨lopn μ x m, (0, 1, μF), h1, ⟨lopn_0 hf _, lopn_0 hf _, lopn_0 hf _⟩, fun z hz => lopn_t hf hz, u_J2_add _ x v _ g1, ⟨rfl, rfl⟩, ?_, fun z hz => ?_, fun H' hH' => ?_⟩
    · show μF 0 0 = madd μ x v 0 0 ∧ μF 0 1 = madd μ x v 0 1 ∧ μF 0 2 = madd μ x v 0 2
      rw [d0, d0, d0]
      exact ⟨g10, g11, g12⟩
    · show μF z (-1) = 0 ↔ madd μ x v z (-1) = 0
      by_cases q : z = x
      · have e : ¬ ((-1 : Int) = μ x (-2)) := by omega
        rw [q, g2, dx, if_neg (by decide), if_neg (by decide), if_neg (by decide), if_neg e, a11]; decide
      · by_cases q2 : z = μ 0 0
        · rw [q2, g5, dN, if_pos rfl]; decide
        · rw [g14 _ _ q q2 (by omega), dd _ _ q q2 (by omega), lopn_t hf hz]
    · have hH' : zc_H G μF H' := hH'
      show zc_H G (madd μ x v) H'
      refine zc_cls hH' (x := x) (e1 := μ 0 0) g2 g3 hNx (Or.inr ⟨g5, by omega, by rw [g4, g6]; omega, fun i z1 z2 => ?_, fun i z1 z2 => ?_, by rw [dx, g6]; rfl, by rw [dN]; rfl, by rw [dN]; rfl⟩) (by rw [dx, if_neg (by decide), if_neg (by decide), if_neg (by decide), if_neg (by omega), a11]) (by rw [dx, g4]; rfl) (by rw [dx]; rfl) (fun y q1 q2 => ?_)
      · have hne0 : ∀ z, (z = 0 ∨ zt zc_vt (μ z (-1)) = true) → z = 0 ∨ zt zc_vt (μF z (-1)) = true := fun z hz => by
          rcases lopn_v (m := m) hf hz with q | q
          · exact Or.inl q
          · by_cases q9 : z = 0
            · exact Or.inl q9
            · exact Or.inr (hft z q.1 q.2.2 q9)
        by_cases q : i = μ x (-2)
        · rw [q, g8]
          refine ⟨by rw [dx, if_neg (by omega), if_neg (by omega), if_neg (by omega), if_pos rfl], hne0 v hv⟩
        · rw [g7 i z1 (by omega)]
          exact ⟨by rw [dx, if_neg (by omega), if_neg (by omega), if_neg (by omega), if_neg q], hne0 _ (a6 i z1 (by omega))⟩
      · exact g9 i (by omega)
      · have q2 : y ≠ μ 0 0 := by
          rcases q2 with q | q
          · exact q
          · omega
        by_cases q0 : y = 0
        · exact Or.inr (Or.inr (Or.inl ⟨by rw [q0, d0, if_neg (by decide), if_neg (by decide), if_neg (by decide)]; exact a8, by omega⟩))
        · by_cases q4 : y = μ x (-4)
          · rcases a7 with ⟨b1, b2⟩ | ⟨b1, b2, b3, b4⟩
            · have qq : y = -51 := by omega
              have w1 : madd μ x v y (-1) = μ (-51) (-1) := by rw [dd _ _ q1 q2 q0, qq]
              have w2 : madd μ x v y (-2) = μ (-51) (-2) := by rw [dd _ _ q1 q2 q0, qq]
              rcases a10 with w | w
              · exact Or.inr (Or.inr (Or.inl ⟨w1.trans w, by omega⟩))
              · exact Or.inr (Or.inr (Or.inr ⟨qq, w1.trans w.1, w2.trans w.2⟩))
            · refine Or.inr (Or.inl ⟨by rw [dd _ _ q1 q2 q0, q4]; exact b2, ?_⟩)
              rw [g14 _ _ q1 q2 q0, q4, lopn_e _ hn.1 (by omega)]; rfl
          · exact Or.inl (fun j => by rw [dd _ _ q1 q2 q0, g14 _ _ q1 q2 q0, lopn_o _ q1 q4])
end LK
