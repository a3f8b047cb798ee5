set_option maxRecDepth 100000
/-! THE CONTRACTS of lists' constructors, of Strings -/
theorem w_linit {G : zc_G} (μ : MEM) (x : Int) (o : zc_O) (hd : b_linit μ x = some o) : zc_Met G yJ2_init cJ2_init 1 none 0 3 60 μ [zc_rv G x] o := by
  obtain ⟨⟨hx, hx2⟩, hd⟩ := ck_i hd
  cases hd
  refine zc_conv (fun H hH h0 => ?_)
  have hxp := zc_H_pos hH (t := 21) hx (by decide) (by decide)
  have dx : ∀ j, mlin μ x x j = if j = -1 then 40 else if j = -4 then -51 else 0 := fun j => by unfold mlin; rw [if_pos rfl]
  have dd : ∀ y j, y ≠ x → mlin μ x y j = μ y j := fun y j q => by unfold mlin; rw [if_neg q]
  have hF : ∀ y j, ¬ (y = x ∧ (j = 0 ∨ j = 1)) → mup (mup μ x 0 (zw 0)) x 1 (-51) y j = μ y j := fun y j q => by rw [mup_n _ _ (by omega), mup_n _ _ (by omega)]
  refine ⟨μ, (0, 0, mup (mup μ x 0 (zw 0)) x 1 (-51)), hH, ⟨rfl, rfl, rfl⟩, fun z hz => Iff.rfl, u_J2_init _ x _ ?_, ⟨rfl, rfl⟩, ⟨?_, ?_, ?_⟩, fun z hz => ?_, fun H' hH' => ?_⟩
  · unfold c_J2_init c_J1_init c_J0_init
    rw [ck_t (by rw [hx]; decide), ck_t (by rw [hx]; decide), ck_t (by rw [hx]; decide), bc_t, ck_t (by rw [hx]; decide)]
    show bc (some (0, 0, mup μ x 0 (zw 0))) _ = _
    rw [bc_t, ck_t (by rw [mup_n _ _ (by omega), hx]; decide)]
    rfl
  · show mup (mup μ x 0 (zw 0)) x 1 (-51) 0 0 = mlin μ x 0 0
    rw [hF _ _ (by omega), dd _ _ (by omega)]
  · show mup (mup μ x 0 (zw 0)) x 1 (-51) 0 1 = mlin μ x 0 1
    rw [hF _ _ (by omega), dd _ _ (by omega)]
  · show mup (mup μ x 0 (zw 0)) x 1 (-51) 0 2 = mlin μ x 0 2
    rw [hF _ _ (by omega), dd _ _ (by omega)]
  · show mup (mup μ x 0 (zw 0)) x 1 (-51) z (-1) = 0 ↔ mlin μ x z (-1) = 0
    rw [hF _ _ (by omega)]
    by_cases q : z = x
    · rw [q, dx, hx]; decide
    · rw [dd _ _ q]
  · have hH' : zc_H G (mup (mup μ x 0 (zw 0)) x 1 (-51)) H' := hH'
    show zc_H G (mlin μ x) H'
    refine zc_cls hH' (x := x) (e1 := -51) (by rw [hF _ _ (by omega), hx]) (mup_s _ _ _ _) (by omega) (Or.inl ⟨rfl, by rw [hF _ _ (by omega), hx2], by rw [dx]; rfl⟩) (by rw [dx]; rfl) (by rw [dx, hF _ _ (by omega), hx2]; rfl) (by rw [dx]; rfl) (fun y q1 q2 => Or.inl (fun j => by rw [hF _ _ (by omega), dd _ _ q1]))
theorem w_linitN {G : zc_G} (μ : MEM) (x n : Int) (hn : inR n) (o : zc_O) (hd : b_linitN μ x n = some o) : zc_Met G yJ2_init_2 cJ2_init_2 2 none 0 3 60 μ [zc_rv G x, iv n] o := by
  obtain ⟨⟨hx, hx2⟩, hd⟩ := ck_i hd
  obtain ⟨hb, hd⟩ := ck_i hd
  obtain ⟨hr, hd⟩ := ck_i hd
  cases hd
  refine zc_conv (fun H hH h0 => ?_)
  have hxp := zc_H_pos hH (t := 21) hx (by decide) (by decide)
  have hNx : μ 0 0 ≠ x := by omega
  have dx : ∀ j, mlinN μ x n x j = if j = -1 then 40 else if j = -3 then n else if j = -4 then μ 0 0 else 0 := fun j => by unfold mlinN; rw [if_pos rfl]
  have dN : ∀ j, mlinN μ x n (μ 0 0) j = if j = -1 then 41 else if j = -5 then x else 0 := fun j => by unfold mlinN; rw [if_neg hNx, if_pos rfl]
  have d0 : ∀ j, mlinN μ x n 0 j = if j = 0 then μ 0 0 + 1 else if j = 1 then μ 0 1 - 1 else if j = 2 then μ 0 2 - n else μ 0 j := fun j => by unfold mlinN; rw [if_neg (by omega), if_neg (by omega), if_pos rfl]
  have dd : ∀ y j, y ≠ x → y ≠ μ 0 0 → y ≠ 0 → mlinN μ x n y j = μ y j := fun y j q1 q2 q3 => by unfold mlinN; rw [if_neg q1, if_neg q2, if_neg q3]
  have m2 : ∀ y j, ¬ (y = x ∧ j = 0) → mup μ x 0 (zw 0) y j = μ y j := fun y j q => mup_n _ _ q
  obtain ⟨μF, hμF⟩ : ∃ μF, μF = mup (mnew (mup μ x 0 (zw 0)) 36 n n) x 1 (μ 0 0) := ⟨_, rfl⟩
  have fN : ∀ j, μF (μ 0 0) j = if j = -1 then 36 else if j = -2 then n else 0 := fun j => by rw [hμF, mup_n _ _ (by omega)]; unfold mnew; rw [m2 _ _ (by omega), if_pos rfl]
  have f0 : ∀ j, μF 0 j = if j = 0 then μ 0 0 + 1 else if j = 1 then μ 0 1 - 1 else if j = 2 then μ 0 2 - n else μ 0 j := fun j => by rw [hμF, mup_n _ _ (by omega)]; unfold mnew; rw [m2 0 0 (by omega), if_neg (by omega), if_pos rfl, m2 0 1 (by omega), m2 0 2 (by omega), m2 0 j (by omega)]
  have ff : ∀ y j, y ≠ μ 0 0 → y ≠ 0 → ¬ (y = x ∧ (j = 0 ∨ j = 1)) → μF y j = μ y j := fun y j q1 q2 q3 => by rw [hμF, mup_n _ _ (by omega)]; unfold mnew; rw [m2 0 0 (by omega), if_neg q1, if_neg q2, m2 _ _ (by omega)]
  refine ⟨μ, (0, 0, μF), hH, ⟨rfl, rfl, rfl⟩, fun z hz => Iff.rfl, u_J2_init_2 _ x n hn _ ?_, ⟨rfl, rfl⟩, ⟨?_, ?_, ?_⟩, fun z hz => ?_, fun H' hH' => ?_⟩
  · unfold c_J2_init_2 c_J1_init c_J0_init
    rw [ck_t (by rw [hx]; decide), ck_t (by rw [hx]; decide), ck_t (by rw [hx]; decide), bc_t, ck_t (by rw [hx]; decide)]
    show bc (some (0, 0, mup μ x 0 (zw 0))) _ = _
    rw [bc_t, if_neg (by omega), ck_t ⟨by omega, by omega⟩, ck_t (by rw [m2 _ _ (by omega), m2 _ _ (by omega)]; exact hr)]
    show ck (zt [21] (mnew (mup μ x 0 (zw 0)) 36 n n x (-1)) = true) (some (0, 0, mup (mnew (mup μ x 0 (zw 0)) 36 n n) x 1 (mup μ x 0 (zw 0) 0 0))) = _
    rw [m2 0 0 (by omega), ← hμF, ck_t]
    unfold mnew
    rw [m2 0 0 (by omega), if_neg (by omega), if_neg (by omega), m2 _ _ (by omega), hx]; decide
  · show μF 0 0 = mlinN μ x n 0 0
    rw [f0, d0]
  · show μF 0 1 = mlinN μ x n 0 1
    rw [f0, d0]
  · show μF 0 2 = mlinN μ x n 0 2
    rw [f0, d0]
  · show μF z (-1) = 0 ↔ mlinN μ x n z (-1) = 0
    by_cases q : z = x
    · rw [q, dx, ff _ _ (by omega) (by omega) (by omega), hx, if_pos rfl]; decide
    · by_cases q2 : z = μ 0 0
      · rw [q2, fN, dN, if_pos rfl, if_pos rfl]; decide
      · rw [dd _ _ q q2 (by omega), ff _ _ q2 (by omega) (by omega)]
  · have hH' : zc_H G μF H' := hH'
    show zc_H G (mlinN μ x n) H'
    have x2 : μF x 2 = 0 := by rw [ff _ _ (by omega) (by omega) (by omega), hx2]
    refine zc_cls hH' (x := x) (e1 := μ 0 0) (by rw [ff _ _ (by omega) (by omega) (by omega), hx]) (by rw [hμF]; exact mup_s _ _ _ _) hNx (Or.inr ⟨by rw [fN]; rfl, by rw [x2]; decide, by rw [x2, fN, if_neg (by decide), if_pos rfl]; omega, fun i z1 z2 => by omega, fun i z1 z2 => by rw [fN, if_neg (by omega), if_neg (by omega)], by rw [dx, fN]; rfl, by rw [dN]; rfl, by rw [dN]; rfl⟩) (by rw [dx]; rfl) (by rw [dx, x2]; rfl) (by rw [dx]; rfl) (fun y q1 q2 => Or.inl (fun j => ?_))
    have q2 : y ≠ μ 0 0 := by
      rcases q2 with q | q
      · exact q
      · omega
    by_cases q0 : y = 0
    · rw [q0, d0, f0]
    · rw [dd _ _ q1 q2 q0, ff _ _ q2 q0 (by omega)]
/-- a String constant's bytes are shown -/
def mstr (μ : MEM) (w : Int) : MEM := fun y j => if y = w - 100 then (if j = -1 then 30 else if j = -2 then zs_len w else zs_chr w j) else μ y j
theorem zs_small : ∀ n : Fin 44, (zs_b n.val).length ≤ 100 ∧ ∀ c ∈ zs_b n.val, 0 ≤ c ∧ c ≤ 127 := by decide +kernel
theorem zs_len_r {w : Int} (h : (-43 : Int) ≤ w ∧ w < 0) : 0 ≤ zs_len w ∧ zs_len w ≤ 100 := by
  have := (zs_small ⟨(-w).toNat, by omega⟩).1
  unfold zs_len
  have h2 : (zs_b (-w).toNat).length ≤ 100 := this
  omega
theorem zs_chr_r {w : Int} (h : (-43 : Int) ≤ w ∧ w < 0) (i : Int) : 0 ≤ zs_chr w i ∧ zs_chr w i ≤ 127 := by
  have := (zs_small ⟨(-w).toNat, by omega⟩).2
  have h2 : ∀ c ∈ zs_b (-w).toNat, 0 ≤ c ∧ c ≤ 127 := this
  unfold zs_chr
  rw [List.getD_eq_getElem?_getD]
  cases e : (zs_b (-w).toNat)[i.toNat]? with
  | none => exact ⟨by decide, by decide⟩
  | some c => exact h2 c (List.mem_of_getElem? e)
theorem mstr_H {G : zc_G} {μ : MEM} {w : Int} {H H' : Heap} (hw : (-43 : Int) ≤ w ∧ w < 0) (h : zc_H G μ H) : zc_H G (mstr μ w) H ∧ (zc_H G (mstr μ w) H' → zc_H G μ H') := by
  have dw : ∀ j, mstr μ w (w - 100) j = if j = -1 then 30 else if j = -2 then zs_len w else zs_chr w j := fun j => by unfold mstr; rw [if_pos rfl]
  have dd : ∀ y j, y ≠ w - 100 → mstr μ w y j = μ y j := fun y j q => by unfold mstr; rw [if_neg q]
  have hv : ∀ z, zt zc_vt (μ z (-1)) = true → zt zc_vt (mstr μ w z (-1)) = true := fun z hz => by
    have := zt_neg h hz
    rw [dd _ _ (by omega)]; exact hz
  have hg := h.1
  refine ⟨⟨hg, fun y hy => ?_, fun y => ?_, h.2.2.2⟩, fun h' => ⟨hg, fun y hy => ?_, fun y => ?_, h'.2.2.2⟩⟩
  · by_cases q : y = w - 100
    · exact Or.inr ⟨by omega, Or.inl (by rw [q, dw]; rfl)⟩
    · rw [dd _ _ q] at hy ⊢; exact h.2.1 y hy
  · by_cases q : y = w - 100
    · intro t ht
      rw [q, dw, if_pos rfl] at ht
      have e5 : 30 = t := by omega
      subst e5
      refine ⟨fun q => absurd q (by decide), fun q => absurd q (by decide), fun q => absurd q (by decide), fun _ => ?_, fun q => absurd q (by decide)⟩
      have e6 : (-y).toNat = (-w).toNat + 100 := by omega
      have e7 : zc_cb (-y).toNat = zs_b (-w).toNat := by rw [e6]; unfold zc_cb; rw [if_neg (by omega), Nat.add_sub_cancel]
      refine ⟨by omega, ?_, ?_, fun i hi => ?_⟩
      · rw [e6]
        refine List.mem_cons_of_mem _ (List.mem_map.mpr ⟨(-w).toNat - 1, List.mem_range.mpr (by omega), by omega⟩)
      · rw [e7, q, dw]; rfl
      · rw [e7, q, dw, if_neg (by omega), if_neg (by omega)]
        unfold zs_chr
        rw [Int.toNat_natCast]
    · refine zc_row_kept (h.2.2.1 y) (fun j => dd y j q) rfl hv (fun _ e _ _ => ⟨rfl, ?_⟩)
      exact ⟨dd _ _ (by omega), dd _ _ (by omega)⟩
  · by_cases q : y = w - 100
    · rcases h.2.1 y hy with k | k
      · omega
      · exact Or.inr k
    · have := h'.2.1 y
      rw [dd _ _ q] at this
      exact this hy
  · by_cases q : y = w - 100
    · refine zc_row_kept (h.2.2.1 y) (fun j => rfl) ?_ (fun z hz => hz) (fun h40 e _ _ => ?_)
      · have e8 : zc_ad G y < (zc_h0 G).size := by
          unfold zc_ad
          rw [if_neg (by omega)]
          exact hg _
        rw [h'.2.2.2.2 _ e8, h.2.2.2.2 _ e8]
      · have := zc_H_pos h (t := 40) h40 (by decide) (by decide)
        omega
    · refine zc_row_kept (μ := mstr μ w) (h'.2.2.1 y) (fun j => (dd y j q).symm) rfl (fun z hz => ?_) (fun _ e _ _ => ⟨rfl, ?_⟩)
      · have := zt_neg h' hz
        rw [dd _ _ (by omega)] at hz; exact hz
      · exact ⟨(dd _ _ (by omega)).symm, (dd _ _ (by omega)).symm⟩
theorem i_shr0 {x : Int} (h : inR x) : i_shr x 0 = x := by
  have e : (Int32.ofInt x >>> (Int32.ofInt 0 &&& 31)) = Int32.ofInt x := by
    rw [show (Int32.ofInt 0 &&& 31 : Int32) = 0 by decide]
    apply Int32.toBitVec_inj.mp
    rw [Int32.toBitVec_shiftRight]
    rw [show (Int32.toBitVec 0).smod 32 = 0#32 by decide, BitVec.sshiftRight_eq']
    simp
  unfold i_shr
  rw [e, oi_t h]
theorem w_slen {G : zc_G} (μ : MEM) (w : Int) (o : zc_O) (hd : b_slen μ w = some o) : zc_Met G yJ6_length cJ6_length 1 (some .int) 1 1 20 μ [zc_rv G w] o := by
  obtain ⟨hw, hd⟩ := ck_i hd
  cases hd
  refine zc_conv (fun H hH h0 => ?_)
  have dw : ∀ j, mstr μ w (w - 100) j = if j = -1 then 30 else if j = -2 then zs_len w else zs_chr w j := fun j => by unfold mstr; rw [if_pos rfl]
  have dd : ∀ y j, y ≠ w - 100 → mstr μ w y j = μ y j := fun y j q => by unfold mstr; rw [if_neg q]
  have hl := zs_len_r hw
  refine ⟨mstr μ w, (0, zs_len w, mstr μ w), (mstr_H (H' := H) hw hH).1, ⟨dd _ _ (by omega), dd _ _ (by omega), dd _ _ (by omega)⟩, fun z hz => by rw [dd _ _ (by omega)], u_J6_length _ w _ ?_, ⟨rfl, rfl⟩, ⟨dd _ _ (by omega), dd _ _ (by omega), dd _ _ (by omega)⟩, fun z hz => by show mstr μ w z (-1) = 0 ↔ _; rw [dd _ _ (by omega)], fun H' hH' => (mstr_H hw hH).2 hH'⟩
  unfold c_J6_length c_J6_coder
  rw [ck_t hw, ck_t (by rw [dw, if_pos rfl]; decide), ck_t hw, if_neg (by decide), ck_t hw, bc_t, dw, if_neg (by decide), if_pos rfl, i_shr0 ⟨by omega, by omega⟩]
theorem w_chr_b : ∀ x : Fin 128, i_c (i_and (x.val : Int) 255) = x.val := by decide +kernel
theorem w_schr {G : zc_G} (μ : MEM) (w i : Int) (hi : inR i) (o : zc_O) (hd : b_schr μ w i = some o) : zc_Met G yJ6_charAt cJ6_charAt 2 (some .char) 5 3 64 μ [zc_rv G w, iv i] o := by
  obtain ⟨hw, hd⟩ := ck_i hd
  obtain ⟨hb, hd⟩ := ck_i hd
  cases hd
  refine zc_conv (fun H hH h0 => ?_)
  have dw : ∀ j, mstr μ w (w - 100) j = if j = -1 then 30 else if j = -2 then zs_len w else zs_chr w j := fun j => by unfold mstr; rw [if_pos rfl]
  have dd : ∀ y j, y ≠ w - 100 → mstr μ w y j = μ y j := fun y j q => by unfold mstr; rw [if_neg q]
  have hl := zs_len_r hw
  have hc := zs_chr_r hw i
  have e1 : mstr μ w (w - 100) (-1) = 30 := by rw [dw]; rfl
  have e2 : mstr μ w (w - 100) (-2) = zs_len w := by rw [dw]; rfl
  have e3 : mstr μ w (w - 100) i = zs_chr w i := by rw [dw, if_neg (by omega), if_neg (by omega)]
  have e4 : i_c (i_and (zs_chr w i) 255) = zs_chr w i := by
    have := w_chr_b ⟨(zs_chr w i).toNat, by omega⟩
    rw [show (((⟨(zs_chr w i).toNat, by omega⟩ : Fin 128).val : Nat) : Int) = zs_chr w i by show (((zs_chr w i).toNat : Nat) : Int) = _; omega] at this
    exact this
  refine ⟨mstr μ w, (0, zs_chr w i, mstr μ w), (mstr_H (H' := H) hw hH).1, ⟨dd _ _ (by omega), dd _ _ (by omega), dd _ _ (by omega)⟩, fun z hz => by rw [dd _ _ (by omega)], u_J6_charAt _ w i hi _ ?_, ⟨rfl, rfl⟩, ⟨dd _ _ (by omega), dd _ _ (by omega), dd _ _ (by omega)⟩, fun z hz => by show mstr μ w z (-1) = 0 ↔ _; rw [dd _ _ (by omega)], fun H' hH' => (mstr_H hw hH).2 hH'⟩
  unfold c_J6_charAt c_J6_isLatin1 c_J7_charAt c_J6_checkIndex c_J8_checkIndex
  rw [ck_t hw, if_neg (by decide), ck_t hw, if_pos rfl, bc_t, if_neg (by decide), ck_t hw, e1, e2, ck_t (by decide), if_neg (by omega), if_pos hb.2, bc_t, bc_t, e1, ck_t (by decide), e2, ck_t hb, e3, e4, ck_t ⟨by omega, by omega⟩, bc_t]
