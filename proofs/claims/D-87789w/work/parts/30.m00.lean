set_option maxRecDepth 100000
/-! methods of the Model: decode rows, denotations m_.., walks w_.. (written by wip/gen/gen.py) -/
theorem dX1_in_0 : decode cX1_in 0 = .ok (.lload_n 0, 1) := by decide +kernel
theorem dX1_in_1 : decode cX1_in 1 = .ok (.lload_n 2, 1) := by decide +kernel
theorem dX1_in_2 : decode cX1_in 2 = .ok (.lcmp, 1) := by decide +kernel
theorem dX1_in_3 : decode cX1_in 3 = .ok (.ifCond .lt 14, 3) := by decide +kernel
theorem dX1_in_6 : decode cX1_in 6 = .ok (.lload_n 0, 1) := by decide +kernel
theorem dX1_in_7 : decode cX1_in 7 = .ok (.lload 4, 2) := by decide +kernel
theorem dX1_in_9 : decode cX1_in 9 = .ok (.lcmp, 1) := by decide +kernel
theorem dX1_in_10 : decode cX1_in 10 = .ok (.ifCond .gt 7, 3) := by decide +kernel
theorem dX1_in_13 : decode cX1_in 13 = .ok (.iconst 1, 1) := by decide +kernel
theorem dX1_in_14 : decode cX1_in 14 = .ok (.goto 4, 3) := by decide +kernel
theorem dX1_in_17 : decode cX1_in 17 = .ok (.iconst 0, 1) := by decide +kernel
theorem dX1_in_18 : decode cX1_in 18 = .ok (.ireturn, 1) := by decide +kernel
def m_in (σ : MEM) (a0 a1 a2 : Int) : Option zm_O := if (j_cmp a0 a1) < 0 then (some (0, σ)) else (if 0 < (j_cmp a0 a2) then (some (0, σ)) else (some (1, σ)))
theorem w_in {G : zm_G} (hD : zm_D G) (σ : MEM) (a0 a1 a2 : Int) (ha0 : inL a0) (ha1 : inL a1) (ha2 : inL a2) (o : zm_O) (hd : m_in σ a0 a1 a2 = some o) : zm_Met G yX1_in cX1_in 6 (Option.some FieldType.boolean) 3 0 0 σ [jv a0, jv a1, jv a2] o := by
  refine zm_intro hD hd (by decide) rfl (Nat.le_of_ble_eq_true rfl) rfl (fun C h hc => ?_)
  have hN : ∀ i, i < 6 → i < zv_n C := fun i q => by rw [hc.2.2.1]; exact q
  unfold m_in
  refine r_lload_n h 0 dX1_in_0 rfl rfl ?_
  refine r_lload_n h 1 dX1_in_1 rfl rfl ?_
  refine r_lcmp h ha0 ha1 dX1_in_2 ?_
  refine r_if_lt h (j_cmp_r _ _) 17 dX1_in_3 rfl ?_ ?_
  · refine r_iconst h dX1_in_17 ?_
    exact zm_zret h hc rfl (by decide) dX1_in_18
  · refine r_lload_n h 0 dX1_in_6 rfl rfl ?_
    refine r_lload h 2 dX1_in_7 rfl ?_
    refine r_lcmp h ha0 ha2 dX1_in_9 ?_
    refine r_if_gt h (j_cmp_r _ _) 17 dX1_in_10 rfl ?_ ?_
    · refine r_iconst h dX1_in_17 ?_
      exact zm_zret h hc rfl (by decide) dX1_in_18
    · refine r_iconst h dX1_in_13 ?_
      refine r_goto h 18 dX1_in_14 rfl ?_
      exact zm_zret h hc rfl (by decide) dX1_in_18
theorem dX1_begin_0 : decode cX1_begin 0 = .ok (.iconst 0, 1) := by decide +kernel
theorem dX1_begin_1 : decode cX1_begin 1 = .ok (.istore_n 2, 1) := by decide +kernel
theorem dX1_begin_2 : decode cX1_begin 2 = .ok (.iload_n 2, 1) := by decide +kernel
theorem dX1_begin_3 : decode cX1_begin 3 = .ok (.iload_n 1, 1) := by decide +kernel
theorem dX1_begin_4 : decode cX1_begin 4 = .ok (.if_icmp .ge 21, 3) := by decide +kernel
theorem dX1_begin_7 : decode cX1_begin 7 = .ok (.aload_n 0, 1) := by decide +kernel
theorem dX1_begin_8 : decode cX1_begin 8 = .ok (.getfield 13, 3) := by decide +kernel
theorem dX1_begin_11 : decode cX1_begin 11 = .ok (.iload_n 2, 1) := by decide +kernel
theorem dX1_begin_12 : decode cX1_begin 12 = .ok (.aload_n 0, 1) := by decide +kernel
theorem dX1_begin_13 : decode cX1_begin 13 = .ok (.getfield 7, 3) := by decide +kernel
theorem dX1_begin_16 : decode cX1_begin 16 = .ok (.iload_n 2, 1) := by decide +kernel
theorem dX1_begin_17 : decode cX1_begin 17 = .ok (.baload, 1) := by decide +kernel
theorem dX1_begin_18 : decode cX1_begin 18 = .ok (.bastore, 1) := by decide +kernel
theorem dX1_begin_19 : decode cX1_begin 19 = .ok (.iinc 2 1, 3) := by decide +kernel
theorem dX1_begin_22 : decode cX1_begin 22 = .ok (.goto (-20), 3) := by decide +kernel
theorem dX1_begin_25 : decode cX1_begin 25 = .ok (.aload_n 0, 1) := by decide +kernel
theorem dX1_begin_26 : decode cX1_begin 26 = .ok (.iload_n 1, 1) := by decide +kernel
theorem dX1_begin_27 : decode cX1_begin 27 = .ok (.putfield 249, 3) := by decide +kernel
theorem dX1_begin_30 : decode cX1_begin 30 = .ok (.aload_n 0, 1) := by decide +kernel
theorem dX1_begin_31 : decode cX1_begin 31 = .ok (.iconst 0, 1) := by decide +kernel
theorem dX1_begin_32 : decode cX1_begin 32 = .ok (.putfield 476, 3) := by decide +kernel
theorem dX1_begin_35 : decode cX1_begin 35 = .ok (.aload_n 0, 1) := by decide +kernel
theorem dX1_begin_36 : decode cX1_begin 36 = .ok (.iconst 0, 1) := by decide +kernel
theorem dX1_begin_37 : decode cX1_begin 37 = .ok (.putfield 276, 3) := by decide +kernel
theorem dX1_begin_40 : decode cX1_begin 40 = .ok (.aload_n 0, 1) := by decide +kernel
theorem dX1_begin_41 : decode cX1_begin 41 = .ok (.iconst 0, 1) := by decide +kernel
theorem dX1_begin_42 : decode cX1_begin 42 = .ok (.putfield 246, 3) := by decide +kernel
theorem dX1_begin_45 : decode cX1_begin 45 = .ok (.aload_n 0, 1) := by decide +kernel
theorem dX1_begin_46 : decode cX1_begin 46 = .ok (.iconst (-1), 1) := by decide +kernel
theorem dX1_begin_47 : decode cX1_begin 47 = .ok (.putfield 16, 3) := by decide +kernel
theorem dX1_begin_50 : decode cX1_begin 50 = .ok (.return_, 1) := by decide +kernel
def m_begin_2 : Nat → MEM → Int → Int → Option zm_O
  | 0, _, _, _ => none
  | n + 1, σ, x1, x2 => if x1 ≤ x2 then (nu (mup σ (-1) 3 x1) (fun σ1 => nu (mup σ1 (-1) 1 0) (fun σ2 => nu (mup σ2 (-1) 4 0) (fun σ3 => nu (mup σ3 (-1) 5 0) (fun σ4 => nu (mup σ4 (-1) 6 (-1)) (fun σ5 => some (0, σ5))))))) else (ck (0 ≤ x2 ∧ x2 < 6000) (ck (0 ≤ x2 ∧ x2 < 6000) (nu (mup σ 2 x2 (σ 0 x2)) (fun σ7 => ck (inR (x2 + 1)) (m_begin_2 n σ7 x1 (x2 + 1))))))
theorem w_begin_2 {C : zv_Cx zm_O} {G : zm_G} (h : zv_Ok C cX1_begin RX1) (hc : zm_C C G 3 (Option.none : Option FieldType) 0 0 0) : ∀ (n : Nat) (σ : MEM) (x1 x2 : Int), inR x1 → inR x2 → VV C (m_begin_2 n σ x1 x2) σ [(0, .ref (zm_h G)), (1, iv x1), (2, iv x2)] [] 2 := by
  have hN : ∀ i, i < 3 → i < zv_n C := fun i q => by rw [hc.2.2.1]; exact q
  intro n
  induction n with
  | zero => intros; exact r_none
  | succ n ih =>
    intro σ x1 x2 hx1 hx2
    rw [m_begin_2]
    refine r_iload_n h 2 dX1_begin_2 rfl rfl ?_
    refine r_iload_n h 1 dX1_begin_3 rfl rfl ?_
    refine r_icmp_ge h hx2 hx1 25 dX1_begin_4 rfl ?_ ?_
    · refine r_aload_n h 0 dX1_begin_25 rfl rfl ?_
      refine r_iload_n h 1 dX1_begin_26 rfl rfl ?_
      refine zm_putI h hc 3 3 (by decide) rfl rfl q1483 ⟨rfl, rfl, by decide +kernel⟩ hx1 dX1_begin_27 (fun σ1 _ => ?_)
      refine r_aload_n h 0 dX1_begin_30 rfl rfl ?_
      refine r_iconst h dX1_begin_31 ?_
      refine zm_putI h hc 1 1 (by decide) rfl rfl q1481 ⟨rfl, rfl, by decide +kernel⟩ (by decide) dX1_begin_32 (fun σ2 _ => ?_)
      refine r_aload_n h 0 dX1_begin_35 rfl rfl ?_
      refine r_iconst h dX1_begin_36 ?_
      refine zm_putI h hc 4 4 (by decide) rfl rfl q1484 ⟨rfl, rfl, by decide +kernel⟩ (by decide) dX1_begin_37 (fun σ3 _ => ?_)
      refine r_aload_n h 0 dX1_begin_40 rfl rfl ?_
      refine r_iconst h dX1_begin_41 ?_
      refine zm_putI h hc 5 5 (by decide) rfl rfl q1485 ⟨rfl, rfl, by decide +kernel⟩ (by decide) dX1_begin_42 (fun σ4 _ => ?_)
      refine r_aload_n h 0 dX1_begin_45 rfl rfl ?_
      refine r_iconst h dX1_begin_46 ?_
      refine zm_putI h hc 6 6 (by decide) rfl rfl q1486 ⟨rfl, rfl, by decide +kernel⟩ (by decide) dX1_begin_47 (fun σ5 _ => ?_)
      exact zm_vret h hc rfl dX1_begin_50
    · refine r_aload_n h 0 dX1_begin_7 rfl rfl ?_
      refine zm_getA h hc 2 (by decide) rfl q1482 rfl dX1_begin_8 ?_
      refine r_iload_n h 2 dX1_begin_11 rfl rfl ?_
      refine r_aload_n h 0 dX1_begin_12 rfl rfl ?_
      refine zm_getA h hc 0 (by decide) rfl q1480 rfl dX1_begin_13 ?_
      refine r_iload_n h 2 dX1_begin_16 rfl rfl ?_
      refine zm_ldB h hc 0 0 6000 (by decide) rfl rfl rfl (by decide) dX1_begin_17 (fun _ hr6 => ?_)
      refine zm_stB h hc 2 2 6000 (by decide) rfl rfl rfl (by decide) hr6 dX1_begin_18 (fun _ σ7 _ => ?_)
      refine r_iinc (lv' := [(2, iv (x2 + 1)), (0, .ref (zm_h G)), (1, iv x1)]) h 2 dX1_begin_19 rfl (hN _ (by decide)) rfl ?_
      refine r_goto h 2 dX1_begin_22 rfl ?_
      refine r_ck (fun hk8 => ?_)
      exact r_lv [1, 2, 0] rfl (ih _ x1 (x2 + 1) hx1 hk8)
def m_begin (σ : MEM) (a0 : Int) : Option zm_O := m_begin_2 zF σ a0 0
theorem w_begin {G : zm_G} (hD : zm_D G) (σ : MEM) (a0 : Int) (ha0 : inR a0) (o : zm_O) (hd : m_begin σ a0 = some o) : zm_Met G yX1_begin cX1_begin 3 (Option.none : Option FieldType) 0 0 0 σ [.ref (zm_h G), iv a0] o := by
  refine zm_intro hD hd (by decide) rfl (Nat.le_of_ble_eq_true rfl) rfl (fun C h hc => ?_)
  have hN : ∀ i, i < 3 → i < zv_n C := fun i q => by rw [hc.2.2.1]; exact q
  unfold m_begin
  refine r_iconst h dX1_begin_0 ?_
  refine r_istore_n (lv' := [(2, iv 0), (0, .ref (zm_h G)), (1, iv a0)]) h dX1_begin_1 rfl (hN _ (by decide)) rfl ?_
  exact r_lv [1, 2, 0] rfl (w_begin_2 h hc zF _ a0 0 ha0 (by decide))
theorem dX1_isGood_0 : decode cX1_isGood 0 = .ok (.aload_n 0, 1) := by decide +kernel
theorem dX1_isGood_1 : decode cX1_isGood 1 = .ok (.getfield 246, 3) := by decide +kernel
theorem dX1_isGood_4 : decode cX1_isGood 4 = .ok (.ifCond .ne 7, 3) := by decide +kernel
theorem dX1_isGood_7 : decode cX1_isGood 7 = .ok (.iconst 1, 1) := by decide +kernel
theorem dX1_isGood_8 : decode cX1_isGood 8 = .ok (.goto 4, 3) := by decide +kernel
theorem dX1_isGood_11 : decode cX1_isGood 11 = .ok (.iconst 0, 1) := by decide +kernel
theorem dX1_isGood_12 : decode cX1_isGood 12 = .ok (.ireturn, 1) := by decide +kernel
def m_isGood (σ : MEM) : Option zm_O := if (σ (-1) 5) = 0 then (some (1, σ)) else (some (0, σ))
theorem w_isGood {G : zm_G} (hD : zm_D G) (σ : MEM) (o : zm_O) (hd : m_isGood σ  = some o) : zm_Met G yX1_isGood cX1_isGood 1 (Option.some FieldType.boolean) 3 0 0 σ [.ref (zm_h G)] o := by
  refine zm_intro hD hd (by decide) rfl (Nat.le_of_ble_eq_true rfl) rfl (fun C h hc => ?_)
  have hN : ∀ i, i < 1 → i < zv_n C := fun i q => by rw [hc.2.2.1]; exact q
  unfold m_isGood
  refine r_aload_n h 0 dX1_isGood_0 rfl rfl ?_
  refine zm_getI h hc 5 5 (by decide) rfl rfl q1485 rfl dX1_isGood_1 (fun hr1 => ?_)
  refine r_if_ne h hr1 11 dX1_isGood_4 rfl ?_ ?_
  · refine r_iconst h dX1_isGood_7 ?_
    refine r_goto h 12 dX1_isGood_8 rfl ?_
    exact zm_zret h hc rfl (by decide) dX1_isGood_12
  · refine r_iconst h dX1_isGood_11 ?_
    exact zm_zret h hc rfl (by decide) dX1_isGood_12
theorem dX1_fail_0 : decode cX1_fail 0 = .ok (.aload_n 0, 1) := by decide +kernel
theorem dX1_fail_1 : decode cX1_fail 1 = .ok (.getfield 246, 3) := by decide +kernel
theorem dX1_fail_4 : decode cX1_fail 4 = .ok (.ifCond .ne 13, 3) := by decide +kernel
theorem dX1_fail_7 : decode cX1_fail 7 = .ok (.aload_n 0, 1) := by decide +kernel
theorem dX1_fail_8 : decode cX1_fail 8 = .ok (.iload_n 1, 1) := by decide +kernel
theorem dX1_fail_9 : decode cX1_fail 9 = .ok (.putfield 246, 3) := by decide +kernel
theorem dX1_fail_12 : decode cX1_fail 12 = .ok (.aload_n 0, 1) := by decide +kernel
theorem dX1_fail_13 : decode cX1_fail 13 = .ok (.iload_n 2, 1) := by decide +kernel
theorem dX1_fail_14 : decode cX1_fail 14 = .ok (.putfield 16, 3) := by decide +kernel
theorem dX1_fail_17 : decode cX1_fail 17 = .ok (.return_, 1) := by decide +kernel
def m_fail (σ : MEM) (a0 a1 : Int) : Option zm_O := if (σ (-1) 5) = 0 then (nu (mup σ (-1) 5 a0) (fun σ2 => nu (mup σ2 (-1) 6 a1) (fun σ3 => some (0, σ3)))) else (some (0, σ))
theorem w_fail {G : zm_G} (hD : zm_D G) (σ : MEM) (a0 a1 : Int) (ha0 : inR a0) (ha1 : inR a1) (o : zm_O) (hd : m_fail σ a0 a1 = some o) : zm_Met G yX1_fail cX1_fail 3 (Option.none : Option FieldType) 0 0 0 σ [.ref (zm_h G), iv a0, iv a1] o := by
  refine zm_intro hD hd (by decide) rfl (Nat.le_of_ble_eq_true rfl) rfl (fun C h hc => ?_)
  have hN : ∀ i, i < 3 → i < zv_n C := fun i q => by rw [hc.2.2.1]; exact q
  unfold m_fail
  refine r_aload_n h 0 dX1_fail_0 rfl rfl ?_
  refine zm_getI h hc 5 5 (by decide) rfl rfl q1485 rfl dX1_fail_1 (fun hr1 => ?_)
  refine r_if_ne h hr1 17 dX1_fail_4 rfl ?_ ?_
  · refine r_aload_n h 0 dX1_fail_7 rfl rfl ?_
    refine r_iload_n h 1 dX1_fail_8 rfl rfl ?_
    refine zm_putI h hc 5 5 (by decide) rfl rfl q1485 ⟨rfl, rfl, by decide +kernel⟩ ha0 dX1_fail_9 (fun σ2 _ => ?_)
    refine r_aload_n h 0 dX1_fail_12 rfl rfl ?_
    refine r_iload_n h 2 dX1_fail_13 rfl rfl ?_
    refine zm_putI h hc 6 6 (by decide) rfl rfl q1486 ⟨rfl, rfl, by decide +kernel⟩ ha1 dX1_fail_14 (fun σ3 _ => ?_)
    exact zm_vret h hc rfl dX1_fail_17
  · exact zm_vret h hc rfl dX1_fail_17
theorem dX1_newNode_0 : decode cX1_newNode 0 = .ok (.aload_n 0, 1) := by decide +kernel
theorem dX1_newNode_1 : decode cX1_newNode 1 = .ok (.invokevirtual 289, 3) := by decide +kernel
theorem dX1_newNode_4 : decode cX1_newNode 4 = .ok (.ifCond .eq 25, 3) := by decide +kernel
theorem dX1_newNode_7 : decode cX1_newNode 7 = .ok (.aload_n 0, 1) := by decide +kernel
theorem dX1_newNode_8 : decode cX1_newNode 8 = .ok (.getfield 27, 3) := by decide +kernel
theorem dX1_newNode_11 : decode cX1_newNode 11 = .ok (.aload_n 0, 1) := by decide +kernel
theorem dX1_newNode_12 : decode cX1_newNode 12 = .ok (.getfield 328, 3) := by decide +kernel
theorem dX1_newNode_15 : decode cX1_newNode 15 = .ok (.iaload, 1) := by decide +kernel
theorem dX1_newNode_16 : decode cX1_newNode 16 = .ok (.sipush 600, 3) := by decide +kernel
theorem dX1_newNode_19 : decode cX1_newNode 19 = .ok (.if_icmp .ne 10, 3) := by decide +kernel
theorem dX1_newNode_22 : decode cX1_newNode 22 = .ok (.aload_n 0, 1) := by decide +kernel
theorem dX1_newNode_23 : decode cX1_newNode 23 = .ok (.bipush (-3), 2) := by decide +kernel
theorem dX1_newNode_25 : decode cX1_newNode 25 = .ok (.iload_n 2, 1) := by decide +kernel
theorem dX1_newNode_26 : decode cX1_newNode 26 = .ok (.invokevirtual 293, 3) := by decide +kernel
theorem dX1_newNode_29 : decode cX1_newNode 29 = .ok (.aload_n 0, 1) := by decide +kernel
theorem dX1_newNode_30 : decode cX1_newNode 30 = .ok (.invokevirtual 289, 3) := by decide +kernel
theorem dX1_newNode_33 : decode cX1_newNode 33 = .ok (.ifCond .ne 5, 3) := by decide +kernel
theorem dX1_newNode_36 : decode cX1_newNode 36 = .ok (.iconst (-1), 1) := by decide +kernel
theorem dX1_newNode_37 : decode cX1_newNode 37 = .ok (.ireturn, 1) := by decide +kernel
theorem dX1_newNode_38 : decode cX1_newNode 38 = .ok (.sipush 600, 3) := by decide +kernel
theorem dX1_newNode_41 : decode cX1_newNode 41 = .ok (.aload_n 0, 1) := by decide +kernel
theorem dX1_newNode_42 : decode cX1_newNode 42 = .ok (.getfield 328, 3) := by decide +kernel
theorem dX1_newNode_45 : decode cX1_newNode 45 = .ok (.imul, 1) := by decide +kernel
theorem dX1_newNode_46 : decode cX1_newNode 46 = .ok (.aload_n 0, 1) := by decide +kernel
theorem dX1_newNode_47 : decode cX1_newNode 47 = .ok (.getfield 27, 3) := by decide +kernel
theorem dX1_newNode_50 : decode cX1_newNode 50 = .ok (.aload_n 0, 1) := by decide +kernel
theorem dX1_newNode_51 : decode cX1_newNode 51 = .ok (.getfield 328, 3) := by decide +kernel
theorem dX1_newNode_54 : decode cX1_newNode 54 = .ok (.iaload, 1) := by decide +kernel
theorem dX1_newNode_55 : decode cX1_newNode 55 = .ok (.iadd, 1) := by decide +kernel
theorem dX1_newNode_56 : decode cX1_newNode 56 = .ok (.istore_n 3, 1) := by decide +kernel
theorem dX1_newNode_57 : decode cX1_newNode 57 = .ok (.aload_n 0, 1) := by decide +kernel
theorem dX1_newNode_58 : decode cX1_newNode 58 = .ok (.getfield 31, 3) := by decide +kernel
theorem dX1_newNode_61 : decode cX1_newNode 61 = .ok (.iload_n 3, 1) := by decide +kernel
theorem dX1_newNode_62 : decode cX1_newNode 62 = .ok (.iload_n 1, 1) := by decide +kernel
theorem dX1_newNode_63 : decode cX1_newNode 63 = .ok (.iastore, 1) := by decide +kernel
theorem dX1_newNode_64 : decode cX1_newNode 64 = .ok (.aload_n 0, 1) := by decide +kernel
theorem dX1_newNode_65 : decode cX1_newNode 65 = .ok (.getfield 34, 3) := by decide +kernel
theorem dX1_newNode_68 : decode cX1_newNode 68 = .ok (.iload_n 3, 1) := by decide +kernel
theorem dX1_newNode_69 : decode cX1_newNode 69 = .ok (.aload_n 0, 1) := by decide +kernel
theorem dX1_newNode_70 : decode cX1_newNode 70 = .ok (.getfield 443, 3) := by decide +kernel
theorem dX1_newNode_73 : decode cX1_newNode 73 = .ok (.ifCond .ne 15, 3) := by decide +kernel
theorem dX1_newNode_76 : decode cX1_newNode 76 = .ok (.iload_n 1, 1) := by decide +kernel
theorem dX1_newNode_77 : decode cX1_newNode 77 = .ok (.ifCond .ne 7, 3) := by decide +kernel
theorem dX1_newNode_80 : decode cX1_newNode 80 = .ok (.iconst (-1), 1) := by decide +kernel
theorem dX1_newNode_81 : decode cX1_newNode 81 = .ok (.goto 18, 3) := by decide +kernel
theorem dX1_newNode_84 : decode cX1_newNode 84 = .ok (.iconst 0, 1) := by decide +kernel
theorem dX1_newNode_85 : decode cX1_newNode 85 = .ok (.goto 14, 3) := by decide +kernel
theorem dX1_newNode_88 : decode cX1_newNode 88 = .ok (.aload_n 0, 1) := by decide +kernel
theorem dX1_newNode_89 : decode cX1_newNode 89 = .ok (.getfield 161, 3) := by decide +kernel
theorem dX1_newNode_92 : decode cX1_newNode 92 = .ok (.aload_n 0, 1) := by decide +kernel
theorem dX1_newNode_93 : decode cX1_newNode 93 = .ok (.getfield 443, 3) := by decide +kernel
theorem dX1_newNode_96 : decode cX1_newNode 96 = .ok (.iconst 1, 1) := by decide +kernel
theorem dX1_newNode_97 : decode cX1_newNode 97 = .ok (.isub, 1) := by decide +kernel
theorem dX1_newNode_98 : decode cX1_newNode 98 = .ok (.iaload, 1) := by decide +kernel
theorem dX1_newNode_99 : decode cX1_newNode 99 = .ok (.iastore, 1) := by decide +kernel
theorem dX1_newNode_100 : decode cX1_newNode 100 = .ok (.aload_n 0, 1) := by decide +kernel
theorem dX1_newNode_101 : decode cX1_newNode 101 = .ok (.getfield 37, 3) := by decide +kernel
theorem dX1_newNode_104 : decode cX1_newNode 104 = .ok (.iload_n 3, 1) := by decide +kernel
theorem dX1_newNode_105 : decode cX1_newNode 105 = .ok (.iconst 0, 1) := by decide +kernel
theorem dX1_newNode_106 : decode cX1_newNode 106 = .ok (.iastore, 1) := by decide +kernel
theorem dX1_newNode_107 : decode cX1_newNode 107 = .ok (.aload_n 0, 1) := by decide +kernel
theorem dX1_newNode_108 : decode cX1_newNode 108 = .ok (.getfield 40, 3) := by decide +kernel
theorem dX1_newNode_111 : decode cX1_newNode 111 = .ok (.iload_n 3, 1) := by decide +kernel
theorem dX1_newNode_112 : decode cX1_newNode 112 = .ok (.iconst 0, 1) := by decide +kernel
theorem dX1_newNode_113 : decode cX1_newNode 113 = .ok (.iastore, 1) := by decide +kernel
theorem dX1_newNode_114 : decode cX1_newNode 114 = .ok (.aload_n 0, 1) := by decide +kernel
theorem dX1_newNode_115 : decode cX1_newNode 115 = .ok (.getfield 43, 3) := by decide +kernel
theorem dX1_newNode_118 : decode cX1_newNode 118 = .ok (.iload_n 3, 1) := by decide +kernel
theorem dX1_newNode_119 : decode cX1_newNode 119 = .ok (.iconst 0, 1) := by decide +kernel
theorem dX1_newNode_120 : decode cX1_newNode 120 = .ok (.iastore, 1) := by decide +kernel
theorem dX1_newNode_121 : decode cX1_newNode 121 = .ok (.aload_n 0, 1) := by decide +kernel
theorem dX1_newNode_122 : decode cX1_newNode 122 = .ok (.getfield 46, 3) := by decide +kernel
theorem dX1_newNode_125 : decode cX1_newNode 125 = .ok (.iload_n 3, 1) := by decide +kernel
theorem dX1_newNode_126 : decode cX1_newNode 126 = .ok (.iconst 0, 1) := by decide +kernel
theorem dX1_newNode_127 : decode cX1_newNode 127 = .ok (.iastore, 1) := by decide +kernel
theorem dX1_newNode_128 : decode cX1_newNode 128 = .ok (.aload_n 0, 1) := by decide +kernel
theorem dX1_newNode_129 : decode cX1_newNode 129 = .ok (.getfield 49, 3) := by decide +kernel
theorem dX1_newNode_132 : decode cX1_newNode 132 = .ok (.iload_n 3, 1) := by decide +kernel
theorem dX1_newNode_133 : decode cX1_newNode 133 = .ok (.iconst 0, 1) := by decide +kernel
theorem dX1_newNode_134 : decode cX1_newNode 134 = .ok (.bastore, 1) := by decide +kernel
theorem dX1_newNode_135 : decode cX1_newNode 135 = .ok (.aload_n 0, 1) := by decide +kernel
theorem dX1_newNode_136 : decode cX1_newNode 136 = .ok (.getfield 52, 3) := by decide +kernel
theorem dX1_newNode_139 : decode cX1_newNode 139 = .ok (.iload_n 3, 1) := by decide +kernel
theorem dX1_newNode_140 : decode cX1_newNode 140 = .ok (.iconst 1, 1) := by decide +kernel
theorem dX1_newNode_141 : decode cX1_newNode 141 = .ok (.bastore, 1) := by decide +kernel
theorem dX1_newNode_142 : decode cX1_newNode 142 = .ok (.aload_n 0, 1) := by decide +kernel
theorem dX1_newNode_143 : decode cX1_newNode 143 = .ok (.getfield 27, 3) := by decide +kernel
theorem dX1_newNode_146 : decode cX1_newNode 146 = .ok (.aload_n 0, 1) := by decide +kernel
theorem dX1_newNode_147 : decode cX1_newNode 147 = .ok (.getfield 328, 3) := by decide +kernel
theorem dX1_newNode_150 : decode cX1_newNode 150 = .ok (.dup2, 1) := by decide +kernel
theorem dX1_newNode_151 : decode cX1_newNode 151 = .ok (.iaload, 1) := by decide +kernel
theorem dX1_newNode_152 : decode cX1_newNode 152 = .ok (.iconst 1, 1) := by decide +kernel
theorem dX1_newNode_153 : decode cX1_newNode 153 = .ok (.iadd, 1) := by decide +kernel
theorem dX1_newNode_154 : decode cX1_newNode 154 = .ok (.iastore, 1) := by decide +kernel
theorem dX1_newNode_155 : decode cX1_newNode 155 = .ok (.aload_n 0, 1) := by decide +kernel
theorem dX1_newNode_156 : decode cX1_newNode 156 = .ok (.getfield 27, 3) := by decide +kernel
theorem dX1_newNode_159 : decode cX1_newNode 159 = .ok (.aload_n 0, 1) := by decide +kernel
theorem dX1_newNode_160 : decode cX1_newNode 160 = .ok (.getfield 328, 3) := by decide +kernel
theorem dX1_newNode_163 : decode cX1_newNode 163 = .ok (.iaload, 1) := by decide +kernel
theorem dX1_newNode_164 : decode cX1_newNode 164 = .ok (.iconst 1, 1) := by decide +kernel
theorem dX1_newNode_165 : decode cX1_newNode 165 = .ok (.isub, 1) := by decide +kernel
theorem dX1_newNode_166 : decode cX1_newNode 166 = .ok (.ireturn, 1) := by decide +kernel
def m_newNode_99 (σ : MEM) (x3 s1 s2 : Int) : Option zm_O := ck (0 ≤ s1 ∧ s1 < 1200) (nu (mup σ 14 s1 s2) (fun σ1 => ck (0 ≤ x3 ∧ x3 < 1200) (nu (mup σ1 15 x3 0) (fun σ2 => ck (0 ≤ x3 ∧ x3 < 1200) (nu (mup σ2 16 x3 0) (fun σ3 => ck (0 ≤ x3 ∧ x3 < 1200) (nu (mup σ3 17 x3 0) (fun σ4 => ck (0 ≤ x3 ∧ x3 < 1200) (nu (mup σ4 18 x3 0) (fun σ5 => ck (0 ≤ x3 ∧ x3 < 1200) (nu (mup σ5 19 x3 0) (fun σ6 => ck (0 ≤ x3 ∧ x3 < 1200) (nu (mup σ6 20 x3 1) (fun σ7 => ck (0 ≤ (σ7 (-1) 8) ∧ (σ7 (-1) 8) < 2) (ck (inR ((σ7 12 (σ7 (-1) 8)) + 1)) (ck (0 ≤ (σ7 (-1) 8) ∧ (σ7 (-1) 8) < 2) (nu (mup σ7 12 (σ7 (-1) 8) ((σ7 12 (σ7 (-1) 8)) + 1)) (fun σ11 => ck (0 ≤ (σ11 (-1) 8) ∧ (σ11 (-1) 8) < 2) (ck (inR ((σ11 12 (σ11 (-1) 8)) - 1)) (some (((σ11 12 (σ11 (-1) 8)) - 1), σ11)))))))))))))))))))))
theorem w_newNode_99 {C : zv_Cx zm_O} {G : zm_G} (h : zv_Ok C cX1_newNode RX1) (hc : zm_C C G 4 (Option.some FieldType.int) 1 1 22) (σ : MEM) (x3 s1 s2 : Int) (hx3 : inR x3) (hs1 : inR s1) (hs2 : inR s2) : VV C (m_newNode_99 σ x3 s1 s2) σ [(0, .ref (zm_h G)), (3, iv x3)] [iv s2, iv s1, .ref (zm_al G 14)] 99 := by
  have hN : ∀ i, i < 4 → i < zv_n C := fun i q => by rw [hc.2.2.1]; exact q
  unfold m_newNode_99
  refine zm_stI h hc 14 14 1200 (by decide) rfl rfl rfl (by decide) hs2 dX1_newNode_99 (fun _ σ1 _ => ?_)
  refine r_aload_n h 0 dX1_newNode_100 rfl rfl ?_
  refine zm_getA h hc 15 (by decide) rfl q1495 rfl dX1_newNode_101 ?_
  refine r_iload_n h 1 dX1_newNode_104 rfl rfl ?_
  refine r_iconst h dX1_newNode_105 ?_
  refine zm_stI h hc 15 15 1200 (by decide) rfl rfl rfl (by decide) (by decide) dX1_newNode_106 (fun _ σ2 _ => ?_)
  refine r_aload_n h 0 dX1_newNode_107 rfl rfl ?_
  refine zm_getA h hc 16 (by decide) rfl q1496 rfl dX1_newNode_108 ?_
  refine r_iload_n h 1 dX1_newNode_111 rfl rfl ?_
  refine r_iconst h dX1_newNode_112 ?_
  refine zm_stI h hc 16 16 1200 (by decide) rfl rfl rfl (by decide) (by decide) dX1_newNode_113 (fun _ σ3 _ => ?_)
  refine r_aload_n h 0 dX1_newNode_114 rfl rfl ?_
  refine zm_getA h hc 17 (by decide) rfl q1497 rfl dX1_newNode_115 ?_
  refine r_iload_n h 1 dX1_newNode_118 rfl rfl ?_
  refine r_iconst h dX1_newNode_119 ?_
  refine zm_stI h hc 17 17 1200 (by decide) rfl rfl rfl (by decide) (by decide) dX1_newNode_120 (fun _ σ4 _ => ?_)
  refine r_aload_n h 0 dX1_newNode_121 rfl rfl ?_
  refine zm_getA h hc 18 (by decide) rfl q1498 rfl dX1_newNode_122 ?_
  refine r_iload_n h 1 dX1_newNode_125 rfl rfl ?_
  refine r_iconst h dX1_newNode_126 ?_
  refine zm_stI h hc 18 18 1200 (by decide) rfl rfl rfl (by decide) (by decide) dX1_newNode_127 (fun _ σ5 _ => ?_)
  refine r_aload_n h 0 dX1_newNode_128 rfl rfl ?_
  refine zm_getA h hc 19 (by decide) rfl q1499 rfl dX1_newNode_129 ?_
  refine r_iload_n h 1 dX1_newNode_132 rfl rfl ?_
  refine r_iconst h dX1_newNode_133 ?_
  refine zm_stZ h hc 19 19 1200 (by decide) rfl rfl rfl (by decide) (by decide) dX1_newNode_134 (fun _ σ6 _ => ?_)
  refine r_aload_n h 0 dX1_newNode_135 rfl rfl ?_
  refine zm_getA h hc 20 (by decide) rfl q1500 rfl dX1_newNode_136 ?_
  refine r_iload_n h 1 dX1_newNode_139 rfl rfl ?_
  refine r_iconst h dX1_newNode_140 ?_
  refine zm_stZ h hc 20 20 1200 (by decide) rfl rfl rfl (by decide) (by decide) dX1_newNode_141 (fun _ σ7 _ => ?_)
  refine r_aload_n h 0 dX1_newNode_142 rfl rfl ?_
  refine zm_getA h hc 12 (by decide) rfl q1492 rfl dX1_newNode_143 ?_
  refine r_aload_n h 0 dX1_newNode_146 rfl rfl ?_
  refine zm_getI h hc 8 8 (by decide) rfl rfl q1488 rfl dX1_newNode_147 (fun hr8 => ?_)
  refine r_dup2 h dX1_newNode_150 rfl rfl ?_
  refine zm_ldI h hc 12 12 2 (by decide) rfl rfl rfl (by decide) dX1_newNode_151 (fun _ hr9 => ?_)
  refine r_iconst h dX1_newNode_152 ?_
  refine r_iadd h dX1_newNode_153 ?_
  refine r_ck (fun hk10 => ?_)
  refine zm_stI h hc 12 12 2 (by decide) rfl rfl rfl (by decide) hk10 dX1_newNode_154 (fun _ σ11 _ => ?_)
  refine r_aload_n h 0 dX1_newNode_155 rfl rfl ?_
  refine zm_getA h hc 12 (by decide) rfl q1492 rfl dX1_newNode_156 ?_
  refine r_aload_n h 0 dX1_newNode_159 rfl rfl ?_
  refine zm_getI h hc 8 8 (by decide) rfl rfl q1488 rfl dX1_newNode_160 (fun hr12 => ?_)
  refine zm_ldI h hc 12 12 2 (by decide) rfl rfl rfl (by decide) dX1_newNode_163 (fun _ hr13 => ?_)
  refine r_iconst h dX1_newNode_164 ?_
  refine r_isub h dX1_newNode_165 ?_
  refine r_ck (fun hk14 => ?_)
  exact zm_iret h hc rfl hk14 dX1_newNode_166
def m_newNode_29 (σ : MEM) (x1 : Int) : Option zm_O := bd (m_isGood σ) (fun r1 σ2 => if r1 = 0 then (some ((-1), σ2)) else (ck (0 ≤ (σ2 (-1) 8) ∧ (σ2 (-1) 8) < 2) (ck (0 ≤ ((600 * (σ2 (-1) 8)) + (σ2 12 (σ2 (-1) 8))) ∧ ((600 * (σ2 (-1) 8)) + (σ2 12 (σ2 (-1) 8))) < 1200) (nu (mup σ2 13 ((600 * (σ2 (-1) 8)) + (σ2 12 (σ2 (-1) 8))) x1) (fun σ7 => if (σ7 (-1) 64) = 0 then (if x1 = 0 then (ck (inR ((600 * (σ2 (-1) 8)) + (σ2 12 (σ2 (-1) 8)))) (m_newNode_99 σ7 ((600 * (σ2 (-1) 8)) + (σ2 12 (σ2 (-1) 8))) ((600 * (σ2 (-1) 8)) + (σ2 12 (σ2 (-1) 8))) (-1))) else (ck (inR ((600 * (σ2 (-1) 8)) + (σ2 12 (σ2 (-1) 8)))) (m_newNode_99 σ7 ((600 * (σ2 (-1) 8)) + (σ2 12 (σ2 (-1) 8))) ((600 * (σ2 (-1) 8)) + (σ2 12 (σ2 (-1) 8))) 0))) else (ck (0 ≤ ((σ7 (-1) 64) - 1) ∧ ((σ7 (-1) 64) - 1) < 31) (ck (inR ((600 * (σ2 (-1) 8)) + (σ2 12 (σ2 (-1) 8)))) (m_newNode_99 σ7 ((600 * (σ2 (-1) 8)) + (σ2 12 (σ2 (-1) 8))) ((600 * (σ2 (-1) 8)) + (σ2 12 (σ2 (-1) 8))) (σ7 63 ((σ7 (-1) 64) - 1))))))))))
theorem w_newNode_29 {C : zv_Cx zm_O} {G : zm_G} (h : zv_Ok C cX1_newNode RX1) (hc : zm_C C G 4 (Option.some FieldType.int) 1 1 22) (σ : MEM) (x1 : Int) (hx1 : inR x1) : VV C (m_newNode_29 σ x1) σ [(0, .ref (zm_h G)), (1, iv x1)] [] 29 := by
  have hN : ∀ i, i < 4 → i < zv_n C := fun i q => by rw [hc.2.2.1]; exact q
  unfold m_newNode_29
  refine r_aload_n h 0 dX1_newNode_29 rfl rfl ?_
  refine zm_cVz h hc (n := 0) (As := []) (fun o1 e1 => w_isGood hc.1 _ o1 e1) q1801 q1803 qs56 q136 q1804 (by decide +kernel) ⟨by decide, by decide⟩ rfl (Nat.le_of_ble_eq_true rfl) rfl dX1_newNode_30 (fun r1 σ2 hr3 => ?_)
  refine r_if_ne h hr3.r 38 dX1_newNode_33 rfl ?_ ?_
  · refine r_iconst h dX1_newNode_36 ?_
    exact zm_iret h hc rfl (by decide) dX1_newNode_37
  · refine r_sipush h dX1_newNode_38 (by decide) ?_
    refine r_aload_n h 0 dX1_newNode_41 rfl rfl ?_
    refine zm_getI h hc 8 8 (by decide) rfl rfl q1488 rfl dX1_newNode_42 (fun hr4 => ?_)
    refine r_imul h dX1_newNode_45 ?_
    refine r_aload_n h 0 dX1_newNode_46 rfl rfl ?_
    refine zm_getA h hc 12 (by decide) rfl q1492 rfl dX1_newNode_47 ?_
    refine r_aload_n h 0 dX1_newNode_50 rfl rfl ?_
    refine zm_getI h hc 8 8 (by decide) rfl rfl q1488 rfl dX1_newNode_51 (fun hr5 => ?_)
    refine zm_ldI h hc 12 12 2 (by decide) rfl rfl rfl (by decide) dX1_newNode_54 (fun _ hr6 => ?_)
    refine r_iadd h dX1_newNode_55 ?_
    refine r_istore_n (lv' := [(3, iv ((600 * (σ2 (-1) 8)) + (σ2 12 (σ2 (-1) 8)))), (0, .ref (zm_h G)), (1, iv x1)]) h dX1_newNode_56 rfl (hN _ (by decide)) rfl ?_
    refine r_aload_n h 1 dX1_newNode_57 rfl rfl ?_
    refine zm_getA h hc 13 (by decide) rfl q1493 rfl dX1_newNode_58 ?_
    refine r_iload_n h 0 dX1_newNode_61 rfl rfl ?_
    refine r_iload_n h 2 dX1_newNode_62 rfl rfl ?_
    refine zm_stI h hc 13 13 1200 (by decide) rfl rfl rfl (by decide) hx1 dX1_newNode_63 (fun _ σ7 _ => ?_)
    refine r_aload_n h 1 dX1_newNode_64 rfl rfl ?_
    refine zm_getA h hc 14 (by decide) rfl q1494 rfl dX1_newNode_65 ?_
    refine r_iload_n h 0 dX1_newNode_68 rfl rfl ?_
    refine r_aload_n h 1 dX1_newNode_69 rfl rfl ?_
    refine zm_getI h hc 64 64 (by decide) rfl rfl q1543 rfl dX1_newNode_70 (fun hr8 => ?_)
    refine r_if_ne h hr8 88 dX1_newNode_73 rfl ?_ ?_
    · refine r_iload_n h 2 dX1_newNode_76 rfl rfl ?_
      refine r_if_ne h hx1 84 dX1_newNode_77 rfl ?_ ?_
      · refine r_iconst h dX1_newNode_80 ?_
        refine r_goto h 99 dX1_newNode_81 rfl ?_
        refine r_ck (fun hk9 => ?_)
        exact r_lv [1, 0] rfl (w_newNode_99 h hc _ ((600 * (σ2 (-1) 8)) + (σ2 12 (σ2 (-1) 8))) ((600 * (σ2 (-1) 8)) + (σ2 12 (σ2 (-1) 8))) (-1) hk9 hk9 (by decide))
      · refine r_iconst h dX1_newNode_84 ?_
        refine r_goto h 99 dX1_newNode_85 rfl ?_
        refine r_ck (fun hk10 => ?_)
        exact r_lv [1, 0] rfl (w_newNode_99 h hc _ ((600 * (σ2 (-1) 8)) + (σ2 12 (σ2 (-1) 8))) ((600 * (σ2 (-1) 8)) + (σ2 12 (σ2 (-1) 8))) 0 hk10 hk10 (by decide))
    · refine r_aload_n h 1 dX1_newNode_88 rfl rfl ?_
      refine zm_getA h hc 63 (by decide) rfl q1542 rfl dX1_newNode_89 ?_
      refine r_aload_n h 1 dX1_newNode_92 rfl rfl ?_
      refine zm_getI h hc 64 64 (by decide) rfl rfl q1543 rfl dX1_newNode_93 (fun hr11 => ?_)
      refine r_iconst h dX1_newNode_96 ?_
      refine r_isub h dX1_newNode_97 ?_
      refine zm_ldI h hc 63 63 31 (by decide) rfl rfl rfl (by decide) dX1_newNode_98 (fun _ hr12 => ?_)
      refine r_ck (fun hk13 => ?_)
      exact r_lv [1, 0] rfl (w_newNode_99 h hc _ ((600 * (σ2 (-1) 8)) + (σ2 12 (σ2 (-1) 8))) ((600 * (σ2 (-1) 8)) + (σ2 12 (σ2 (-1) 8))) (σ7 63 ((σ7 (-1) 64) - 1)) hk13 hk13 hr12)
def m_newNode (σ : MEM) (a0 a1 : Int) : Option zm_O := bd (m_isGood σ) (fun r1 σ2 => if r1 = 0 then (m_newNode_29 σ2 a0) else (ck (0 ≤ (σ2 (-1) 8) ∧ (σ2 (-1) 8) < 2) (if (σ2 12 (σ2 (-1) 8)) = 600 then (bd (m_fail σ2 (-3) a1) (fun _ σ6 => m_newNode_29 σ6 a0)) else (m_newNode_29 σ2 a0))))
theorem w_newNode {G : zm_G} (hD : zm_D G) (σ : MEM) (a0 a1 : Int) (ha0 : inR a0) (ha1 : inR a1) (o : zm_O) (hd : m_newNode σ a0 a1 = some o) : zm_Met G yX1_newNode cX1_newNode 4 (Option.some FieldType.int) 1 1 22 σ [.ref (zm_h G), iv a0, iv a1] o := by
  refine zm_intro hD hd (by decide) rfl (Nat.le_of_ble_eq_true rfl) rfl (fun C h hc => ?_)
  have hN : ∀ i, i < 4 → i < zv_n C := fun i q => by rw [hc.2.2.1]; exact q
  unfold m_newNode
  refine r_aload_n h 0 dX1_newNode_0 rfl rfl ?_
  refine zm_cVz h hc (n := 0) (As := []) (fun o1 e1 => w_isGood hc.1 _ o1 e1) q1801 q1803 qs56 q136 q1804 (by decide +kernel) ⟨by decide, by decide⟩ rfl (Nat.le_of_ble_eq_true rfl) rfl dX1_newNode_1 (fun r1 σ2 hr3 => ?_)
  refine r_if_eq h hr3.r 29 dX1_newNode_4 rfl ?_ ?_
  · exact r_lv [0, 1] rfl (w_newNode_29 h hc _ a0 ha0)
  · refine r_aload_n h 0 dX1_newNode_7 rfl rfl ?_
    refine zm_getA h hc 12 (by decide) rfl q1492 rfl dX1_newNode_8 ?_
    refine r_aload_n h 0 dX1_newNode_11 rfl rfl ?_
    refine zm_getI h hc 8 8 (by decide) rfl rfl q1488 rfl dX1_newNode_12 (fun hr4 => ?_)
    refine zm_ldI h hc 12 12 2 (by decide) rfl rfl rfl (by decide) dX1_newNode_15 (fun _ hr5 => ?_)
    refine r_sipush h dX1_newNode_16 (by decide) ?_
    refine r_icmp_ne h hr5 (by decide) 29 dX1_newNode_19 rfl ?_ ?_
    · refine r_aload_n h 0 dX1_newNode_22 rfl rfl ?_
      refine r_bipush h dX1_newNode_23 (by decide) ?_
      refine r_iload_n h 2 dX1_newNode_25 rfl rfl ?_
      refine zm_cVv h hc (n := 2) (As := [iv (-3), iv a1]) (fun o1 e1 => w_fail hc.1 _ (-3) a1 (by decide) ha1 o1 e1) q1805 q1807 qs57 q136 q1808 (by decide +kernel) ⟨by decide, by decide⟩ rfl (Nat.le_of_ble_eq_true rfl) rfl dX1_newNode_26 (fun σ6  => ?_)
      exact r_lv [0, 1] rfl (w_newNode_29 h hc _ a0 ha0)
    · exact r_lv [0, 1] rfl (w_newNode_29 h hc _ a0 ha0)
theorem dX1_octet_0 : decode cX1_octet 0 = .ok (.iload_n 1, 1) := by decide +kernel
theorem dX1_octet_1 : decode cX1_octet 1 = .ok (.aload_n 0, 1) := by decide +kernel
theorem dX1_octet_2 : decode cX1_octet 2 = .ok (.getfield 249, 3) := by decide +kernel
theorem dX1_octet_5 : decode cX1_octet 5 = .ok (.if_icmp .ge 16, 3) := by decide +kernel
theorem dX1_octet_8 : decode cX1_octet 8 = .ok (.aload_n 0, 1) := by decide +kernel
theorem dX1_octet_9 : decode cX1_octet 9 = .ok (.getfield 13, 3) := by decide +kernel
theorem dX1_octet_12 : decode cX1_octet 12 = .ok (.iload_n 1, 1) := by decide +kernel
theorem dX1_octet_13 : decode cX1_octet 13 = .ok (.baload, 1) := by decide +kernel
theorem dX1_octet_14 : decode cX1_octet 14 = .ok (.sipush 255, 3) := by decide +kernel
theorem dX1_octet_17 : decode cX1_octet 17 = .ok (.iand, 1) := by decide +kernel
theorem dX1_octet_18 : decode cX1_octet 18 = .ok (.goto 4, 3) := by decide +kernel
theorem dX1_octet_21 : decode cX1_octet 21 = .ok (.iconst (-1), 1) := by decide +kernel
theorem dX1_octet_22 : decode cX1_octet 22 = .ok (.ireturn, 1) := by decide +kernel
def m_octet (σ : MEM) (a0 : Int) : Option zm_O := if (σ (-1) 3) ≤ a0 then (some ((-1), σ)) else (ck (0 ≤ a0 ∧ a0 < 6000) (some ((i_and (σ 2 a0) 255), σ)))
theorem w_octet {G : zm_G} (hD : zm_D G) (σ : MEM) (a0 : Int) (ha0 : inR a0) (o : zm_O) (hd : m_octet σ a0 = some o) : zm_Met G yX1_octet cX1_octet 2 (Option.some FieldType.int) 1 0 0 σ [.ref (zm_h G), iv a0] o := by
  refine zm_intro hD hd (by decide) rfl (Nat.le_of_ble_eq_true rfl) rfl (fun C h hc => ?_)
  have hN : ∀ i, i < 2 → i < zv_n C := fun i q => by rw [hc.2.2.1]; exact q
  unfold m_octet
  refine r_iload_n h 1 dX1_octet_0 rfl rfl ?_
  refine r_aload_n h 0 dX1_octet_1 rfl rfl ?_
  refine zm_getI h hc 3 3 (by decide) rfl rfl q1483 rfl dX1_octet_2 (fun hr1 => ?_)
  refine r_icmp_ge h ha0 hr1 21 dX1_octet_5 rfl ?_ ?_
  · refine r_iconst h dX1_octet_21 ?_
    exact zm_iret h hc rfl (by decide) dX1_octet_22
  · refine r_aload_n h 0 dX1_octet_8 rfl rfl ?_
    refine zm_getA h hc 2 (by decide) rfl q1482 rfl dX1_octet_9 ?_
    refine r_iload_n h 1 dX1_octet_12 rfl rfl ?_
    refine zm_ldB h hc 2 2 6000 (by decide) rfl rfl rfl (by decide) dX1_octet_13 (fun _ hr2 => ?_)
    refine r_sipush h dX1_octet_14 (by decide) ?_
    refine r_iand h dX1_octet_17 ?_
    refine r_goto h 22 dX1_octet_18 rfl ?_
    exact zm_iret h hc rfl (inR_t _) dX1_octet_22
theorem dX1_isS_0 : decode cX1_isS 0 = .ok (.iload_n 0, 1) := by decide +kernel
theorem dX1_isS_1 : decode cX1_isS 1 = .ok (.bipush 32, 2) := by decide +kernel
theorem dX1_isS_3 : decode cX1_isS 3 = .ok (.if_icmp .eq 21, 3) := by decide +kernel
theorem dX1_isS_6 : decode cX1_isS 6 = .ok (.iload_n 0, 1) := by decide +kernel
theorem dX1_isS_7 : decode cX1_isS 7 = .ok (.bipush 9, 2) := by decide +kernel
theorem dX1_isS_9 : decode cX1_isS 9 = .ok (.if_icmp .eq 15, 3) := by decide +kernel
theorem dX1_isS_12 : decode cX1_isS 12 = .ok (.iload_n 0, 1) := by decide +kernel
theorem dX1_isS_13 : decode cX1_isS 13 = .ok (.bipush 10, 2) := by decide +kernel
theorem dX1_isS_15 : decode cX1_isS 15 = .ok (.if_icmp .eq 9, 3) := by decide +kernel
theorem dX1_isS_18 : decode cX1_isS 18 = .ok (.iload_n 0, 1) := by decide +kernel
theorem dX1_isS_19 : decode cX1_isS 19 = .ok (.bipush 13, 2) := by decide +kernel
theorem dX1_isS_21 : decode cX1_isS 21 = .ok (.if_icmp .ne 7, 3) := by decide +kernel
theorem dX1_isS_24 : decode cX1_isS 24 = .ok (.iconst 1, 1) := by decide +kernel
theorem dX1_isS_25 : decode cX1_isS 25 = .ok (.goto 4, 3) := by decide +kernel
theorem dX1_isS_28 : decode cX1_isS 28 = .ok (.iconst 0, 1) := by decide +kernel
theorem dX1_isS_29 : decode cX1_isS 29 = .ok (.ireturn, 1) := by decide +kernel
def m_isS (σ : MEM) (a0 : Int) : Option zm_O := if a0 = 32 then (some (1, σ)) else (if a0 = 9 then (some (1, σ)) else (if a0 = 10 then (some (1, σ)) else (if a0 = 13 then (some (1, σ)) else (some (0, σ)))))
theorem w_isS {G : zm_G} (hD : zm_D G) (σ : MEM) (a0 : Int) (ha0 : inR a0) (o : zm_O) (hd : m_isS σ a0 = some o) : zm_Met G yX1_isS cX1_isS 1 (Option.some FieldType.boolean) 3 0 0 σ [iv a0] o := by
  refine zm_intro hD hd (by decide) rfl (Nat.le_of_ble_eq_true rfl) rfl (fun C h hc => ?_)
  have hN : ∀ i, i < 1 → i < zv_n C := fun i q => by rw [hc.2.2.1]; exact q
  unfold m_isS
  refine r_iload_n h 0 dX1_isS_0 rfl rfl ?_
  refine r_bipush h dX1_isS_1 (by decide) ?_
  refine r_icmp_eq h ha0 (by decide) 24 dX1_isS_3 rfl ?_ ?_
  · refine r_iconst h dX1_isS_24 ?_
    refine r_goto h 29 dX1_isS_25 rfl ?_
    exact zm_zret h hc rfl (by decide) dX1_isS_29
  · refine r_iload_n h 0 dX1_isS_6 rfl rfl ?_
    refine r_bipush h dX1_isS_7 (by decide) ?_
    refine r_icmp_eq h ha0 (by decide) 24 dX1_isS_9 rfl ?_ ?_
    · refine r_iconst h dX1_isS_24 ?_
      refine r_goto h 29 dX1_isS_25 rfl ?_
      exact zm_zret h hc rfl (by decide) dX1_isS_29
    · refine r_iload_n h 0 dX1_isS_12 rfl rfl ?_
      refine r_bipush h dX1_isS_13 (by decide) ?_
      refine r_icmp_eq h ha0 (by decide) 24 dX1_isS_15 rfl ?_ ?_
      · refine r_iconst h dX1_isS_24 ?_
        refine r_goto h 29 dX1_isS_25 rfl ?_
        exact zm_zret h hc rfl (by decide) dX1_isS_29
      · refine r_iload_n h 0 dX1_isS_18 rfl rfl ?_
        refine r_bipush h dX1_isS_19 (by decide) ?_
        refine r_icmp_ne h ha0 (by decide) 28 dX1_isS_21 rfl ?_ ?_
        · refine r_iconst h dX1_isS_24 ?_
          refine r_goto h 29 dX1_isS_25 rfl ?_
          exact zm_zret h hc rfl (by decide) dX1_isS_29
        · refine r_iconst h dX1_isS_28 ?_
          exact zm_zret h hc rfl (by decide) dX1_isS_29
theorem dX1_maybeS_0 : decode cX1_maybeS 0 = .ok (.aload_n 0, 1) := by decide +kernel
theorem dX1_maybeS_1 : decode cX1_maybeS 1 = .ok (.invokevirtual 289, 3) := by decide +kernel
theorem dX1_maybeS_4 : decode cX1_maybeS 4 = .ok (.ifCond .eq 30, 3) := by decide +kernel
theorem dX1_maybeS_7 : decode cX1_maybeS 7 = .ok (.aload_n 0, 1) := by decide +kernel
theorem dX1_maybeS_8 : decode cX1_maybeS 8 = .ok (.aload_n 0, 1) := by decide +kernel
theorem dX1_maybeS_9 : decode cX1_maybeS 9 = .ok (.getfield 276, 3) := by decide +kernel
theorem dX1_maybeS_12 : decode cX1_maybeS 12 = .ok (.invokevirtual 279, 3) := by decide +kernel
theorem dX1_maybeS_15 : decode cX1_maybeS 15 = .ok (.invokestatic 297, 3) := by decide +kernel
theorem dX1_maybeS_18 : decode cX1_maybeS 18 = .ok (.ifCond .eq 16, 3) := by decide +kernel
theorem dX1_maybeS_21 : decode cX1_maybeS 21 = .ok (.aload_n 0, 1) := by decide +kernel
theorem dX1_maybeS_22 : decode cX1_maybeS 22 = .ok (.dup, 1) := by decide +kernel
theorem dX1_maybeS_23 : decode cX1_maybeS 23 = .ok (.getfield 276, 3) := by decide +kernel
theorem dX1_maybeS_26 : decode cX1_maybeS 26 = .ok (.iconst 1, 1) := by decide +kernel
theorem dX1_maybeS_27 : decode cX1_maybeS 27 = .ok (.iadd, 1) := by decide +kernel
theorem dX1_maybeS_28 : decode cX1_maybeS 28 = .ok (.putfield 276, 3) := by decide +kernel
theorem dX1_maybeS_31 : decode cX1_maybeS 31 = .ok (.goto (-31), 3) := by decide +kernel
theorem dX1_maybeS_34 : decode cX1_maybeS 34 = .ok (.return_, 1) := by decide +kernel
def m_maybeS_0 : Nat → MEM → Option zm_O
  | 0, _ => none
  | n + 1, σ => bd (m_isGood σ) (fun r1 σ2 => if r1 = 0 then (some (0, σ2)) else (bd (m_octet σ2 (σ2 (-1) 4)) (fun r5 σ6 => bd (m_isS σ6 r5) (fun r8 σ9 => if r8 = 0 then (some (0, σ9)) else (ck (inR ((σ9 (-1) 4) + 1)) (nu (mup σ9 (-1) 4 ((σ9 (-1) 4) + 1)) (fun σ13 => m_maybeS_0 n σ13)))))))
theorem w_maybeS_0 {C : zv_Cx zm_O} {G : zm_G} (h : zv_Ok C cX1_maybeS RX1) (hc : zm_C C G 1 (Option.none : Option FieldType) 0 1 21) : ∀ (n : Nat) (σ : MEM), VV C (m_maybeS_0 n σ ) σ [(0, .ref (zm_h G))] [] 0 := by
  have hN : ∀ i, i < 1 → i < zv_n C := fun i q => by rw [hc.2.2.1]; exact q
  intro n
  induction n with
  | zero => intros; exact r_none
  | succ n ih =>
    intro σ  
    rw [m_maybeS_0]
    refine r_aload_n h 0 dX1_maybeS_0 rfl rfl ?_
    refine zm_cVz h hc (n := 0) (As := []) (fun o1 e1 => w_isGood hc.1 _ o1 e1) q1801 q1803 qs56 q136 q1804 (by decide +kernel) ⟨by decide, by decide⟩ rfl (Nat.le_of_ble_eq_true rfl) rfl dX1_maybeS_1 (fun r1 σ2 hr3 => ?_)
    refine r_if_eq h hr3.r 34 dX1_maybeS_4 rfl ?_ ?_
    · exact zm_vret h hc rfl dX1_maybeS_34
    · refine r_aload_n h 0 dX1_maybeS_7 rfl rfl ?_
      refine r_aload_n h 0 dX1_maybeS_8 rfl rfl ?_
      refine zm_getI h hc 4 4 (by decide) rfl rfl q1484 rfl dX1_maybeS_9 (fun hr4 => ?_)
      refine zm_cVi h hc (n := 1) (As := [iv (σ2 (-1) 4)]) (fun o1 e1 => w_octet hc.1 _ (σ2 (-1) 4) hr4 o1 e1) q1817 q1819 qs60 q136 q1820 (by decide +kernel) ⟨by decide, by decide⟩ rfl (Nat.le_of_ble_eq_true rfl) rfl dX1_maybeS_12 (fun r5 σ6 hr7 => ?_)
      refine zm_cSz h hc (n := 1) (As := [iv r5]) (fun o1 e1 => w_isS hc.1 _ r5 hr7 o1 e1) q1821 q1822 q136 q1823 (by decide +kernel) ⟨by decide, by decide⟩ rfl (Nat.le_of_ble_eq_true rfl) rfl dX1_maybeS_15 (fun r8 σ9 hr10 => ?_)
      refine r_if_eq h hr10.r 34 dX1_maybeS_18 rfl ?_ ?_
      · exact zm_vret h hc rfl dX1_maybeS_34
      · refine r_aload_n h 0 dX1_maybeS_21 rfl rfl ?_
        refine r_dup h dX1_maybeS_22 rfl ?_
        refine zm_getI h hc 4 4 (by decide) rfl rfl q1484 rfl dX1_maybeS_23 (fun hr11 => ?_)
        refine r_iconst h dX1_maybeS_26 ?_
        refine r_iadd h dX1_maybeS_27 ?_
        refine r_ck (fun hk12 => ?_)
        refine zm_putI h hc 4 4 (by decide) rfl rfl q1484 ⟨rfl, rfl, by decide +kernel⟩ hk12 dX1_maybeS_28 (fun σ13 _ => ?_)
        refine r_goto h 0 dX1_maybeS_31 rfl ?_
        exact r_lv [0] rfl (ih _)
def m_maybeS (σ : MEM) : Option zm_O := m_maybeS_0 zF σ
theorem w_maybeS {G : zm_G} (hD : zm_D G) (σ : MEM) (o : zm_O) (hd : m_maybeS σ  = some o) : zm_Met G yX1_maybeS cX1_maybeS 1 (Option.none : Option FieldType) 0 1 21 σ [.ref (zm_h G)] o := by
  refine zm_intro hD hd (by decide) rfl (Nat.le_of_ble_eq_true rfl) rfl (fun C h hc => ?_)
  have hN : ∀ i, i < 1 → i < zv_n C := fun i q => by rw [hc.2.2.1]; exact q
  unfold m_maybeS
  exact r_lv [0] rfl (w_maybeS_0 h hc zF _)
theorem dX1_stands_0 : decode cX1_stands 0 = .ok (.iconst 1, 1) := by decide +kernel
theorem dX1_stands_1 : decode cX1_stands 1 = .ok (.istore 4, 2) := by decide +kernel
theorem dX1_stands_3 : decode cX1_stands 3 = .ok (.iconst 0, 1) := by decide +kernel
theorem dX1_stands_4 : decode cX1_stands 4 = .ok (.istore 5, 2) := by decide +kernel
theorem dX1_stands_6 : decode cX1_stands 6 = .ok (.iload 5, 2) := by decide +kernel
theorem dX1_stands_8 : decode cX1_stands 8 = .ok (.iload_n 3, 1) := by decide +kernel
theorem dX1_stands_9 : decode cX1_stands 9 = .ok (.if_icmp .ge 52, 3) := by decide +kernel
theorem dX1_stands_12 : decode cX1_stands 12 = .ok (.iload 4, 2) := by decide +kernel
theorem dX1_stands_14 : decode cX1_stands 14 = .ok (.ifCond .eq 47, 3) := by decide +kernel
theorem dX1_stands_17 : decode cX1_stands 17 = .ok (.aload_n 0, 1) := by decide +kernel
theorem dX1_stands_18 : decode cX1_stands 18 = .ok (.aload_n 0, 1) := by decide +kernel
theorem dX1_stands_19 : decode cX1_stands 19 = .ok (.getfield 276, 3) := by decide +kernel
theorem dX1_stands_22 : decode cX1_stands 22 = .ok (.iload 5, 2) := by decide +kernel
theorem dX1_stands_24 : decode cX1_stands 24 = .ok (.iadd, 1) := by decide +kernel
theorem dX1_stands_25 : decode cX1_stands 25 = .ok (.invokevirtual 279, 3) := by decide +kernel
theorem dX1_stands_28 : decode cX1_stands 28 = .ok (.i2l, 1) := by decide +kernel
theorem dX1_stands_29 : decode cX1_stands 29 = .ok (.lload_n 1, 1) := by decide +kernel
theorem dX1_stands_30 : decode cX1_stands 30 = .ok (.bipush 8, 2) := by decide +kernel
theorem dX1_stands_32 : decode cX1_stands 32 = .ok (.iload_n 3, 1) := by decide +kernel
theorem dX1_stands_33 : decode cX1_stands 33 = .ok (.iconst 1, 1) := by decide +kernel
theorem dX1_stands_34 : decode cX1_stands 34 = .ok (.isub, 1) := by decide +kernel
theorem dX1_stands_35 : decode cX1_stands 35 = .ok (.iload 5, 2) := by decide +kernel
theorem dX1_stands_37 : decode cX1_stands 37 = .ok (.isub, 1) := by decide +kernel
theorem dX1_stands_38 : decode cX1_stands 38 = .ok (.imul, 1) := by decide +kernel
theorem dX1_stands_39 : decode cX1_stands 39 = .ok (.lshr, 1) := by decide +kernel
theorem dX1_stands_40 : decode cX1_stands 40 = .ok (.ldc2_w 283, 3) := by decide +kernel
theorem dX1_stands_43 : decode cX1_stands 43 = .ok (.land, 1) := by decide +kernel
theorem dX1_stands_44 : decode cX1_stands 44 = .ok (.lcmp, 1) := by decide +kernel
theorem dX1_stands_45 : decode cX1_stands 45 = .ok (.ifCond .ne 7, 3) := by decide +kernel
theorem dX1_stands_48 : decode cX1_stands 48 = .ok (.iconst 1, 1) := by decide +kernel
theorem dX1_stands_49 : decode cX1_stands 49 = .ok (.goto 4, 3) := by decide +kernel
theorem dX1_stands_52 : decode cX1_stands 52 = .ok (.iconst 0, 1) := by decide +kernel
theorem dX1_stands_53 : decode cX1_stands 53 = .ok (.istore 4, 2) := by decide +kernel
theorem dX1_stands_55 : decode cX1_stands 55 = .ok (.iinc 5 1, 3) := by decide +kernel
theorem dX1_stands_58 : decode cX1_stands 58 = .ok (.goto (-52), 3) := by decide +kernel
theorem dX1_stands_61 : decode cX1_stands 61 = .ok (.iload 4, 2) := by decide +kernel
theorem dX1_stands_63 : decode cX1_stands 63 = .ok (.ireturn, 1) := by decide +kernel
def m_stands_6 : Nat → MEM → Int → Int → Int → Int → Option zm_O
  | 0, _, _, _, _, _ => none
  | n + 1, σ, x1, x3, x4, x5 => if x3 ≤ x5 then (some (x4, σ)) else (if x4 = 0 then (some (x4, σ)) else (ck (inR ((σ (-1) 4) + x5)) (bd (m_octet σ ((σ (-1) 4) + x5)) (fun r3 σ4 => if (j_cmp r3 (j_and (j_shr x1 (8 * ((x3 - 1) - x5))) 255)) = 0 then (ck (inR (x5 + 1)) (m_stands_6 n σ4 x1 x3 1 (x5 + 1))) else (ck (inR (x5 + 1)) (m_stands_6 n σ4 x1 x3 0 (x5 + 1)))))))
theorem w_stands_6 {C : zv_Cx zm_O} {G : zm_G} (h : zv_Ok C cX1_stands RX1) (hc : zm_C C G 6 (Option.some FieldType.boolean) 3 1 21) : ∀ (n : Nat) (σ : MEM) (x1 x3 x4 x5 : Int), inL x1 → inR x3 → isB x4 → inR x5 → VV C (m_stands_6 n σ x1 x3 x4 x5) σ [(0, .ref (zm_h G)), (1, jv x1), (3, iv x3), (4, iv x4), (5, iv x5)] [] 6 := by
  have hN : ∀ i, i < 6 → i < zv_n C := fun i q => by rw [hc.2.2.1]; exact q
  intro n
  induction n with
  | zero => intros; exact r_none
  | succ n ih =>
    intro σ x1 x3 x4 x5 hx1 hx3 hx4 hx5
    rw [m_stands_6]
    refine r_iload h 4 dX1_stands_6 rfl ?_
    refine r_iload_n h 2 dX1_stands_8 rfl rfl ?_
    refine r_icmp_ge h hx5 hx3 61 dX1_stands_9 rfl ?_ ?_
    · refine r_iload h 3 dX1_stands_61 rfl ?_
      exact zm_zret h hc rfl hx4 dX1_stands_63
    · refine r_iload h 3 dX1_stands_12 rfl ?_
      refine r_if_eq h hx4.r 61 dX1_stands_14 rfl ?_ ?_
      · refine r_iload h 3 dX1_stands_61 rfl ?_
        exact zm_zret h hc rfl hx4 dX1_stands_63
      · refine r_aload_n h 0 dX1_stands_17 rfl rfl ?_
        refine r_aload_n h 0 dX1_stands_18 rfl rfl ?_
        refine zm_getI h hc 4 4 (by decide) rfl rfl q1484 rfl dX1_stands_19 (fun hr1 => ?_)
        refine r_iload h 4 dX1_stands_22 rfl ?_
        refine r_iadd h dX1_stands_24 ?_
        refine r_ck (fun hk2 => ?_)
        refine zm_cVi h hc (n := 1) (As := [iv ((σ (-1) 4) + x5)]) (fun o1 e1 => w_octet hc.1 _ ((σ (-1) 4) + x5) hk2 o1 e1) q1817 q1819 qs60 q136 q1820 (by decide +kernel) ⟨by decide, by decide⟩ rfl (Nat.le_of_ble_eq_true rfl) rfl dX1_stands_25 (fun r3 σ4 hr5 => ?_)
        refine r_i2l h hr5 dX1_stands_28 ?_
        refine r_lload_n h 1 dX1_stands_29 rfl rfl ?_
        refine r_bipush h dX1_stands_30 (by decide) ?_
        refine r_iload_n h 2 dX1_stands_32 rfl rfl ?_
        refine r_iconst h dX1_stands_33 ?_
        refine r_isub h dX1_stands_34 ?_
        refine r_iload h 4 dX1_stands_35 rfl ?_
        refine r_isub h dX1_stands_37 ?_
        refine r_imul h dX1_stands_38 ?_
        refine r_lshr h dX1_stands_39 ?_
        refine r_ldc2 (x := 255) h q1829 (by decide) dX1_stands_40 ?_
        refine r_land h dX1_stands_43 ?_
        refine r_lcmp h hr5.l (inL_t _) dX1_stands_44 ?_
        refine r_if_ne h (j_cmp_r _ _) 52 dX1_stands_45 rfl ?_ ?_
        · refine r_iconst h dX1_stands_48 ?_
          refine r_goto h 53 dX1_stands_49 rfl ?_
          refine r_istore (lv' := [(4, iv 1), (0, .ref (zm_h G)), (1, jv x1), (3, iv x3), (5, iv x5)]) h dX1_stands_53 (hN _ (by decide)) rfl ?_
          refine r_iinc (lv' := [(5, iv (x5 + 1)), (4, iv 1), (0, .ref (zm_h G)), (1, jv x1), (3, iv x3)]) h 4 dX1_stands_55 rfl (hN _ (by decide)) rfl ?_
          refine r_goto h 6 dX1_stands_58 rfl ?_
          refine r_ck (fun hk6 => ?_)
          exact r_lv [2, 3, 4, 1, 0] rfl (ih _ x1 x3 1 (x5 + 1) hx1 hx3 (by decide) hk6)
        · refine r_iconst h dX1_stands_52 ?_
          refine r_istore (lv' := [(4, iv 0), (0, .ref (zm_h G)), (1, jv x1), (3, iv x3), (5, iv x5)]) h dX1_stands_53 (hN _ (by decide)) rfl ?_
          refine r_iinc (lv' := [(5, iv (x5 + 1)), (4, iv 0), (0, .ref (zm_h G)), (1, jv x1), (3, iv x3)]) h 4 dX1_stands_55 rfl (hN _ (by decide)) rfl ?_
          refine r_goto h 6 dX1_stands_58 rfl ?_
          refine r_ck (fun hk7 => ?_)
          exact r_lv [2, 3, 4, 1, 0] rfl (ih _ x1 x3 0 (x5 + 1) hx1 hx3 (by decide) hk7)
def m_stands (σ : MEM) (a0 a1 : Int) : Option zm_O := m_stands_6 zF σ a0 a1 1 0
theorem w_stands {G : zm_G} (hD : zm_D G) (σ : MEM) (a0 a1 : Int) (ha0 : inL a0) (ha1 : inR a1) (o : zm_O) (hd : m_stands σ a0 a1 = some o) : zm_Met G yX1_stands cX1_stands 6 (Option.some FieldType.boolean) 3 1 21 σ [.ref (zm_h G), jv a0, iv a1] o := by
  refine zm_intro hD hd (by decide) rfl (Nat.le_of_ble_eq_true rfl) rfl (fun C h hc => ?_)
  have hN : ∀ i, i < 6 → i < zv_n C := fun i q => by rw [hc.2.2.1]; exact q
  unfold m_stands
  refine r_iconst h dX1_stands_0 ?_
  refine r_istore (lv' := [(4, iv 1), (0, .ref (zm_h G)), (1, jv a0), (3, iv a1)]) h dX1_stands_1 (hN _ (by decide)) rfl ?_
  refine r_iconst h dX1_stands_3 ?_
  refine r_istore (lv' := [(5, iv 0), (4, iv 1), (0, .ref (zm_h G)), (1, jv a0), (3, iv a1)]) h dX1_stands_4 (hN _ (by decide)) rfl ?_
  exact r_lv [2, 3, 4, 1, 0] rfl (w_stands_6 h hc zF _ a0 a1 1 0 ha0 ha1 (by decide) (by decide))
theorem dX1_isChar_0 : decode cX1_isChar 0 = .ok (.iload_n 0, 1) := by decide +kernel
theorem dX1_isChar_1 : decode cX1_isChar 1 = .ok (.bipush 9, 2) := by decide +kernel
theorem dX1_isChar_3 : decode cX1_isChar 3 = .ok (.if_icmp .eq 29, 3) := by decide +kernel
theorem dX1_isChar_6 : decode cX1_isChar 6 = .ok (.iload_n 0, 1) := by decide +kernel
theorem dX1_isChar_7 : decode cX1_isChar 7 = .ok (.bipush 10, 2) := by decide +kernel
theorem dX1_isChar_9 : decode cX1_isChar 9 = .ok (.if_icmp .eq 23, 3) := by decide +kernel
theorem dX1_isChar_12 : decode cX1_isChar 12 = .ok (.iload_n 0, 1) := by decide +kernel
theorem dX1_isChar_13 : decode cX1_isChar 13 = .ok (.bipush 13, 2) := by decide +kernel
theorem dX1_isChar_15 : decode cX1_isChar 15 = .ok (.if_icmp .eq 17, 3) := by decide +kernel
theorem dX1_isChar_18 : decode cX1_isChar 18 = .ok (.iload_n 0, 1) := by decide +kernel
theorem dX1_isChar_19 : decode cX1_isChar 19 = .ok (.i2l, 1) := by decide +kernel
theorem dX1_isChar_20 : decode cX1_isChar 20 = .ok (.ldc2_w 252, 3) := by decide +kernel
theorem dX1_isChar_23 : decode cX1_isChar 23 = .ok (.ldc2_w 254, 3) := by decide +kernel
theorem dX1_isChar_26 : decode cX1_isChar 26 = .ok (.invokestatic 256, 3) := by decide +kernel
theorem dX1_isChar_29 : decode cX1_isChar 29 = .ok (.ifCond .eq 7, 3) := by decide +kernel
theorem dX1_isChar_32 : decode cX1_isChar 32 = .ok (.iconst 1, 1) := by decide +kernel
theorem dX1_isChar_33 : decode cX1_isChar 33 = .ok (.goto 4, 3) := by decide +kernel
theorem dX1_isChar_36 : decode cX1_isChar 36 = .ok (.iconst 0, 1) := by decide +kernel
theorem dX1_isChar_37 : decode cX1_isChar 37 = .ok (.ireturn, 1) := by decide +kernel
def m_isChar (σ : MEM) (a0 : Int) : Option zm_O := if a0 = 9 then (some (1, σ)) else (if a0 = 10 then (some (1, σ)) else (if a0 = 13 then (some (1, σ)) else (bd (m_in σ a0 32 126) (fun r1 σ2 => if r1 = 0 then (some (0, σ2)) else (some (1, σ2))))))
theorem w_isChar {G : zm_G} (hD : zm_D G) (σ : MEM) (a0 : Int) (ha0 : inR a0) (o : zm_O) (hd : m_isChar σ a0 = some o) : zm_Met G yX1_isChar cX1_isChar 1 (Option.some FieldType.boolean) 3 1 25 σ [iv a0] o := by
  refine zm_intro hD hd (by decide) rfl (Nat.le_of_ble_eq_true rfl) rfl (fun C h hc => ?_)
  have hN : ∀ i, i < 1 → i < zv_n C := fun i q => by rw [hc.2.2.1]; exact q
  unfold m_isChar
  refine r_iload_n h 0 dX1_isChar_0 rfl rfl ?_
  refine r_bipush h dX1_isChar_1 (by decide) ?_
  refine r_icmp_eq h ha0 (by decide) 32 dX1_isChar_3 rfl ?_ ?_
  · refine r_iconst h dX1_isChar_32 ?_
    refine r_goto h 37 dX1_isChar_33 rfl ?_
    exact zm_zret h hc rfl (by decide) dX1_isChar_37
  · refine r_iload_n h 0 dX1_isChar_6 rfl rfl ?_
    refine r_bipush h dX1_isChar_7 (by decide) ?_
    refine r_icmp_eq h ha0 (by decide) 32 dX1_isChar_9 rfl ?_ ?_
    · refine r_iconst h dX1_isChar_32 ?_
      refine r_goto h 37 dX1_isChar_33 rfl ?_
      exact zm_zret h hc rfl (by decide) dX1_isChar_37
    · refine r_iload_n h 0 dX1_isChar_12 rfl rfl ?_
      refine r_bipush h dX1_isChar_13 (by decide) ?_
      refine r_icmp_eq h ha0 (by decide) 32 dX1_isChar_15 rfl ?_ ?_
      · refine r_iconst h dX1_isChar_32 ?_
        refine r_goto h 37 dX1_isChar_33 rfl ?_
        exact zm_zret h hc rfl (by decide) dX1_isChar_37
      · refine r_iload_n h 0 dX1_isChar_18 rfl rfl ?_
        refine r_i2l h ha0 dX1_isChar_19 ?_
        refine r_ldc2 (x := 32) h q1838 (by decide) dX1_isChar_20 ?_
        refine r_ldc2 (x := 126) h q1839 (by decide) dX1_isChar_23 ?_
        refine zm_cSz h hc (n := 3) (As := [jv a0, jv 32, jv 126]) (fun o1 e1 => w_in hc.1 _ a0 32 126 ha0.l (by decide) (by decide) o1 e1) q1790 q1791 q136 q1792 (by decide +kernel) ⟨by decide, by decide⟩ rfl (Nat.le_of_ble_eq_true rfl) rfl dX1_isChar_26 (fun r1 σ2 hr3 => ?_)
        refine r_if_eq h hr3.r 36 dX1_isChar_29 rfl ?_ ?_
        · refine r_iconst h dX1_isChar_36 ?_
          exact zm_zret h hc rfl (by decide) dX1_isChar_37
        · refine r_iconst h dX1_isChar_32 ?_
          refine r_goto h 37 dX1_isChar_33 rfl ?_
          exact zm_zret h hc rfl (by decide) dX1_isChar_37
theorem dX1_passes_0 : decode cX1_passes 0 = .ok (.aload_n 0, 1) := by decide +kernel
theorem dX1_passes_1 : decode cX1_passes 1 = .ok (.invokevirtual 289, 3) := by decide +kernel
theorem dX1_passes_4 : decode cX1_passes 4 = .ok (.ifCond .eq 24, 3) := by decide +kernel
theorem dX1_passes_7 : decode cX1_passes 7 = .ok (.aload_n 0, 1) := by decide +kernel
theorem dX1_passes_8 : decode cX1_passes 8 = .ok (.aload_n 0, 1) := by decide +kernel
theorem dX1_passes_9 : decode cX1_passes 9 = .ok (.getfield 276, 3) := by decide +kernel
theorem dX1_passes_12 : decode cX1_passes 12 = .ok (.invokevirtual 279, 3) := by decide +kernel
theorem dX1_passes_15 : decode cX1_passes 15 = .ok (.iload_n 1, 1) := by decide +kernel
theorem dX1_passes_16 : decode cX1_passes 16 = .ok (.if_icmp .eq 12, 3) := by decide +kernel
theorem dX1_passes_19 : decode cX1_passes 19 = .ok (.aload_n 0, 1) := by decide +kernel
theorem dX1_passes_20 : decode cX1_passes 20 = .ok (.iconst (-1), 1) := by decide +kernel
theorem dX1_passes_21 : decode cX1_passes 21 = .ok (.aload_n 0, 1) := by decide +kernel
theorem dX1_passes_22 : decode cX1_passes 22 = .ok (.getfield 276, 3) := by decide +kernel
theorem dX1_passes_25 : decode cX1_passes 25 = .ok (.invokevirtual 293, 3) := by decide +kernel
theorem dX1_passes_28 : decode cX1_passes 28 = .ok (.aload_n 0, 1) := by decide +kernel
theorem dX1_passes_29 : decode cX1_passes 29 = .ok (.dup, 1) := by decide +kernel
theorem dX1_passes_30 : decode cX1_passes 30 = .ok (.getfield 276, 3) := by decide +kernel
theorem dX1_passes_33 : decode cX1_passes 33 = .ok (.aload_n 0, 1) := by decide +kernel
theorem dX1_passes_34 : decode cX1_passes 34 = .ok (.invokevirtual 289, 3) := by decide +kernel
theorem dX1_passes_37 : decode cX1_passes 37 = .ok (.ifCond .eq 7, 3) := by decide +kernel
theorem dX1_passes_40 : decode cX1_passes 40 = .ok (.iconst 1, 1) := by decide +kernel
theorem dX1_passes_41 : decode cX1_passes 41 = .ok (.goto 4, 3) := by decide +kernel
theorem dX1_passes_44 : decode cX1_passes 44 = .ok (.iconst 0, 1) := by decide +kernel
theorem dX1_passes_45 : decode cX1_passes 45 = .ok (.iadd, 1) := by decide +kernel
theorem dX1_passes_46 : decode cX1_passes 46 = .ok (.putfield 276, 3) := by decide +kernel
theorem dX1_passes_49 : decode cX1_passes 49 = .ok (.aload_n 0, 1) := by decide +kernel
theorem dX1_passes_50 : decode cX1_passes 50 = .ok (.invokevirtual 289, 3) := by decide +kernel
theorem dX1_passes_53 : decode cX1_passes 53 = .ok (.ireturn, 1) := by decide +kernel
def m_passes_28 (σ : MEM) : Option zm_O := bd (m_isGood σ) (fun r2 σ3 => if r2 = 0 then (ck (inR ((σ (-1) 4) + 0)) (nu (mup σ3 (-1) 4 ((σ (-1) 4) + 0)) (fun σ6 => bd (m_isGood σ6) (fun r7 σ8 => some (r7, σ8))))) else (ck (inR ((σ (-1) 4) + 1)) (nu (mup σ3 (-1) 4 ((σ (-1) 4) + 1)) (fun σ11 => bd (m_isGood σ11) (fun r12 σ13 => some (r12, σ13))))))
theorem w_passes_28 {C : zv_Cx zm_O} {G : zm_G} (h : zv_Ok C cX1_passes RX1) (hc : zm_C C G 2 (Option.some FieldType.boolean) 3 1 22) (σ : MEM) : VV C (m_passes_28 σ ) σ [(0, .ref (zm_h G))] [] 28 := by
  have hN : ∀ i, i < 2 → i < zv_n C := fun i q => by rw [hc.2.2.1]; exact q
  unfold m_passes_28
  refine r_aload_n h 0 dX1_passes_28 rfl rfl ?_
  refine r_dup h dX1_passes_29 rfl ?_
  refine zm_getI h hc 4 4 (by decide) rfl rfl q1484 rfl dX1_passes_30 (fun hr1 => ?_)
  refine r_aload_n h 0 dX1_passes_33 rfl rfl ?_
  refine zm_cVz h hc (n := 0) (As := []) (fun o1 e1 => w_isGood hc.1 _ o1 e1) q1801 q1803 qs56 q136 q1804 (by decide +kernel) ⟨by decide, by decide⟩ rfl (Nat.le_of_ble_eq_true rfl) rfl dX1_passes_34 (fun r2 σ3 hr4 => ?_)
  refine r_if_eq h hr4.r 44 dX1_passes_37 rfl ?_ ?_
  · refine r_iconst h dX1_passes_44 ?_
    refine r_iadd h dX1_passes_45 ?_
    refine r_ck (fun hk5 => ?_)
    refine zm_putI h hc 4 4 (by decide) rfl rfl q1484 ⟨rfl, rfl, by decide +kernel⟩ hk5 dX1_passes_46 (fun σ6 _ => ?_)
    refine r_aload_n h 0 dX1_passes_49 rfl rfl ?_
    refine zm_cVz h hc (n := 0) (As := []) (fun o1 e1 => w_isGood hc.1 _ o1 e1) q1801 q1803 qs56 q136 q1804 (by decide +kernel) ⟨by decide, by decide⟩ rfl (Nat.le_of_ble_eq_true rfl) rfl dX1_passes_50 (fun r7 σ8 hr9 => ?_)
    exact zm_zret h hc rfl hr9 dX1_passes_53
  · refine r_iconst h dX1_passes_40 ?_
    refine r_goto h 45 dX1_passes_41 rfl ?_
    refine r_iadd h dX1_passes_45 ?_
    refine r_ck (fun hk10 => ?_)
    refine zm_putI h hc 4 4 (by decide) rfl rfl q1484 ⟨rfl, rfl, by decide +kernel⟩ hk10 dX1_passes_46 (fun σ11 _ => ?_)
    refine r_aload_n h 0 dX1_passes_49 rfl rfl ?_
    refine zm_cVz h hc (n := 0) (As := []) (fun o1 e1 => w_isGood hc.1 _ o1 e1) q1801 q1803 qs56 q136 q1804 (by decide +kernel) ⟨by decide, by decide⟩ rfl (Nat.le_of_ble_eq_true rfl) rfl dX1_passes_50 (fun r12 σ13 hr14 => ?_)
    exact zm_zret h hc rfl hr14 dX1_passes_53
def m_passes (σ : MEM) (a0 : Int) : Option zm_O := bd (m_isGood σ) (fun r1 σ2 => if r1 = 0 then (m_passes_28 σ2) else (bd (m_octet σ2 (σ2 (-1) 4)) (fun r5 σ6 => if r5 = a0 then (m_passes_28 σ6) else (bd (m_fail σ6 (-1) (σ6 (-1) 4)) (fun _ σ9 => m_passes_28 σ9)))))
theorem w_passes {G : zm_G} (hD : zm_D G) (σ : MEM) (a0 : Int) (ha0 : inR a0) (o : zm_O) (hd : m_passes σ a0 = some o) : zm_Met G yX1_passes cX1_passes 2 (Option.some FieldType.boolean) 3 1 22 σ [.ref (zm_h G), iv a0] o := by
  refine zm_intro hD hd (by decide) rfl (Nat.le_of_ble_eq_true rfl) rfl (fun C h hc => ?_)
  have hN : ∀ i, i < 2 → i < zv_n C := fun i q => by rw [hc.2.2.1]; exact q
  unfold m_passes
  refine r_aload_n h 0 dX1_passes_0 rfl rfl ?_
  refine zm_cVz h hc (n := 0) (As := []) (fun o1 e1 => w_isGood hc.1 _ o1 e1) q1801 q1803 qs56 q136 q1804 (by decide +kernel) ⟨by decide, by decide⟩ rfl (Nat.le_of_ble_eq_true rfl) rfl dX1_passes_1 (fun r1 σ2 hr3 => ?_)
  refine r_if_eq h hr3.r 28 dX1_passes_4 rfl ?_ ?_
  · exact r_lv [0] rfl (w_passes_28 h hc _)
  · refine r_aload_n h 0 dX1_passes_7 rfl rfl ?_
    refine r_aload_n h 0 dX1_passes_8 rfl rfl ?_
    refine zm_getI h hc 4 4 (by decide) rfl rfl q1484 rfl dX1_passes_9 (fun hr4 => ?_)
    refine zm_cVi h hc (n := 1) (As := [iv (σ2 (-1) 4)]) (fun o1 e1 => w_octet hc.1 _ (σ2 (-1) 4) hr4 o1 e1) q1817 q1819 qs60 q136 q1820 (by decide +kernel) ⟨by decide, by decide⟩ rfl (Nat.le_of_ble_eq_true rfl) rfl dX1_passes_12 (fun r5 σ6 hr7 => ?_)
    refine r_iload_n h 1 dX1_passes_15 rfl rfl ?_
    refine r_icmp_eq h hr7 ha0 28 dX1_passes_16 rfl ?_ ?_
    · exact r_lv [0] rfl (w_passes_28 h hc _)
    · refine r_aload_n h 0 dX1_passes_19 rfl rfl ?_
      refine r_iconst h dX1_passes_20 ?_
      refine r_aload_n h 0 dX1_passes_21 rfl rfl ?_
      refine zm_getI h hc 4 4 (by decide) rfl rfl q1484 rfl dX1_passes_22 (fun hr8 => ?_)
      refine zm_cVv h hc (n := 2) (As := [iv (-1), iv (σ6 (-1) 4)]) (fun o1 e1 => w_fail hc.1 _ (-1) (σ6 (-1) 4) (by decide) hr8 o1 e1) q1805 q1807 qs57 q136 q1808 (by decide +kernel) ⟨by decide, by decide⟩ rfl (Nat.le_of_ble_eq_true rfl) rfl dX1_passes_25 (fun σ9  => ?_)
      exact r_lv [0] rfl (w_passes_28 h hc _)
theorem dX1_comment_0 : decode cX1_comment 0 = .ok (.aload_n 0, 1) := by decide +kernel
theorem dX1_comment_1 : decode cX1_comment 1 = .ok (.dup, 1) := by decide +kernel
theorem dX1_comment_2 : decode cX1_comment 2 = .ok (.getfield 276, 3) := by decide +kernel
theorem dX1_comment_5 : decode cX1_comment 5 = .ok (.iconst 4, 1) := by decide +kernel
theorem dX1_comment_6 : decode cX1_comment 6 = .ok (.iadd, 1) := by decide +kernel
theorem dX1_comment_7 : decode cX1_comment 7 = .ok (.putfield 276, 3) := by decide +kernel
theorem dX1_comment_10 : decode cX1_comment 10 = .ok (.aload_n 0, 1) := by decide +kernel
theorem dX1_comment_11 : decode cX1_comment 11 = .ok (.invokevirtual 289, 3) := by decide +kernel
theorem dX1_comment_14 : decode cX1_comment 14 = .ok (.ifCond .eq 50, 3) := by decide +kernel
theorem dX1_comment_17 : decode cX1_comment 17 = .ok (.aload_n 0, 1) := by decide +kernel
theorem dX1_comment_18 : decode cX1_comment 18 = .ok (.ldc2_w 338, 3) := by decide +kernel
theorem dX1_comment_21 : decode cX1_comment 21 = .ok (.iconst 2, 1) := by decide +kernel
theorem dX1_comment_22 : decode cX1_comment 22 = .ok (.invokevirtual 285, 3) := by decide +kernel
theorem dX1_comment_25 : decode cX1_comment 25 = .ok (.ifCond .ne 39, 3) := by decide +kernel
theorem dX1_comment_28 : decode cX1_comment 28 = .ok (.aload_n 0, 1) := by decide +kernel
theorem dX1_comment_29 : decode cX1_comment 29 = .ok (.aload_n 0, 1) := by decide +kernel
theorem dX1_comment_30 : decode cX1_comment 30 = .ok (.getfield 276, 3) := by decide +kernel
theorem dX1_comment_33 : decode cX1_comment 33 = .ok (.invokevirtual 279, 3) := by decide +kernel
theorem dX1_comment_36 : decode cX1_comment 36 = .ok (.invokestatic 313, 3) := by decide +kernel
theorem dX1_comment_39 : decode cX1_comment 39 = .ok (.ifCond .ne 12, 3) := by decide +kernel
theorem dX1_comment_42 : decode cX1_comment 42 = .ok (.aload_n 0, 1) := by decide +kernel
theorem dX1_comment_43 : decode cX1_comment 43 = .ok (.iconst (-1), 1) := by decide +kernel
theorem dX1_comment_44 : decode cX1_comment 44 = .ok (.aload_n 0, 1) := by decide +kernel
theorem dX1_comment_45 : decode cX1_comment 45 = .ok (.getfield 276, 3) := by decide +kernel
theorem dX1_comment_48 : decode cX1_comment 48 = .ok (.invokevirtual 293, 3) := by decide +kernel
theorem dX1_comment_51 : decode cX1_comment 51 = .ok (.aload_n 0, 1) := by decide +kernel
theorem dX1_comment_52 : decode cX1_comment 52 = .ok (.dup, 1) := by decide +kernel
theorem dX1_comment_53 : decode cX1_comment 53 = .ok (.getfield 276, 3) := by decide +kernel
theorem dX1_comment_56 : decode cX1_comment 56 = .ok (.iconst 1, 1) := by decide +kernel
theorem dX1_comment_57 : decode cX1_comment 57 = .ok (.iadd, 1) := by decide +kernel
theorem dX1_comment_58 : decode cX1_comment 58 = .ok (.putfield 276, 3) := by decide +kernel
theorem dX1_comment_61 : decode cX1_comment 61 = .ok (.goto (-51), 3) := by decide +kernel
theorem dX1_comment_64 : decode cX1_comment 64 = .ok (.aload_n 0, 1) := by decide +kernel
theorem dX1_comment_65 : decode cX1_comment 65 = .ok (.dup, 1) := by decide +kernel
theorem dX1_comment_66 : decode cX1_comment 66 = .ok (.getfield 276, 3) := by decide +kernel
theorem dX1_comment_69 : decode cX1_comment 69 = .ok (.iconst 2, 1) := by decide +kernel
theorem dX1_comment_70 : decode cX1_comment 70 = .ok (.iadd, 1) := by decide +kernel
theorem dX1_comment_71 : decode cX1_comment 71 = .ok (.putfield 276, 3) := by decide +kernel
theorem dX1_comment_74 : decode cX1_comment 74 = .ok (.aload_n 0, 1) := by decide +kernel
theorem dX1_comment_75 : decode cX1_comment 75 = .ok (.bipush 62, 2) := by decide +kernel
theorem dX1_comment_77 : decode cX1_comment 77 = .ok (.invokevirtual 340, 3) := by decide +kernel
theorem dX1_comment_80 : decode cX1_comment 80 = .ok (.istore_n 1, 1) := by decide +kernel
theorem dX1_comment_81 : decode cX1_comment 81 = .ok (.return_, 1) := by decide +kernel
def m_comment_64 (σ : MEM) : Option zm_O := ck (inR ((σ (-1) 4) + 2)) (nu (mup σ (-1) 4 ((σ (-1) 4) + 2)) (fun σ3 => bd (m_passes σ3 62) (fun r4 σ5 => some (0, σ5))))
theorem w_comment_64 {C : zv_Cx zm_O} {G : zm_G} (h : zv_Ok C cX1_comment RX1) (hc : zm_C C G 2 (Option.none : Option FieldType) 0 2 46) (σ : MEM) : VV C (m_comment_64 σ ) σ [(0, .ref (zm_h G))] [] 64 := by
  have hN : ∀ i, i < 2 → i < zv_n C := fun i q => by rw [hc.2.2.1]; exact q
  unfold m_comment_64
  refine r_aload_n h 0 dX1_comment_64 rfl rfl ?_
  refine r_dup h dX1_comment_65 rfl ?_
  refine zm_getI h hc 4 4 (by decide) rfl rfl q1484 rfl dX1_comment_66 (fun hr1 => ?_)
  refine r_iconst h dX1_comment_69 ?_
  refine r_iadd h dX1_comment_70 ?_
  refine r_ck (fun hk2 => ?_)
  refine zm_putI h hc 4 4 (by decide) rfl rfl q1484 ⟨rfl, rfl, by decide +kernel⟩ hk2 dX1_comment_71 (fun σ3 _ => ?_)
  refine r_aload_n h 0 dX1_comment_74 rfl rfl ?_
  refine r_bipush h dX1_comment_75 (by decide) ?_
  refine zm_cVz h hc (n := 1) (As := [iv 62]) (fun o1 e1 => w_passes hc.1 _ 62 (by decide) o1 e1) q1840 q1842 qs63 q136 q1843 (by decide +kernel) ⟨by decide, by decide⟩ rfl (Nat.le_of_ble_eq_true rfl) rfl dX1_comment_77 (fun r4 σ5 hr6 => ?_)
  refine r_istore_n (lv' := [(1, iv r4), (0, .ref (zm_h G))]) h dX1_comment_80 rfl (hN _ (by decide)) rfl ?_
  exact zm_vret h hc rfl dX1_comment_81
def m_comment_51 (lp10 : MEM → Option zm_O) (σ : MEM) : Option zm_O := ck (inR ((σ (-1) 4) + 1)) (nu (mup σ (-1) 4 ((σ (-1) 4) + 1)) (fun σ3 => lp10 σ3))
theorem w_comment_51 {C : zv_Cx zm_O} {G : zm_G} (h : zv_Ok C cX1_comment RX1) (hc : zm_C C G 2 (Option.none : Option FieldType) 0 2 46) (lp10 : MEM → Option zm_O) (hlp10 : ∀ (σ : MEM), VV C (lp10 σ ) σ [(0, .ref (zm_h G))] [] 10) (σ : MEM) : VV C (m_comment_51 lp10 σ ) σ [(0, .ref (zm_h G))] [] 51 := by
  have hN : ∀ i, i < 2 → i < zv_n C := fun i q => by rw [hc.2.2.1]; exact q
  unfold m_comment_51
  refine r_aload_n h 0 dX1_comment_51 rfl rfl ?_
  refine r_dup h dX1_comment_52 rfl ?_
  refine zm_getI h hc 4 4 (by decide) rfl rfl q1484 rfl dX1_comment_53 (fun hr1 => ?_)
  refine r_iconst h dX1_comment_56 ?_
  refine r_iadd h dX1_comment_57 ?_
  refine r_ck (fun hk2 => ?_)
  refine zm_putI h hc 4 4 (by decide) rfl rfl q1484 ⟨rfl, rfl, by decide +kernel⟩ hk2 dX1_comment_58 (fun σ3 _ => ?_)
  refine r_goto h 10 dX1_comment_61 rfl ?_
  exact r_lv [0] rfl (hlp10 _)
def m_comment_10 : Nat → MEM → Option zm_O
  | 0, _ => none
  | n + 1, σ => bd (m_isGood σ) (fun r1 σ2 => if r1 = 0 then (m_comment_64 σ2) else (bd (m_stands σ2 11565 2) (fun r4 σ5 => if r4 = 0 then (bd (m_octet σ5 (σ5 (-1) 4)) (fun r8 σ9 => bd (m_isChar σ9 r8) (fun r11 σ12 => if r11 = 0 then (bd (m_fail σ12 (-1) (σ12 (-1) 4)) (fun _ σ15 => m_comment_51 (m_comment_10 n) σ15)) else (m_comment_51 (m_comment_10 n) σ12)))) else (m_comment_64 σ5))))
theorem w_comment_10 {C : zv_Cx zm_O} {G : zm_G} (h : zv_Ok C cX1_comment RX1) (hc : zm_C C G 2 (Option.none : Option FieldType) 0 2 46) : ∀ (n : Nat) (σ : MEM), VV C (m_comment_10 n σ ) σ [(0, .ref (zm_h G))] [] 10 := by
  have hN : ∀ i, i < 2 → i < zv_n C := fun i q => by rw [hc.2.2.1]; exact q
  intro n
  induction n with
  | zero => intros; exact r_none
  | succ n ih =>
    intro σ  
    rw [m_comment_10]
    refine r_aload_n h 0 dX1_comment_10 rfl rfl ?_
    refine zm_cVz h hc (n := 0) (As := []) (fun o1 e1 => w_isGood hc.1 _ o1 e1) q1801 q1803 qs56 q136 q1804 (by decide +kernel) ⟨by decide, by decide⟩ rfl (Nat.le_of_ble_eq_true rfl) rfl dX1_comment_11 (fun r1 σ2 hr3 => ?_)
    refine r_if_eq h hr3.r 64 dX1_comment_14 rfl ?_ ?_
    · exact r_lv [0] rfl (w_comment_64 h hc _)
    · refine r_aload_n h 0 dX1_comment_17 rfl rfl ?_
      refine r_ldc2 (x := 11565) h q1834 (by decide) dX1_comment_18 ?_
      refine r_iconst h dX1_comment_21 ?_
      refine zm_cVz h hc (n := 2) (As := [jv 11565, iv 2]) (fun o1 e1 => w_stands hc.1 _ 11565 2 (by decide) (by decide) o1 e1) q1825 q1827 qs61 q136 q1828 (by decide +kernel) ⟨by decide, by decide⟩ rfl (Nat.le_of_ble_eq_true rfl) rfl dX1_comment_22 (fun r4 σ5 hr6 => ?_)
      refine r_if_ne h hr6.r 64 dX1_comment_25 rfl ?_ ?_
      · refine r_aload_n h 0 dX1_comment_28 rfl rfl ?_
        refine r_aload_n h 0 dX1_comment_29 rfl rfl ?_
        refine zm_getI h hc 4 4 (by decide) rfl rfl q1484 rfl dX1_comment_30 (fun hr7 => ?_)
        refine zm_cVi h hc (n := 1) (As := [iv (σ5 (-1) 4)]) (fun o1 e1 => w_octet hc.1 _ (σ5 (-1) 4) hr7 o1 e1) q1817 q1819 qs60 q136 q1820 (by decide +kernel) ⟨by decide, by decide⟩ rfl (Nat.le_of_ble_eq_true rfl) rfl dX1_comment_33 (fun r8 σ9 hr10 => ?_)
        refine zm_cSz h hc (n := 1) (As := [iv r8]) (fun o1 e1 => w_isChar hc.1 _ r8 hr10 o1 e1) q1835 q1836 q136 q1837 (by decide +kernel) ⟨by decide, by decide⟩ rfl (Nat.le_of_ble_eq_true rfl) rfl dX1_comment_36 (fun r11 σ12 hr13 => ?_)
        refine r_if_ne h hr13.r 51 dX1_comment_39 rfl ?_ ?_
        · refine r_aload_n h 0 dX1_comment_42 rfl rfl ?_
          refine r_iconst h dX1_comment_43 ?_
          refine r_aload_n h 0 dX1_comment_44 rfl rfl ?_
          refine zm_getI h hc 4 4 (by decide) rfl rfl q1484 rfl dX1_comment_45 (fun hr14 => ?_)
          refine zm_cVv h hc (n := 2) (As := [iv (-1), iv (σ12 (-1) 4)]) (fun o1 e1 => w_fail hc.1 _ (-1) (σ12 (-1) 4) (by decide) hr14 o1 e1) q1805 q1807 qs57 q136 q1808 (by decide +kernel) ⟨by decide, by decide⟩ rfl (Nat.le_of_ble_eq_true rfl) rfl dX1_comment_48 (fun σ15  => ?_)
          exact r_lv [0] rfl (w_comment_51 h hc (m_comment_10 n) ih _)
        · exact r_lv [0] rfl (w_comment_51 h hc (m_comment_10 n) ih _)
      · exact r_lv [0] rfl (w_comment_64 h hc _)
def m_comment (σ : MEM) : Option zm_O := ck (inR ((σ (-1) 4) + 4)) (nu (mup σ (-1) 4 ((σ (-1) 4) + 4)) (fun σ3 => m_comment_10 zF σ3))
theorem w_comment {G : zm_G} (hD : zm_D G) (σ : MEM) (o : zm_O) (hd : m_comment σ  = some o) : zm_Met G yX1_comment cX1_comment 2 (Option.none : Option FieldType) 0 2 46 σ [.ref (zm_h G)] o := by
  refine zm_intro hD hd (by decide) rfl (Nat.le_of_ble_eq_true rfl) rfl (fun C h hc => ?_)
  have hN : ∀ i, i < 2 → i < zv_n C := fun i q => by rw [hc.2.2.1]; exact q
  unfold m_comment
  refine r_aload_n h 0 dX1_comment_0 rfl rfl ?_
  refine r_dup h dX1_comment_1 rfl ?_
  refine zm_getI h hc 4 4 (by decide) rfl rfl q1484 rfl dX1_comment_2 (fun hr1 => ?_)
  refine r_iconst h dX1_comment_5 ?_
  refine r_iadd h dX1_comment_6 ?_
  refine r_ck (fun hk2 => ?_)
  refine zm_putI h hc 4 4 (by decide) rfl rfl q1484 ⟨rfl, rfl, by decide +kernel⟩ hk2 dX1_comment_7 (fun σ3 _ => ?_)
  exact r_lv [0] rfl (w_comment_10 h hc zF _)
theorem dX1_misc_0 : decode cX1_misc 0 = .ok (.aload_n 0, 1) := by decide +kernel
theorem dX1_misc_1 : decode cX1_misc 1 = .ok (.invokevirtual 300, 3) := by decide +kernel
theorem dX1_misc_4 : decode cX1_misc 4 = .ok (.aload_n 0, 1) := by decide +kernel
theorem dX1_misc_5 : decode cX1_misc 5 = .ok (.invokevirtual 289, 3) := by decide +kernel
theorem dX1_misc_8 : decode cX1_misc 8 = .ok (.ifCond .eq 25, 3) := by decide +kernel
theorem dX1_misc_11 : decode cX1_misc 11 = .ok (.aload_n 0, 1) := by decide +kernel
theorem dX1_misc_12 : decode cX1_misc 12 = .ok (.ldc2_w 343, 3) := by decide +kernel
theorem dX1_misc_15 : decode cX1_misc 15 = .ok (.iconst 4, 1) := by decide +kernel
theorem dX1_misc_16 : decode cX1_misc 16 = .ok (.invokevirtual 285, 3) := by decide +kernel
theorem dX1_misc_19 : decode cX1_misc 19 = .ok (.ifCond .eq 14, 3) := by decide +kernel
theorem dX1_misc_22 : decode cX1_misc 22 = .ok (.aload_n 0, 1) := by decide +kernel
theorem dX1_misc_23 : decode cX1_misc 23 = .ok (.invokevirtual 345, 3) := by decide +kernel
theorem dX1_misc_26 : decode cX1_misc 26 = .ok (.aload_n 0, 1) := by decide +kernel
theorem dX1_misc_27 : decode cX1_misc 27 = .ok (.invokevirtual 300, 3) := by decide +kernel
theorem dX1_misc_30 : decode cX1_misc 30 = .ok (.goto (-26), 3) := by decide +kernel
theorem dX1_misc_33 : decode cX1_misc 33 = .ok (.return_, 1) := by decide +kernel
def m_misc_4 : Nat → MEM → Option zm_O
  | 0, _ => none
  | n + 1, σ => bd (m_isGood σ) (fun r1 σ2 => if r1 = 0 then (some (0, σ2)) else (bd (m_stands σ2 1008807213 4) (fun r4 σ5 => if r4 = 0 then (some (0, σ5)) else (bd (m_comment σ5) (fun _ σ7 => bd (m_maybeS σ7) (fun _ σ8 => m_misc_4 n σ8))))))
theorem w_misc_4 {C : zv_Cx zm_O} {G : zm_G} (h : zv_Ok C cX1_misc RX1) (hc : zm_C C G 1 (Option.none : Option FieldType) 0 3 67) : ∀ (n : Nat) (σ : MEM), VV C (m_misc_4 n σ ) σ [(0, .ref (zm_h G))] [] 4 := by
  have hN : ∀ i, i < 1 → i < zv_n C := fun i q => by rw [hc.2.2.1]; exact q
  intro n
  induction n with
  | zero => intros; exact r_none
  | succ n ih =>
    intro σ  
    rw [m_misc_4]
    refine r_aload_n h 0 dX1_misc_4 rfl rfl ?_
    refine zm_cVz h hc (n := 0) (As := []) (fun o1 e1 => w_isGood hc.1 _ o1 e1) q1801 q1803 qs56 q136 q1804 (by decide +kernel) ⟨by decide, by decide⟩ rfl (Nat.le_of_ble_eq_true rfl) rfl dX1_misc_5 (fun r1 σ2 hr3 => ?_)
    refine r_if_eq h hr3.r 33 dX1_misc_8 rfl ?_ ?_
    · exact zm_vret h hc rfl dX1_misc_33
    · refine r_aload_n h 0 dX1_misc_11 rfl rfl ?_
      refine r_ldc2 (x := 1008807213) h q1824 (by decide) dX1_misc_12 ?_
      refine r_iconst h dX1_misc_15 ?_
      refine zm_cVz h hc (n := 2) (As := [jv 1008807213, iv 4]) (fun o1 e1 => w_stands hc.1 _ 1008807213 4 (by decide) (by decide) o1 e1) q1825 q1827 qs61 q136 q1828 (by decide +kernel) ⟨by decide, by decide⟩ rfl (Nat.le_of_ble_eq_true rfl) rfl dX1_misc_16 (fun r4 σ5 hr6 => ?_)
      refine r_if_eq h hr6.r 33 dX1_misc_19 rfl ?_ ?_
      · exact zm_vret h hc rfl dX1_misc_33
      · refine r_aload_n h 0 dX1_misc_22 rfl rfl ?_
        refine zm_cVv h hc (n := 0) (As := []) (fun o1 e1 => w_comment hc.1 _ o1 e1) q1830 q1832 qs62 q136 q1833 (by decide +kernel) ⟨by decide, by decide⟩ rfl (Nat.le_of_ble_eq_true rfl) rfl dX1_misc_23 (fun σ7  => ?_)
        refine r_aload_n h 0 dX1_misc_26 rfl rfl ?_
        refine zm_cVv h hc (n := 0) (As := []) (fun o1 e1 => w_maybeS hc.1 _ o1 e1) q1813 q1815 qs59 q136 q1816 (by decide +kernel) ⟨by decide, by decide⟩ rfl (Nat.le_of_ble_eq_true rfl) rfl dX1_misc_27 (fun σ8  => ?_)
        refine r_goto h 4 dX1_misc_30 rfl ?_
        exact r_lv [0] rfl (ih _)
def m_misc (σ : MEM) : Option zm_O := bd (m_maybeS σ) (fun _ σ1 => m_misc_4 zF σ1)
theorem w_misc {G : zm_G} (hD : zm_D G) (σ : MEM) (o : zm_O) (hd : m_misc σ  = some o) : zm_Met G yX1_misc cX1_misc 1 (Option.none : Option FieldType) 0 3 67 σ [.ref (zm_h G)] o := by
  refine zm_intro hD hd (by decide) rfl (Nat.le_of_ble_eq_true rfl) rfl (fun C h hc => ?_)
  have hN : ∀ i, i < 1 → i < zv_n C := fun i q => by rw [hc.2.2.1]; exact q
  unfold m_misc
  refine r_aload_n h 0 dX1_misc_0 rfl rfl ?_
  refine zm_cVv h hc (n := 0) (As := []) (fun o1 e1 => w_maybeS hc.1 _ o1 e1) q1813 q1815 qs59 q136 q1816 (by decide +kernel) ⟨by decide, by decide⟩ rfl (Nat.le_of_ble_eq_true rfl) rfl dX1_misc_1 (fun σ1  => ?_)
  exact r_lv [0] rfl (w_misc_4 h hc zF _)
theorem dX1_stands2_0 : decode cX1_stands2 0 = .ok (.aload_n 0, 1) := by decide +kernel
theorem dX1_stands2_1 : decode cX1_stands2 1 = .ok (.lload_n 1, 1) := by decide +kernel
theorem dX1_stands2_2 : decode cX1_stands2 2 = .ok (.bipush 8, 2) := by decide +kernel
theorem dX1_stands2_4 : decode cX1_stands2 4 = .ok (.invokevirtual 285, 3) := by decide +kernel
theorem dX1_stands2_7 : decode cX1_stands2 7 = .ok (.istore 6, 2) := by decide +kernel
theorem dX1_stands2_9 : decode cX1_stands2 9 = .ok (.aload_n 0, 1) := by decide +kernel
theorem dX1_stands2_10 : decode cX1_stands2 10 = .ok (.dup, 1) := by decide +kernel
theorem dX1_stands2_11 : decode cX1_stands2 11 = .ok (.getfield 276, 3) := by decide +kernel
theorem dX1_stands2_14 : decode cX1_stands2 14 = .ok (.bipush 8, 2) := by decide +kernel
theorem dX1_stands2_16 : decode cX1_stands2 16 = .ok (.iadd, 1) := by decide +kernel
theorem dX1_stands2_17 : decode cX1_stands2 17 = .ok (.putfield 276, 3) := by decide +kernel
theorem dX1_stands2_20 : decode cX1_stands2 20 = .ok (.iload 6, 2) := by decide +kernel
theorem dX1_stands2_22 : decode cX1_stands2 22 = .ok (.ifCond .eq 17, 3) := by decide +kernel
theorem dX1_stands2_25 : decode cX1_stands2 25 = .ok (.aload_n 0, 1) := by decide +kernel
theorem dX1_stands2_26 : decode cX1_stands2 26 = .ok (.lload_n 3, 1) := by decide +kernel
theorem dX1_stands2_27 : decode cX1_stands2 27 = .ok (.iload 5, 2) := by decide +kernel
theorem dX1_stands2_29 : decode cX1_stands2 29 = .ok (.invokevirtual 285, 3) := by decide +kernel
theorem dX1_stands2_32 : decode cX1_stands2 32 = .ok (.ifCond .eq 7, 3) := by decide +kernel
theorem dX1_stands2_35 : decode cX1_stands2 35 = .ok (.iconst 1, 1) := by decide +kernel
theorem dX1_stands2_36 : decode cX1_stands2 36 = .ok (.goto 4, 3) := by decide +kernel
theorem dX1_stands2_39 : decode cX1_stands2 39 = .ok (.iconst 0, 1) := by decide +kernel
theorem dX1_stands2_40 : decode cX1_stands2 40 = .ok (.istore 6, 2) := by decide +kernel
theorem dX1_stands2_42 : decode cX1_stands2 42 = .ok (.aload_n 0, 1) := by decide +kernel
theorem dX1_stands2_43 : decode cX1_stands2 43 = .ok (.dup, 1) := by decide +kernel
theorem dX1_stands2_44 : decode cX1_stands2 44 = .ok (.getfield 276, 3) := by decide +kernel
theorem dX1_stands2_47 : decode cX1_stands2 47 = .ok (.bipush 8, 2) := by decide +kernel
theorem dX1_stands2_49 : decode cX1_stands2 49 = .ok (.isub, 1) := by decide +kernel
theorem dX1_stands2_50 : decode cX1_stands2 50 = .ok (.putfield 276, 3) := by decide +kernel
theorem dX1_stands2_53 : decode cX1_stands2 53 = .ok (.iload 6, 2) := by decide +kernel
theorem dX1_stands2_55 : decode cX1_stands2 55 = .ok (.ireturn, 1) := by decide +kernel
def m_stands2_40 (σ : MEM) (s0 : Int) : Option zm_O := ck (inR ((σ (-1) 4) - 8)) (nu (mup σ (-1) 4 ((σ (-1) 4) - 8)) (fun σ3 => some (s0, σ3)))
theorem w_stands2_40 {C : zv_Cx zm_O} {G : zm_G} (h : zv_Ok C cX1_stands2 RX1) (hc : zm_C C G 7 (Option.some FieldType.boolean) 3 2 46) (σ : MEM) (s0 : Int) (hs0 : isB s0) : VV C (m_stands2_40 σ s0) σ [(0, .ref (zm_h G))] [iv s0] 40 := by
  have hN : ∀ i, i < 7 → i < zv_n C := fun i q => by rw [hc.2.2.1]; exact q
  unfold m_stands2_40
  refine r_istore (lv' := [(6, iv s0), (0, .ref (zm_h G))]) h dX1_stands2_40 (hN _ (by decide)) rfl ?_
  refine r_aload_n h 1 dX1_stands2_42 rfl rfl ?_
  refine r_dup h dX1_stands2_43 rfl ?_
  refine zm_getI h hc 4 4 (by decide) rfl rfl q1484 rfl dX1_stands2_44 (fun hr1 => ?_)
  refine r_bipush h dX1_stands2_47 (by decide) ?_
  refine r_isub h dX1_stands2_49 ?_
  refine r_ck (fun hk2 => ?_)
  refine zm_putI h hc 4 4 (by decide) rfl rfl q1484 ⟨rfl, rfl, by decide +kernel⟩ hk2 dX1_stands2_50 (fun σ3 _ => ?_)
  refine r_iload h 0 dX1_stands2_53 rfl ?_
  exact zm_zret h hc rfl hs0 dX1_stands2_55
def m_stands2_39 (σ : MEM) : Option zm_O := m_stands2_40 σ 0
theorem w_stands2_39 {C : zv_Cx zm_O} {G : zm_G} (h : zv_Ok C cX1_stands2 RX1) (hc : zm_C C G 7 (Option.some FieldType.boolean) 3 2 46) (σ : MEM) : VV C (m_stands2_39 σ ) σ [(0, .ref (zm_h G))] [] 39 := by
  have hN : ∀ i, i < 7 → i < zv_n C := fun i q => by rw [hc.2.2.1]; exact q
  unfold m_stands2_39
  refine r_iconst h dX1_stands2_39 ?_
  exact r_lv [0] rfl (w_stands2_40 h hc _ 0 (by decide))
def m_stands2 (σ : MEM) (a0 a1 a2 : Int) : Option zm_O := bd (m_stands σ a0 8) (fun r1 σ2 => ck (inR ((σ2 (-1) 4) + 8)) (nu (mup σ2 (-1) 4 ((σ2 (-1) 4) + 8)) (fun σ6 => if r1 = 0 then (m_stands2_39 σ6) else (bd (m_stands σ6 a1 a2) (fun r7 σ8 => if r7 = 0 then (m_stands2_39 σ8) else (m_stands2_40 σ8 1))))))
theorem w_stands2 {G : zm_G} (hD : zm_D G) (σ : MEM) (a0 a1 a2 : Int) (ha0 : inL a0) (ha1 : inL a1) (ha2 : inR a2) (o : zm_O) (hd : m_stands2 σ a0 a1 a2 = some o) : zm_Met G yX1_stands2 cX1_stands2 7 (Option.some FieldType.boolean) 3 2 46 σ [.ref (zm_h G), jv a0, jv a1, iv a2] o := by
  refine zm_intro hD hd (by decide) rfl (Nat.le_of_ble_eq_true rfl) rfl (fun C h hc => ?_)
  have hN : ∀ i, i < 7 → i < zv_n C := fun i q => by rw [hc.2.2.1]; exact q
  unfold m_stands2
  refine r_aload_n h 0 dX1_stands2_0 rfl rfl ?_
  refine r_lload_n h 1 dX1_stands2_1 rfl rfl ?_
  refine r_bipush h dX1_stands2_2 (by decide) ?_
  refine zm_cVz h hc (n := 2) (As := [jv a0, iv 8]) (fun o1 e1 => w_stands hc.1 _ a0 8 ha0 (by decide) o1 e1) q1825 q1827 qs61 q136 q1828 (by decide +kernel) ⟨by decide, by decide⟩ rfl (Nat.le_of_ble_eq_true rfl) rfl dX1_stands2_4 (fun r1 σ2 hr3 => ?_)
  refine r_istore (lv' := [(6, iv r1), (0, .ref (zm_h G)), (1, jv a0), (3, jv a1), (5, iv a2)]) h dX1_stands2_7 (hN _ (by decide)) rfl ?_
  refine r_aload_n h 1 dX1_stands2_9 rfl rfl ?_
  refine r_dup h dX1_stands2_10 rfl ?_
  refine zm_getI h hc 4 4 (by decide) rfl rfl q1484 rfl dX1_stands2_11 (fun hr4 => ?_)
  refine r_bipush h dX1_stands2_14 (by decide) ?_
  refine r_iadd h dX1_stands2_16 ?_
  refine r_ck (fun hk5 => ?_)
  refine zm_putI h hc 4 4 (by decide) rfl rfl q1484 ⟨rfl, rfl, by decide +kernel⟩ hk5 dX1_stands2_17 (fun σ6 _ => ?_)
  refine r_iload h 0 dX1_stands2_20 rfl ?_
  refine r_if_eq h hr3.r 39 dX1_stands2_22 rfl ?_ ?_
  · exact r_lv [1] rfl (w_stands2_39 h hc _)
  · refine r_aload_n h 1 dX1_stands2_25 rfl rfl ?_
    refine r_lload_n h 3 dX1_stands2_26 rfl rfl ?_
    refine r_iload h 4 dX1_stands2_27 rfl ?_
    refine zm_cVz h hc (n := 2) (As := [jv a1, iv a2]) (fun o1 e1 => w_stands hc.1 _ a1 a2 ha1 ha2 o1 e1) q1825 q1827 qs61 q136 q1828 (by decide +kernel) ⟨by decide, by decide⟩ rfl (Nat.le_of_ble_eq_true rfl) rfl dX1_stands2_29 (fun r7 σ8 hr9 => ?_)
    refine r_if_eq h hr9.r 39 dX1_stands2_32 rfl ?_ ?_
    · exact r_lv [1] rfl (w_stands2_39 h hc _)
    · refine r_iconst h dX1_stands2_35 ?_
      refine r_goto h 40 dX1_stands2_36 rfl ?_
      exact r_lv [1] rfl (w_stands2_40 h hc _ 1 (by decide))
theorem dX1_mustS_0 : decode cX1_mustS 0 = .ok (.aload_n 0, 1) := by decide +kernel
theorem dX1_mustS_1 : decode cX1_mustS 1 = .ok (.invokevirtual 289, 3) := by decide +kernel
theorem dX1_mustS_4 : decode cX1_mustS 4 = .ok (.ifCond .eq 26, 3) := by decide +kernel
theorem dX1_mustS_7 : decode cX1_mustS 7 = .ok (.aload_n 0, 1) := by decide +kernel
theorem dX1_mustS_8 : decode cX1_mustS 8 = .ok (.aload_n 0, 1) := by decide +kernel
theorem dX1_mustS_9 : decode cX1_mustS 9 = .ok (.getfield 276, 3) := by decide +kernel
theorem dX1_mustS_12 : decode cX1_mustS 12 = .ok (.invokevirtual 279, 3) := by decide +kernel
theorem dX1_mustS_15 : decode cX1_mustS 15 = .ok (.invokestatic 297, 3) := by decide +kernel
theorem dX1_mustS_18 : decode cX1_mustS 18 = .ok (.ifCond .ne 12, 3) := by decide +kernel
theorem dX1_mustS_21 : decode cX1_mustS 21 = .ok (.aload_n 0, 1) := by decide +kernel
theorem dX1_mustS_22 : decode cX1_mustS 22 = .ok (.iconst (-1), 1) := by decide +kernel
theorem dX1_mustS_23 : decode cX1_mustS 23 = .ok (.aload_n 0, 1) := by decide +kernel
theorem dX1_mustS_24 : decode cX1_mustS 24 = .ok (.getfield 276, 3) := by decide +kernel
theorem dX1_mustS_27 : decode cX1_mustS 27 = .ok (.invokevirtual 293, 3) := by decide +kernel
theorem dX1_mustS_30 : decode cX1_mustS 30 = .ok (.aload_n 0, 1) := by decide +kernel
theorem dX1_mustS_31 : decode cX1_mustS 31 = .ok (.invokevirtual 300, 3) := by decide +kernel
theorem dX1_mustS_34 : decode cX1_mustS 34 = .ok (.return_, 1) := by decide +kernel
def m_mustS (σ : MEM) : Option zm_O := bd (m_isGood σ) (fun r1 σ2 => if r1 = 0 then (bd (m_maybeS σ2) (fun _ σ4 => some (0, σ4))) else (bd (m_octet σ2 (σ2 (-1) 4)) (fun r6 σ7 => bd (m_isS σ7 r6) (fun r9 σ10 => if r9 = 0 then (bd (m_fail σ10 (-1) (σ10 (-1) 4)) (fun _ σ13 => bd (m_maybeS σ13) (fun _ σ14 => some (0, σ14)))) else (bd (m_maybeS σ10) (fun _ σ15 => some (0, σ15)))))))
theorem w_mustS {G : zm_G} (hD : zm_D G) (σ : MEM) (o : zm_O) (hd : m_mustS σ  = some o) : zm_Met G yX1_mustS cX1_mustS 1 (Option.none : Option FieldType) 0 2 41 σ [.ref (zm_h G)] o := by
  refine zm_intro hD hd (by decide) rfl (Nat.le_of_ble_eq_true rfl) rfl (fun C h hc => ?_)
  have hN : ∀ i, i < 1 → i < zv_n C := fun i q => by rw [hc.2.2.1]; exact q
  unfold m_mustS
  refine r_aload_n h 0 dX1_mustS_0 rfl rfl ?_
  refine zm_cVz h hc (n := 0) (As := []) (fun o1 e1 => w_isGood hc.1 _ o1 e1) q1801 q1803 qs56 q136 q1804 (by decide +kernel) ⟨by decide, by decide⟩ rfl (Nat.le_of_ble_eq_true rfl) rfl dX1_mustS_1 (fun r1 σ2 hr3 => ?_)
  refine r_if_eq h hr3.r 30 dX1_mustS_4 rfl ?_ ?_
  · refine r_aload_n h 0 dX1_mustS_30 rfl rfl ?_
    refine zm_cVv h hc (n := 0) (As := []) (fun o1 e1 => w_maybeS hc.1 _ o1 e1) q1813 q1815 qs59 q136 q1816 (by decide +kernel) ⟨by decide, by decide⟩ rfl (Nat.le_of_ble_eq_true rfl) rfl dX1_mustS_31 (fun σ4  => ?_)
    exact zm_vret h hc rfl dX1_mustS_34
  · refine r_aload_n h 0 dX1_mustS_7 rfl rfl ?_
    refine r_aload_n h 0 dX1_mustS_8 rfl rfl ?_
    refine zm_getI h hc 4 4 (by decide) rfl rfl q1484 rfl dX1_mustS_9 (fun hr5 => ?_)
    refine zm_cVi h hc (n := 1) (As := [iv (σ2 (-1) 4)]) (fun o1 e1 => w_octet hc.1 _ (σ2 (-1) 4) hr5 o1 e1) q1817 q1819 qs60 q136 q1820 (by decide +kernel) ⟨by decide, by decide⟩ rfl (Nat.le_of_ble_eq_true rfl) rfl dX1_mustS_12 (fun r6 σ7 hr8 => ?_)
    refine zm_cSz h hc (n := 1) (As := [iv r6]) (fun o1 e1 => w_isS hc.1 _ r6 hr8 o1 e1) q1821 q1822 q136 q1823 (by decide +kernel) ⟨by decide, by decide⟩ rfl (Nat.le_of_ble_eq_true rfl) rfl dX1_mustS_15 (fun r9 σ10 hr11 => ?_)
    refine r_if_ne h hr11.r 30 dX1_mustS_18 rfl ?_ ?_
    · refine r_aload_n h 0 dX1_mustS_21 rfl rfl ?_
      refine r_iconst h dX1_mustS_22 ?_
      refine r_aload_n h 0 dX1_mustS_23 rfl rfl ?_
      refine zm_getI h hc 4 4 (by decide) rfl rfl q1484 rfl dX1_mustS_24 (fun hr12 => ?_)
      refine zm_cVv h hc (n := 2) (As := [iv (-1), iv (σ10 (-1) 4)]) (fun o1 e1 => w_fail hc.1 _ (-1) (σ10 (-1) 4) (by decide) hr12 o1 e1) q1805 q1807 qs57 q136 q1808 (by decide +kernel) ⟨by decide, by decide⟩ rfl (Nat.le_of_ble_eq_true rfl) rfl dX1_mustS_27 (fun σ13  => ?_)
      refine r_aload_n h 0 dX1_mustS_30 rfl rfl ?_
      refine zm_cVv h hc (n := 0) (As := []) (fun o1 e1 => w_maybeS hc.1 _ o1 e1) q1813 q1815 qs59 q136 q1816 (by decide +kernel) ⟨by decide, by decide⟩ rfl (Nat.le_of_ble_eq_true rfl) rfl dX1_mustS_31 (fun σ14  => ?_)
      exact zm_vret h hc rfl dX1_mustS_34
    · refine r_aload_n h 0 dX1_mustS_30 rfl rfl ?_
      refine zm_cVv h hc (n := 0) (As := []) (fun o1 e1 => w_maybeS hc.1 _ o1 e1) q1813 q1815 qs59 q136 q1816 (by decide +kernel) ⟨by decide, by decide⟩ rfl (Nat.le_of_ble_eq_true rfl) rfl dX1_mustS_31 (fun σ15  => ?_)
      exact zm_vret h hc rfl dX1_mustS_34
theorem dX1_isFirst_0 : decode cX1_isFirst 0 = .ok (.iload_n 0, 1) := by decide +kernel
theorem dX1_isFirst_1 : decode cX1_isFirst 1 = .ok (.i2l, 1) := by decide +kernel
theorem dX1_isFirst_2 : decode cX1_isFirst 2 = .ok (.ldc2_w 260, 3) := by decide +kernel
theorem dX1_isFirst_5 : decode cX1_isFirst 5 = .ok (.ldc2_w 262, 3) := by decide +kernel
theorem dX1_isFirst_8 : decode cX1_isFirst 8 = .ok (.invokestatic 256, 3) := by decide +kernel
theorem dX1_isFirst_11 : decode cX1_isFirst 11 = .ok (.ifCond .ne 23, 3) := by decide +kernel
theorem dX1_isFirst_14 : decode cX1_isFirst 14 = .ok (.iload_n 0, 1) := by decide +kernel
theorem dX1_isFirst_15 : decode cX1_isFirst 15 = .ok (.i2l, 1) := by decide +kernel
theorem dX1_isFirst_16 : decode cX1_isFirst 16 = .ok (.ldc2_w 264, 3) := by decide +kernel
theorem dX1_isFirst_19 : decode cX1_isFirst 19 = .ok (.ldc2_w 266, 3) := by decide +kernel
theorem dX1_isFirst_22 : decode cX1_isFirst 22 = .ok (.invokestatic 256, 3) := by decide +kernel
theorem dX1_isFirst_25 : decode cX1_isFirst 25 = .ok (.ifCond .ne 9, 3) := by decide +kernel
theorem dX1_isFirst_28 : decode cX1_isFirst 28 = .ok (.iload_n 0, 1) := by decide +kernel
theorem dX1_isFirst_29 : decode cX1_isFirst 29 = .ok (.bipush 95, 2) := by decide +kernel
theorem dX1_isFirst_31 : decode cX1_isFirst 31 = .ok (.if_icmp .ne 7, 3) := by decide +kernel
theorem dX1_isFirst_34 : decode cX1_isFirst 34 = .ok (.iconst 1, 1) := by decide +kernel
theorem dX1_isFirst_35 : decode cX1_isFirst 35 = .ok (.goto 4, 3) := by decide +kernel
theorem dX1_isFirst_38 : decode cX1_isFirst 38 = .ok (.iconst 0, 1) := by decide +kernel
theorem dX1_isFirst_39 : decode cX1_isFirst 39 = .ok (.ireturn, 1) := by decide +kernel
def m_isFirst (σ : MEM) (a0 : Int) : Option zm_O := bd (m_in σ a0 97 122) (fun r1 σ2 => if r1 = 0 then (bd (m_in σ2 a0 65 90) (fun r4 σ5 => if r4 = 0 then (if a0 = 95 then (some (1, σ5)) else (some (0, σ5))) else (some (1, σ5)))) else (some (1, σ2)))
theorem w_isFirst {G : zm_G} (hD : zm_D G) (σ : MEM) (a0 : Int) (ha0 : inR a0) (o : zm_O) (hd : m_isFirst σ a0 = some o) : zm_Met G yX1_isFirst cX1_isFirst 1 (Option.some FieldType.boolean) 3 1 25 σ [iv a0] o := by
  refine zm_intro hD hd (by decide) rfl (Nat.le_of_ble_eq_true rfl) rfl (fun C h hc => ?_)
  have hN : ∀ i, i < 1 → i < zv_n C := fun i q => by rw [hc.2.2.1]; exact q
  unfold m_isFirst
  refine r_iload_n h 0 dX1_isFirst_0 rfl rfl ?_
  refine r_i2l h ha0 dX1_isFirst_1 ?_
  refine r_ldc2 (x := 97) h q1865 (by decide) dX1_isFirst_2 ?_
  refine r_ldc2 (x := 122) h q1866 (by decide) dX1_isFirst_5 ?_
  refine zm_cSz h hc (n := 3) (As := [jv a0, jv 97, jv 122]) (fun o1 e1 => w_in hc.1 _ a0 97 122 ha0.l (by decide) (by decide) o1 e1) q1790 q1791 q136 q1792 (by decide +kernel) ⟨by decide, by decide⟩ rfl (Nat.le_of_ble_eq_true rfl) rfl dX1_isFirst_8 (fun r1 σ2 hr3 => ?_)
  refine r_if_ne h hr3.r 34 dX1_isFirst_11 rfl ?_ ?_
  · refine r_iload_n h 0 dX1_isFirst_14 rfl rfl ?_
    refine r_i2l h ha0 dX1_isFirst_15 ?_
    refine r_ldc2 (x := 65) h q1867 (by decide) dX1_isFirst_16 ?_
    refine r_ldc2 (x := 90) h q1868 (by decide) dX1_isFirst_19 ?_
    refine zm_cSz h hc (n := 3) (As := [jv a0, jv 65, jv 90]) (fun o1 e1 => w_in hc.1 _ a0 65 90 ha0.l (by decide) (by decide) o1 e1) q1790 q1791 q136 q1792 (by decide +kernel) ⟨by decide, by decide⟩ rfl (Nat.le_of_ble_eq_true rfl) rfl dX1_isFirst_22 (fun r4 σ5 hr6 => ?_)
    refine r_if_ne h hr6.r 34 dX1_isFirst_25 rfl ?_ ?_
    · refine r_iload_n h 0 dX1_isFirst_28 rfl rfl ?_
      refine r_bipush h dX1_isFirst_29 (by decide) ?_
      refine r_icmp_ne h ha0 (by decide) 38 dX1_isFirst_31 rfl ?_ ?_
      · refine r_iconst h dX1_isFirst_34 ?_
        refine r_goto h 39 dX1_isFirst_35 rfl ?_
        exact zm_zret h hc rfl (by decide) dX1_isFirst_39
      · refine r_iconst h dX1_isFirst_38 ?_
        exact zm_zret h hc rfl (by decide) dX1_isFirst_39
    · refine r_iconst h dX1_isFirst_34 ?_
      refine r_goto h 39 dX1_isFirst_35 rfl ?_
      exact zm_zret h hc rfl (by decide) dX1_isFirst_39
  · refine r_iconst h dX1_isFirst_34 ?_
    refine r_goto h 39 dX1_isFirst_35 rfl ?_
    exact zm_zret h hc rfl (by decide) dX1_isFirst_39
theorem dX1_isNext_0 : decode cX1_isNext 0 = .ok (.iload_n 0, 1) := by decide +kernel
theorem dX1_isNext_1 : decode cX1_isNext 1 = .ok (.invokestatic 268, 3) := by decide +kernel
theorem dX1_isNext_4 : decode cX1_isNext 4 = .ok (.ifCond .ne 29, 3) := by decide +kernel
theorem dX1_isNext_7 : decode cX1_isNext 7 = .ok (.iload_n 0, 1) := by decide +kernel
theorem dX1_isNext_8 : decode cX1_isNext 8 = .ok (.i2l, 1) := by decide +kernel
theorem dX1_isNext_9 : decode cX1_isNext 9 = .ok (.ldc2_w 272, 3) := by decide +kernel
theorem dX1_isNext_12 : decode cX1_isNext 12 = .ok (.ldc2_w 274, 3) := by decide +kernel
theorem dX1_isNext_15 : decode cX1_isNext 15 = .ok (.invokestatic 256, 3) := by decide +kernel
theorem dX1_isNext_18 : decode cX1_isNext 18 = .ok (.ifCond .ne 15, 3) := by decide +kernel
theorem dX1_isNext_21 : decode cX1_isNext 21 = .ok (.iload_n 0, 1) := by decide +kernel
theorem dX1_isNext_22 : decode cX1_isNext 22 = .ok (.bipush 45, 2) := by decide +kernel
theorem dX1_isNext_24 : decode cX1_isNext 24 = .ok (.if_icmp .eq 9, 3) := by decide +kernel
theorem dX1_isNext_27 : decode cX1_isNext 27 = .ok (.iload_n 0, 1) := by decide +kernel
theorem dX1_isNext_28 : decode cX1_isNext 28 = .ok (.bipush 46, 2) := by decide +kernel
theorem dX1_isNext_30 : decode cX1_isNext 30 = .ok (.if_icmp .ne 7, 3) := by decide +kernel
theorem dX1_isNext_33 : decode cX1_isNext 33 = .ok (.iconst 1, 1) := by decide +kernel
theorem dX1_isNext_34 : decode cX1_isNext 34 = .ok (.goto 4, 3) := by decide +kernel
theorem dX1_isNext_37 : decode cX1_isNext 37 = .ok (.iconst 0, 1) := by decide +kernel
theorem dX1_isNext_38 : decode cX1_isNext 38 = .ok (.ireturn, 1) := by decide +kernel
def m_isNext (σ : MEM) (a0 : Int) : Option zm_O := bd (m_isFirst σ a0) (fun r1 σ2 => if r1 = 0 then (bd (m_in σ2 a0 48 57) (fun r4 σ5 => if r4 = 0 then (if a0 = 45 then (some (1, σ5)) else (if a0 = 46 then (some (1, σ5)) else (some (0, σ5)))) else (some (1, σ5)))) else (some (1, σ2)))
theorem w_isNext {G : zm_G} (hD : zm_D G) (σ : MEM) (a0 : Int) (ha0 : inR a0) (o : zm_O) (hd : m_isNext σ a0 = some o) : zm_Met G yX1_isNext cX1_isNext 1 (Option.some FieldType.boolean) 3 2 45 σ [iv a0] o := by
  refine zm_intro hD hd (by decide) rfl (Nat.le_of_ble_eq_true rfl) rfl (fun C h hc => ?_)
  have hN : ∀ i, i < 1 → i < zv_n C := fun i q => by rw [hc.2.2.1]; exact q
  unfold m_isNext
  refine r_iload_n h 0 dX1_isNext_0 rfl rfl ?_
  refine zm_cSz h hc (n := 1) (As := [iv a0]) (fun o1 e1 => w_isFirst hc.1 _ a0 ha0 o1 e1) q1862 q1863 q136 q1864 (by decide +kernel) ⟨by decide, by decide⟩ rfl (Nat.le_of_ble_eq_true rfl) rfl dX1_isNext_1 (fun r1 σ2 hr3 => ?_)
  refine r_if_ne h hr3.r 33 dX1_isNext_4 rfl ?_ ?_
  · refine r_iload_n h 0 dX1_isNext_7 rfl rfl ?_
    refine r_i2l h ha0 dX1_isNext_8 ?_
    refine r_ldc2 (x := 48) h q1872 (by decide) dX1_isNext_9 ?_
    refine r_ldc2 (x := 57) h q1873 (by decide) dX1_isNext_12 ?_
    refine zm_cSz h hc (n := 3) (As := [jv a0, jv 48, jv 57]) (fun o1 e1 => w_in hc.1 _ a0 48 57 ha0.l (by decide) (by decide) o1 e1) q1790 q1791 q136 q1792 (by decide +kernel) ⟨by decide, by decide⟩ rfl (Nat.le_of_ble_eq_true rfl) rfl dX1_isNext_15 (fun r4 σ5 hr6 => ?_)
    refine r_if_ne h hr6.r 33 dX1_isNext_18 rfl ?_ ?_
    · refine r_iload_n h 0 dX1_isNext_21 rfl rfl ?_
      refine r_bipush h dX1_isNext_22 (by decide) ?_
      refine r_icmp_eq h ha0 (by decide) 33 dX1_isNext_24 rfl ?_ ?_
      · refine r_iconst h dX1_isNext_33 ?_
        refine r_goto h 38 dX1_isNext_34 rfl ?_
        exact zm_zret h hc rfl (by decide) dX1_isNext_38
      · refine r_iload_n h 0 dX1_isNext_27 rfl rfl ?_
        refine r_bipush h dX1_isNext_28 (by decide) ?_
        refine r_icmp_ne h ha0 (by decide) 37 dX1_isNext_30 rfl ?_ ?_
        · refine r_iconst h dX1_isNext_33 ?_
          refine r_goto h 38 dX1_isNext_34 rfl ?_
          exact zm_zret h hc rfl (by decide) dX1_isNext_38
        · refine r_iconst h dX1_isNext_37 ?_
          exact zm_zret h hc rfl (by decide) dX1_isNext_38
    · refine r_iconst h dX1_isNext_33 ?_
      refine r_goto h 38 dX1_isNext_34 rfl ?_
      exact zm_zret h hc rfl (by decide) dX1_isNext_38
  · refine r_iconst h dX1_isNext_33 ?_
    refine r_goto h 38 dX1_isNext_34 rfl ?_
    exact zm_zret h hc rfl (by decide) dX1_isNext_38
theorem dX1_takeName_0 : decode cX1_takeName 0 = .ok (.aload_n 0, 1) := by decide +kernel
theorem dX1_takeName_1 : decode cX1_takeName 1 = .ok (.getfield 276, 3) := by decide +kernel
theorem dX1_takeName_4 : decode cX1_takeName 4 = .ok (.istore_n 1, 1) := by decide +kernel
theorem dX1_takeName_5 : decode cX1_takeName 5 = .ok (.aload_n 0, 1) := by decide +kernel
theorem dX1_takeName_6 : decode cX1_takeName 6 = .ok (.invokevirtual 289, 3) := by decide +kernel
theorem dX1_takeName_9 : decode cX1_takeName 9 = .ok (.ifCond .eq 26, 3) := by decide +kernel
theorem dX1_takeName_12 : decode cX1_takeName 12 = .ok (.aload_n 0, 1) := by decide +kernel
theorem dX1_takeName_13 : decode cX1_takeName 13 = .ok (.aload_n 0, 1) := by decide +kernel
theorem dX1_takeName_14 : decode cX1_takeName 14 = .ok (.getfield 276, 3) := by decide +kernel
theorem dX1_takeName_17 : decode cX1_takeName 17 = .ok (.invokevirtual 279, 3) := by decide +kernel
theorem dX1_takeName_20 : decode cX1_takeName 20 = .ok (.invokestatic 268, 3) := by decide +kernel
theorem dX1_takeName_23 : decode cX1_takeName 23 = .ok (.ifCond .ne 12, 3) := by decide +kernel
theorem dX1_takeName_26 : decode cX1_takeName 26 = .ok (.aload_n 0, 1) := by decide +kernel
theorem dX1_takeName_27 : decode cX1_takeName 27 = .ok (.iconst (-1), 1) := by decide +kernel
theorem dX1_takeName_28 : decode cX1_takeName 28 = .ok (.aload_n 0, 1) := by decide +kernel
theorem dX1_takeName_29 : decode cX1_takeName 29 = .ok (.getfield 276, 3) := by decide +kernel
theorem dX1_takeName_32 : decode cX1_takeName 32 = .ok (.invokevirtual 293, 3) := by decide +kernel
theorem dX1_takeName_35 : decode cX1_takeName 35 = .ok (.aload_n 0, 1) := by decide +kernel
theorem dX1_takeName_36 : decode cX1_takeName 36 = .ok (.invokevirtual 289, 3) := by decide +kernel
theorem dX1_takeName_39 : decode cX1_takeName 39 = .ok (.ifCond .eq 30, 3) := by decide +kernel
theorem dX1_takeName_42 : decode cX1_takeName 42 = .ok (.aload_n 0, 1) := by decide +kernel
theorem dX1_takeName_43 : decode cX1_takeName 43 = .ok (.aload_n 0, 1) := by decide +kernel
theorem dX1_takeName_44 : decode cX1_takeName 44 = .ok (.getfield 276, 3) := by decide +kernel
theorem dX1_takeName_47 : decode cX1_takeName 47 = .ok (.invokevirtual 279, 3) := by decide +kernel
theorem dX1_takeName_50 : decode cX1_takeName 50 = .ok (.invokestatic 303, 3) := by decide +kernel
theorem dX1_takeName_53 : decode cX1_takeName 53 = .ok (.ifCond .eq 16, 3) := by decide +kernel
theorem dX1_takeName_56 : decode cX1_takeName 56 = .ok (.aload_n 0, 1) := by decide +kernel
theorem dX1_takeName_57 : decode cX1_takeName 57 = .ok (.dup, 1) := by decide +kernel
theorem dX1_takeName_58 : decode cX1_takeName 58 = .ok (.getfield 276, 3) := by decide +kernel
theorem dX1_takeName_61 : decode cX1_takeName 61 = .ok (.iconst 1, 1) := by decide +kernel
theorem dX1_takeName_62 : decode cX1_takeName 62 = .ok (.iadd, 1) := by decide +kernel
theorem dX1_takeName_63 : decode cX1_takeName 63 = .ok (.putfield 276, 3) := by decide +kernel
theorem dX1_takeName_66 : decode cX1_takeName 66 = .ok (.goto (-31), 3) := by decide +kernel
theorem dX1_takeName_69 : decode cX1_takeName 69 = .ok (.aload_n 0, 1) := by decide +kernel
theorem dX1_takeName_70 : decode cX1_takeName 70 = .ok (.aload_n 0, 1) := by decide +kernel
theorem dX1_takeName_71 : decode cX1_takeName 71 = .ok (.getfield 276, 3) := by decide +kernel
theorem dX1_takeName_74 : decode cX1_takeName 74 = .ok (.iload_n 1, 1) := by decide +kernel
theorem dX1_takeName_75 : decode cX1_takeName 75 = .ok (.isub, 1) := by decide +kernel
theorem dX1_takeName_76 : decode cX1_takeName 76 = .ok (.putfield 306, 3) := by decide +kernel
theorem dX1_takeName_79 : decode cX1_takeName 79 = .ok (.aload_n 0, 1) := by decide +kernel
theorem dX1_takeName_80 : decode cX1_takeName 80 = .ok (.invokevirtual 289, 3) := by decide +kernel
theorem dX1_takeName_83 : decode cX1_takeName 83 = .ok (.ifCond .eq 19, 3) := by decide +kernel
theorem dX1_takeName_86 : decode cX1_takeName 86 = .ok (.aload_n 0, 1) := by decide +kernel
theorem dX1_takeName_87 : decode cX1_takeName 87 = .ok (.getfield 306, 3) := by decide +kernel
theorem dX1_takeName_90 : decode cX1_takeName 90 = .ok (.bipush 20, 2) := by decide +kernel
theorem dX1_takeName_92 : decode cX1_takeName 92 = .ok (.if_icmp .le 10, 3) := by decide +kernel
theorem dX1_takeName_95 : decode cX1_takeName 95 = .ok (.aload_n 0, 1) := by decide +kernel
theorem dX1_takeName_96 : decode cX1_takeName 96 = .ok (.bipush (-3), 2) := by decide +kernel
theorem dX1_takeName_98 : decode cX1_takeName 98 = .ok (.iload_n 1, 1) := by decide +kernel
theorem dX1_takeName_99 : decode cX1_takeName 99 = .ok (.invokevirtual 293, 3) := by decide +kernel
theorem dX1_takeName_102 : decode cX1_takeName 102 = .ok (.iload_n 1, 1) := by decide +kernel
theorem dX1_takeName_103 : decode cX1_takeName 103 = .ok (.ireturn, 1) := by decide +kernel
def m_takeName_69 (σ : MEM) (x1 : Int) : Option zm_O := ck (inR ((σ (-1) 4) - x1)) (nu (mup σ (-1) 51 ((σ (-1) 4) - x1)) (fun σ3 => bd (m_isGood σ3) (fun r4 σ5 => if r4 = 0 then (some (x1, σ5)) else (if (σ5 (-1) 51) ≤ 20 then (some (x1, σ5)) else (bd (m_fail σ5 (-3) x1) (fun _ σ8 => some (x1, σ8)))))))
theorem w_takeName_69 {C : zv_Cx zm_O} {G : zm_G} (h : zv_Ok C cX1_takeName RX1) (hc : zm_C C G 2 (Option.some FieldType.int) 1 3 65) (σ : MEM) (x1 : Int) (hx1 : inR x1) : VV C (m_takeName_69 σ x1) σ [(0, .ref (zm_h G)), (1, iv x1)] [] 69 := by
  have hN : ∀ i, i < 2 → i < zv_n C := fun i q => by rw [hc.2.2.1]; exact q
  unfold m_takeName_69
  refine r_aload_n h 0 dX1_takeName_69 rfl rfl ?_
  refine r_aload_n h 0 dX1_takeName_70 rfl rfl ?_
  refine zm_getI h hc 4 4 (by decide) rfl rfl q1484 rfl dX1_takeName_71 (fun hr1 => ?_)
  refine r_iload_n h 1 dX1_takeName_74 rfl rfl ?_
  refine r_isub h dX1_takeName_75 ?_
  refine r_ck (fun hk2 => ?_)
  refine zm_putI h hc 51 51 (by decide) rfl rfl q1531 ⟨rfl, rfl, by decide +kernel⟩ hk2 dX1_takeName_76 (fun σ3 _ => ?_)
  refine r_aload_n h 0 dX1_takeName_79 rfl rfl ?_
  refine zm_cVz h hc (n := 0) (As := []) (fun o1 e1 => w_isGood hc.1 _ o1 e1) q1801 q1803 qs56 q136 q1804 (by decide +kernel) ⟨by decide, by decide⟩ rfl (Nat.le_of_ble_eq_true rfl) rfl dX1_takeName_80 (fun r4 σ5 hr6 => ?_)
  refine r_if_eq h hr6.r 102 dX1_takeName_83 rfl ?_ ?_
  · refine r_iload_n h 1 dX1_takeName_102 rfl rfl ?_
    exact zm_iret h hc rfl hx1 dX1_takeName_103
  · refine r_aload_n h 0 dX1_takeName_86 rfl rfl ?_
    refine zm_getI h hc 51 51 (by decide) rfl rfl q1531 rfl dX1_takeName_87 (fun hr7 => ?_)
    refine r_bipush h dX1_takeName_90 (by decide) ?_
    refine r_icmp_le h hr7 (by decide) 102 dX1_takeName_92 rfl ?_ ?_
    · refine r_iload_n h 1 dX1_takeName_102 rfl rfl ?_
      exact zm_iret h hc rfl hx1 dX1_takeName_103
    · refine r_aload_n h 0 dX1_takeName_95 rfl rfl ?_
      refine r_bipush h dX1_takeName_96 (by decide) ?_
      refine r_iload_n h 1 dX1_takeName_98 rfl rfl ?_
      refine zm_cVv h hc (n := 2) (As := [iv (-3), iv x1]) (fun o1 e1 => w_fail hc.1 _ (-3) x1 (by decide) hx1 o1 e1) q1805 q1807 qs57 q136 q1808 (by decide +kernel) ⟨by decide, by decide⟩ rfl (Nat.le_of_ble_eq_true rfl) rfl dX1_takeName_99 (fun σ8  => ?_)
      refine r_iload_n h 1 dX1_takeName_102 rfl rfl ?_
      exact zm_iret h hc rfl hx1 dX1_takeName_103
def m_takeName_35 : Nat → MEM → Int → Option zm_O
  | 0, _, _ => none
  | n + 1, σ, x1 => bd (m_isGood σ) (fun r1 σ2 => if r1 = 0 then (m_takeName_69 σ2 x1) else (bd (m_octet σ2 (σ2 (-1) 4)) (fun r5 σ6 => bd (m_isNext σ6 r5) (fun r8 σ9 => if r8 = 0 then (m_takeName_69 σ9 x1) else (ck (inR ((σ9 (-1) 4) + 1)) (nu (mup σ9 (-1) 4 ((σ9 (-1) 4) + 1)) (fun σ13 => m_takeName_35 n σ13 x1)))))))
theorem w_takeName_35 {C : zv_Cx zm_O} {G : zm_G} (h : zv_Ok C cX1_takeName RX1) (hc : zm_C C G 2 (Option.some FieldType.int) 1 3 65) : ∀ (n : Nat) (σ : MEM) (x1 : Int), inR x1 → VV C (m_takeName_35 n σ x1) σ [(0, .ref (zm_h G)), (1, iv x1)] [] 35 := by
  have hN : ∀ i, i < 2 → i < zv_n C := fun i q => by rw [hc.2.2.1]; exact q
  intro n
  induction n with
  | zero => intros; exact r_none
  | succ n ih =>
    intro σ x1 hx1
    rw [m_takeName_35]
    refine r_aload_n h 0 dX1_takeName_35 rfl rfl ?_
    refine zm_cVz h hc (n := 0) (As := []) (fun o1 e1 => w_isGood hc.1 _ o1 e1) q1801 q1803 qs56 q136 q1804 (by decide +kernel) ⟨by decide, by decide⟩ rfl (Nat.le_of_ble_eq_true rfl) rfl dX1_takeName_36 (fun r1 σ2 hr3 => ?_)
    refine r_if_eq h hr3.r 69 dX1_takeName_39 rfl ?_ ?_
    · exact r_lv [0, 1] rfl (w_takeName_69 h hc _ x1 hx1)
    · refine r_aload_n h 0 dX1_takeName_42 rfl rfl ?_
      refine r_aload_n h 0 dX1_takeName_43 rfl rfl ?_
      refine zm_getI h hc 4 4 (by decide) rfl rfl q1484 rfl dX1_takeName_44 (fun hr4 => ?_)
      refine zm_cVi h hc (n := 1) (As := [iv (σ2 (-1) 4)]) (fun o1 e1 => w_octet hc.1 _ (σ2 (-1) 4) hr4 o1 e1) q1817 q1819 qs60 q136 q1820 (by decide +kernel) ⟨by decide, by decide⟩ rfl (Nat.le_of_ble_eq_true rfl) rfl dX1_takeName_47 (fun r5 σ6 hr7 => ?_)
      refine zm_cSz h hc (n := 1) (As := [iv r5]) (fun o1 e1 => w_isNext hc.1 _ r5 hr7 o1 e1) q1869 q1870 q136 q1871 (by decide +kernel) ⟨by decide, by decide⟩ rfl (Nat.le_of_ble_eq_true rfl) rfl dX1_takeName_50 (fun r8 σ9 hr10 => ?_)
      refine r_if_eq h hr10.r 69 dX1_takeName_53 rfl ?_ ?_
      · exact r_lv [0, 1] rfl (w_takeName_69 h hc _ x1 hx1)
      · refine r_aload_n h 0 dX1_takeName_56 rfl rfl ?_
        refine r_dup h dX1_takeName_57 rfl ?_
        refine zm_getI h hc 4 4 (by decide) rfl rfl q1484 rfl dX1_takeName_58 (fun hr11 => ?_)
        refine r_iconst h dX1_takeName_61 ?_
        refine r_iadd h dX1_takeName_62 ?_
        refine r_ck (fun hk12 => ?_)
        refine zm_putI h hc 4 4 (by decide) rfl rfl q1484 ⟨rfl, rfl, by decide +kernel⟩ hk12 dX1_takeName_63 (fun σ13 _ => ?_)
        refine r_goto h 35 dX1_takeName_66 rfl ?_
        exact r_lv [0, 1] rfl (ih _ x1 hx1)
def m_takeName (σ : MEM) : Option zm_O := bd (m_isGood σ) (fun r2 σ3 => if r2 = 0 then (m_takeName_35 zF σ3 (σ (-1) 4)) else (bd (m_octet σ3 (σ3 (-1) 4)) (fun r6 σ7 => bd (m_isFirst σ7 r6) (fun r9 σ10 => if r9 = 0 then (bd (m_fail σ10 (-1) (σ10 (-1) 4)) (fun _ σ13 => m_takeName_35 zF σ13 (σ (-1) 4))) else (m_takeName_35 zF σ10 (σ (-1) 4))))))
theorem w_takeName {G : zm_G} (hD : zm_D G) (σ : MEM) (o : zm_O) (hd : m_takeName σ  = some o) : zm_Met G yX1_takeName cX1_takeName 2 (Option.some FieldType.int) 1 3 65 σ [.ref (zm_h G)] o := by
  refine zm_intro hD hd (by decide) rfl (Nat.le_of_ble_eq_true rfl) rfl (fun C h hc => ?_)
  have hN : ∀ i, i < 2 → i < zv_n C := fun i q => by rw [hc.2.2.1]; exact q
  unfold m_takeName
  refine r_aload_n h 0 dX1_takeName_0 rfl rfl ?_
  refine zm_getI h hc 4 4 (by decide) rfl rfl q1484 rfl dX1_takeName_1 (fun hr1 => ?_)
  refine r_istore_n (lv' := [(1, iv (σ (-1) 4)), (0, .ref (zm_h G))]) h dX1_takeName_4 rfl (hN _ (by decide)) rfl ?_
  refine r_aload_n h 1 dX1_takeName_5 rfl rfl ?_
  refine zm_cVz h hc (n := 0) (As := []) (fun o1 e1 => w_isGood hc.1 _ o1 e1) q1801 q1803 qs56 q136 q1804 (by decide +kernel) ⟨by decide, by decide⟩ rfl (Nat.le_of_ble_eq_true rfl) rfl dX1_takeName_6 (fun r2 σ3 hr4 => ?_)
  refine r_if_eq h hr4.r 35 dX1_takeName_9 rfl ?_ ?_
  · exact r_lv [1, 0] rfl (w_takeName_35 h hc zF _ (σ (-1) 4) hr1)
  · refine r_aload_n h 1 dX1_takeName_12 rfl rfl ?_
    refine r_aload_n h 1 dX1_takeName_13 rfl rfl ?_
    refine zm_getI h hc 4 4 (by decide) rfl rfl q1484 rfl dX1_takeName_14 (fun hr5 => ?_)
    refine zm_cVi h hc (n := 1) (As := [iv (σ3 (-1) 4)]) (fun o1 e1 => w_octet hc.1 _ (σ3 (-1) 4) hr5 o1 e1) q1817 q1819 qs60 q136 q1820 (by decide +kernel) ⟨by decide, by decide⟩ rfl (Nat.le_of_ble_eq_true rfl) rfl dX1_takeName_17 (fun r6 σ7 hr8 => ?_)
    refine zm_cSz h hc (n := 1) (As := [iv r6]) (fun o1 e1 => w_isFirst hc.1 _ r6 hr8 o1 e1) q1862 q1863 q136 q1864 (by decide +kernel) ⟨by decide, by decide⟩ rfl (Nat.le_of_ble_eq_true rfl) rfl dX1_takeName_20 (fun r9 σ10 hr11 => ?_)
    refine r_if_ne h hr11.r 35 dX1_takeName_23 rfl ?_ ?_
    · refine r_aload_n h 1 dX1_takeName_26 rfl rfl ?_
      refine r_iconst h dX1_takeName_27 ?_
      refine r_aload_n h 1 dX1_takeName_28 rfl rfl ?_
      refine zm_getI h hc 4 4 (by decide) rfl rfl q1484 rfl dX1_takeName_29 (fun hr12 => ?_)
      refine zm_cVv h hc (n := 2) (As := [iv (-1), iv (σ10 (-1) 4)]) (fun o1 e1 => w_fail hc.1 _ (-1) (σ10 (-1) 4) (by decide) hr12 o1 e1) q1805 q1807 qs57 q136 q1808 (by decide +kernel) ⟨by decide, by decide⟩ rfl (Nat.le_of_ble_eq_true rfl) rfl dX1_takeName_32 (fun σ13  => ?_)
      exact r_lv [1, 0] rfl (w_takeName_35 h hc zF _ (σ (-1) 4) hr1)
    · exact r_lv [1, 0] rfl (w_takeName_35 h hc zF _ (σ (-1) 4) hr1)
theorem dX1_specName_0 : decode cX1_specName 0 = .ok (.aload_n 0, 1) := by decide +kernel
theorem dX1_specName_1 : decode cX1_specName 1 = .ok (.invokevirtual 351, 3) := by decide +kernel
theorem dX1_specName_4 : decode cX1_specName 4 = .ok (.istore_n 2, 1) := by decide +kernel
theorem dX1_specName_5 : decode cX1_specName 5 = .ok (.aload_n 0, 1) := by decide +kernel
theorem dX1_specName_6 : decode cX1_specName 6 = .ok (.invokevirtual 289, 3) := by decide +kernel
theorem dX1_specName_9 : decode cX1_specName 9 = .ok (.ifCond .eq 21, 3) := by decide +kernel
theorem dX1_specName_12 : decode cX1_specName 12 = .ok (.aload_n 0, 1) := by decide +kernel
theorem dX1_specName_13 : decode cX1_specName 13 = .ok (.getfield 82, 3) := by decide +kernel
theorem dX1_specName_16 : decode cX1_specName 16 = .ok (.iload_n 1, 1) := by decide +kernel
theorem dX1_specName_17 : decode cX1_specName 17 = .ok (.iaload, 1) := by decide +kernel
theorem dX1_specName_18 : decode cX1_specName 18 = .ok (.bipush 40, 2) := by decide +kernel
theorem dX1_specName_20 : decode cX1_specName 20 = .ok (.if_icmp .ne 10, 3) := by decide +kernel
theorem dX1_specName_23 : decode cX1_specName 23 = .ok (.aload_n 0, 1) := by decide +kernel
theorem dX1_specName_24 : decode cX1_specName 24 = .ok (.bipush (-3), 2) := by decide +kernel
theorem dX1_specName_26 : decode cX1_specName 26 = .ok (.iload_n 2, 1) := by decide +kernel
theorem dX1_specName_27 : decode cX1_specName 27 = .ok (.invokevirtual 293, 3) := by decide +kernel
theorem dX1_specName_30 : decode cX1_specName 30 = .ok (.aload_n 0, 1) := by decide +kernel
theorem dX1_specName_31 : decode cX1_specName 31 = .ok (.invokevirtual 289, 3) := by decide +kernel
theorem dX1_specName_34 : decode cX1_specName 34 = .ok (.ifCond .ne 5, 3) := by decide +kernel
theorem dX1_specName_37 : decode cX1_specName 37 = .ok (.iconst 0, 1) := by decide +kernel
theorem dX1_specName_38 : decode cX1_specName 38 = .ok (.ireturn, 1) := by decide +kernel
theorem dX1_specName_39 : decode cX1_specName 39 = .ok (.aload_n 0, 1) := by decide +kernel
theorem dX1_specName_40 : decode cX1_specName 40 = .ok (.getfield 82, 3) := by decide +kernel
theorem dX1_specName_43 : decode cX1_specName 43 = .ok (.iload_n 1, 1) := by decide +kernel
theorem dX1_specName_44 : decode cX1_specName 44 = .ok (.iaload, 1) := by decide +kernel
theorem dX1_specName_45 : decode cX1_specName 45 = .ok (.istore_n 3, 1) := by decide +kernel
theorem dX1_specName_46 : decode cX1_specName 46 = .ok (.aload_n 0, 1) := by decide +kernel
theorem dX1_specName_47 : decode cX1_specName 47 = .ok (.getfield 85, 3) := by decide +kernel
theorem dX1_specName_50 : decode cX1_specName 50 = .ok (.bipush 40, 2) := by decide +kernel
theorem dX1_specName_52 : decode cX1_specName 52 = .ok (.iload_n 1, 1) := by decide +kernel
theorem dX1_specName_53 : decode cX1_specName 53 = .ok (.imul, 1) := by decide +kernel
theorem dX1_specName_54 : decode cX1_specName 54 = .ok (.iload_n 3, 1) := by decide +kernel
theorem dX1_specName_55 : decode cX1_specName 55 = .ok (.iadd, 1) := by decide +kernel
theorem dX1_specName_56 : decode cX1_specName 56 = .ok (.sipush 6000, 3) := by decide +kernel
theorem dX1_specName_59 : decode cX1_specName 59 = .ok (.aload_n 0, 1) := by decide +kernel
theorem dX1_specName_60 : decode cX1_specName 60 = .ok (.getfield 328, 3) := by decide +kernel
theorem dX1_specName_63 : decode cX1_specName 63 = .ok (.imul, 1) := by decide +kernel
theorem dX1_specName_64 : decode cX1_specName 64 = .ok (.iload_n 2, 1) := by decide +kernel
theorem dX1_specName_65 : decode cX1_specName 65 = .ok (.iadd, 1) := by decide +kernel
theorem dX1_specName_66 : decode cX1_specName 66 = .ok (.iastore, 1) := by decide +kernel
theorem dX1_specName_67 : decode cX1_specName 67 = .ok (.aload_n 0, 1) := by decide +kernel
theorem dX1_specName_68 : decode cX1_specName 68 = .ok (.getfield 88, 3) := by decide +kernel
theorem dX1_specName_71 : decode cX1_specName 71 = .ok (.bipush 40, 2) := by decide +kernel
theorem dX1_specName_73 : decode cX1_specName 73 = .ok (.iload_n 1, 1) := by decide +kernel
theorem dX1_specName_74 : decode cX1_specName 74 = .ok (.imul, 1) := by decide +kernel
theorem dX1_specName_75 : decode cX1_specName 75 = .ok (.iload_n 3, 1) := by decide +kernel
theorem dX1_specName_76 : decode cX1_specName 76 = .ok (.iadd, 1) := by decide +kernel
theorem dX1_specName_77 : decode cX1_specName 77 = .ok (.aload_n 0, 1) := by decide +kernel
theorem dX1_specName_78 : decode cX1_specName 78 = .ok (.getfield 306, 3) := by decide +kernel
theorem dX1_specName_81 : decode cX1_specName 81 = .ok (.iastore, 1) := by decide +kernel
theorem dX1_specName_82 : decode cX1_specName 82 = .ok (.aload_n 0, 1) := by decide +kernel
theorem dX1_specName_83 : decode cX1_specName 83 = .ok (.getfield 101, 3) := by decide +kernel
theorem dX1_specName_86 : decode cX1_specName 86 = .ok (.bipush 40, 2) := by decide +kernel
theorem dX1_specName_88 : decode cX1_specName 88 = .ok (.iload_n 1, 1) := by decide +kernel
theorem dX1_specName_89 : decode cX1_specName 89 = .ok (.imul, 1) := by decide +kernel
theorem dX1_specName_90 : decode cX1_specName 90 = .ok (.iload_n 3, 1) := by decide +kernel
theorem dX1_specName_91 : decode cX1_specName 91 = .ok (.iadd, 1) := by decide +kernel
theorem dX1_specName_92 : decode cX1_specName 92 = .ok (.lconst 0, 1) := by decide +kernel
theorem dX1_specName_93 : decode cX1_specName 93 = .ok (.lastore, 1) := by decide +kernel
theorem dX1_specName_94 : decode cX1_specName 94 = .ok (.aload_n 0, 1) := by decide +kernel
theorem dX1_specName_95 : decode cX1_specName 95 = .ok (.getfield 82, 3) := by decide +kernel
theorem dX1_specName_98 : decode cX1_specName 98 = .ok (.iload_n 1, 1) := by decide +kernel
theorem dX1_specName_99 : decode cX1_specName 99 = .ok (.dup2, 1) := by decide +kernel
theorem dX1_specName_100 : decode cX1_specName 100 = .ok (.iaload, 1) := by decide +kernel
theorem dX1_specName_101 : decode cX1_specName 101 = .ok (.iconst 1, 1) := by decide +kernel
theorem dX1_specName_102 : decode cX1_specName 102 = .ok (.iadd, 1) := by decide +kernel
theorem dX1_specName_103 : decode cX1_specName 103 = .ok (.iastore, 1) := by decide +kernel
theorem dX1_specName_104 : decode cX1_specName 104 = .ok (.iload_n 3, 1) := by decide +kernel
theorem dX1_specName_105 : decode cX1_specName 105 = .ok (.ireturn, 1) := by decide +kernel
def m_specName_30 (σ : MEM) (x1 x2 : Int) : Option zm_O := bd (m_isGood σ) (fun r1 σ2 => if r1 = 0 then (some (0, σ2)) else (ck (0 ≤ x1 ∧ x1 < 60) (ck (inR ((6000 * (σ2 (-1) 8)) + x2)) (ck (0 ≤ ((40 * x1) + (σ2 30 x1)) ∧ ((40 * x1) + (σ2 30 x1)) < 2400) (nu (mup σ2 31 ((40 * x1) + (σ2 30 x1)) ((6000 * (σ2 (-1) 8)) + x2)) (fun σ7 => ck (0 ≤ ((40 * x1) + (σ2 30 x1)) ∧ ((40 * x1) + (σ2 30 x1)) < 2400) (nu (mup σ7 32 ((40 * x1) + (σ2 30 x1)) (σ7 (-1) 51)) (fun σ9 => ck (0 ≤ ((40 * x1) + (σ2 30 x1)) ∧ ((40 * x1) + (σ2 30 x1)) < 2400) (nu (mup σ9 36 ((40 * x1) + (σ2 30 x1)) 0) (fun σ10 => ck (0 ≤ x1 ∧ x1 < 60) (ck (inR ((σ10 30 x1) + 1)) (ck (0 ≤ x1 ∧ x1 < 60) (nu (mup σ10 30 x1 ((σ10 30 x1) + 1)) (fun σ13 => some ((σ2 30 x1), σ13)))))))))))))))
theorem w_specName_30 {C : zv_Cx zm_O} {G : zm_G} (h : zv_Ok C cX1_specName RX1) (hc : zm_C C G 4 (Option.some FieldType.int) 1 4 86) (σ : MEM) (x1 x2 : Int) (hx1 : inR x1) (hx2 : inR x2) : VV C (m_specName_30 σ x1 x2) σ [(0, .ref (zm_h G)), (1, iv x1), (2, iv x2)] [] 30 := by
  have hN : ∀ i, i < 4 → i < zv_n C := fun i q => by rw [hc.2.2.1]; exact q
  unfold m_specName_30
  refine r_aload_n h 0 dX1_specName_30 rfl rfl ?_
  refine zm_cVz h hc (n := 0) (As := []) (fun o1 e1 => w_isGood hc.1 _ o1 e1) q1801 q1803 qs56 q136 q1804 (by decide +kernel) ⟨by decide, by decide⟩ rfl (Nat.le_of_ble_eq_true rfl) rfl dX1_specName_31 (fun r1 σ2 hr3 => ?_)
  refine r_if_ne h hr3.r 39 dX1_specName_34 rfl ?_ ?_
  · refine r_iconst h dX1_specName_37 ?_
    exact zm_iret h hc rfl (by decide) dX1_specName_38
  · refine r_aload_n h 0 dX1_specName_39 rfl rfl ?_
    refine zm_getA h hc 30 (by decide) rfl q1510 rfl dX1_specName_40 ?_
    refine r_iload_n h 1 dX1_specName_43 rfl rfl ?_
    refine zm_ldI h hc 30 30 60 (by decide) rfl rfl rfl (by decide) dX1_specName_44 (fun _ hr4 => ?_)
    refine r_istore_n (lv' := [(3, iv (σ2 30 x1)), (0, .ref (zm_h G)), (1, iv x1), (2, iv x2)]) h dX1_specName_45 rfl (hN _ (by decide)) rfl ?_
    refine r_aload_n h 1 dX1_specName_46 rfl rfl ?_
    refine zm_getA h hc 31 (by decide) rfl q1511 rfl dX1_specName_47 ?_
    refine r_bipush h dX1_specName_50 (by decide) ?_
    refine r_iload_n h 2 dX1_specName_52 rfl rfl ?_
    refine r_imul h dX1_specName_53 ?_
    refine r_iload_n h 0 dX1_specName_54 rfl rfl ?_
    refine r_iadd h dX1_specName_55 ?_
    refine r_sipush h dX1_specName_56 (by decide) ?_
    refine r_aload_n h 1 dX1_specName_59 rfl rfl ?_
    refine zm_getI h hc 8 8 (by decide) rfl rfl q1488 rfl dX1_specName_60 (fun hr5 => ?_)
    refine r_imul h dX1_specName_63 ?_
    refine r_iload_n h 3 dX1_specName_64 rfl rfl ?_
    refine r_iadd h dX1_specName_65 ?_
    refine r_ck (fun hk6 => ?_)
    refine zm_stI h hc 31 31 2400 (by decide) rfl rfl rfl (by decide) hk6 dX1_specName_66 (fun _ σ7 _ => ?_)
    refine r_aload_n h 1 dX1_specName_67 rfl rfl ?_
    refine zm_getA h hc 32 (by decide) rfl q1512 rfl dX1_specName_68 ?_
    refine r_bipush h dX1_specName_71 (by decide) ?_
    refine r_iload_n h 2 dX1_specName_73 rfl rfl ?_
    refine r_imul h dX1_specName_74 ?_
    refine r_iload_n h 0 dX1_specName_75 rfl rfl ?_
    refine r_iadd h dX1_specName_76 ?_
    refine r_aload_n h 1 dX1_specName_77 rfl rfl ?_
    refine zm_getI h hc 51 51 (by decide) rfl rfl q1531 rfl dX1_specName_78 (fun hr8 => ?_)
    refine zm_stI h hc 32 32 2400 (by decide) rfl rfl rfl (by decide) hr8 dX1_specName_81 (fun _ σ9 _ => ?_)
    refine r_aload_n h 1 dX1_specName_82 rfl rfl ?_
    refine zm_getA h hc 36 (by decide) rfl q1516 rfl dX1_specName_83 ?_
    refine r_bipush h dX1_specName_86 (by decide) ?_
    refine r_iload_n h 2 dX1_specName_88 rfl rfl ?_
    refine r_imul h dX1_specName_89 ?_
    refine r_iload_n h 0 dX1_specName_90 rfl rfl ?_
    refine r_iadd h dX1_specName_91 ?_
    refine r_lconst (x := 0) h dX1_specName_92 (by decide) ?_
    refine zm_stJ h hc 36 36 2400 (by decide) rfl rfl rfl (by decide) (by decide) dX1_specName_93 (fun _ σ10 _ => ?_)
    refine r_aload_n h 1 dX1_specName_94 rfl rfl ?_
    refine zm_getA h hc 30 (by decide) rfl q1510 rfl dX1_specName_95 ?_
    refine r_iload_n h 2 dX1_specName_98 rfl rfl ?_
    refine r_dup2 h dX1_specName_99 rfl rfl ?_
    refine zm_ldI h hc 30 30 60 (by decide) rfl rfl rfl (by decide) dX1_specName_100 (fun _ hr11 => ?_)
    refine r_iconst h dX1_specName_101 ?_
    refine r_iadd h dX1_specName_102 ?_
    refine r_ck (fun hk12 => ?_)
    refine zm_stI h hc 30 30 60 (by decide) rfl rfl rfl (by decide) hk12 dX1_specName_103 (fun _ σ13 _ => ?_)
    refine r_iload_n h 0 dX1_specName_104 rfl rfl ?_
    exact zm_iret h hc rfl hr4 dX1_specName_105
def m_specName (σ : MEM) (a0 : Int) : Option zm_O := bd (m_takeName σ) (fun r1 σ2 => bd (m_isGood σ2) (fun r4 σ5 => if r4 = 0 then (m_specName_30 σ5 a0 r1) else (ck (0 ≤ a0 ∧ a0 < 60) (if (σ5 30 a0) = 40 then (bd (m_fail σ5 (-3) r1) (fun _ σ8 => m_specName_30 σ8 a0 r1)) else (m_specName_30 σ5 a0 r1)))))
theorem w_specName {G : zm_G} (hD : zm_D G) (σ : MEM) (a0 : Int) (ha0 : inR a0) (o : zm_O) (hd : m_specName σ a0 = some o) : zm_Met G yX1_specName cX1_specName 4 (Option.some FieldType.int) 1 4 86 σ [.ref (zm_h G), iv a0] o := by
  refine zm_intro hD hd (by decide) rfl (Nat.le_of_ble_eq_true rfl) rfl (fun C h hc => ?_)
  have hN : ∀ i, i < 4 → i < zv_n C := fun i q => by rw [hc.2.2.1]; exact q
  unfold m_specName
  refine r_aload_n h 0 dX1_specName_0 rfl rfl ?_
  refine zm_cVi h hc (n := 0) (As := []) (fun o1 e1 => w_takeName hc.1 _ o1 e1) q1858 q1860 qs67 q136 q1861 (by decide +kernel) ⟨by decide, by decide⟩ rfl (Nat.le_of_ble_eq_true rfl) rfl dX1_specName_1 (fun r1 σ2 hr3 => ?_)
  refine r_istore_n (lv' := [(2, iv r1), (0, .ref (zm_h G)), (1, iv a0)]) h dX1_specName_4 rfl (hN _ (by decide)) rfl ?_
  refine r_aload_n h 1 dX1_specName_5 rfl rfl ?_
  refine zm_cVz h hc (n := 0) (As := []) (fun o1 e1 => w_isGood hc.1 _ o1 e1) q1801 q1803 qs56 q136 q1804 (by decide +kernel) ⟨by decide, by decide⟩ rfl (Nat.le_of_ble_eq_true rfl) rfl dX1_specName_6 (fun r4 σ5 hr6 => ?_)
  refine r_if_eq h hr6.r 30 dX1_specName_9 rfl ?_ ?_
  · exact r_lv [1, 2, 0] rfl (w_specName_30 h hc _ a0 r1 ha0 hr3)
  · refine r_aload_n h 1 dX1_specName_12 rfl rfl ?_
    refine zm_getA h hc 30 (by decide) rfl q1510 rfl dX1_specName_13 ?_
    refine r_iload_n h 2 dX1_specName_16 rfl rfl ?_
    refine zm_ldI h hc 30 30 60 (by decide) rfl rfl rfl (by decide) dX1_specName_17 (fun _ hr7 => ?_)
    refine r_bipush h dX1_specName_18 (by decide) ?_
    refine r_icmp_ne h hr7 (by decide) 30 dX1_specName_20 rfl ?_ ?_
    · refine r_aload_n h 1 dX1_specName_23 rfl rfl ?_
      refine r_bipush h dX1_specName_24 (by decide) ?_
      refine r_iload_n h 0 dX1_specName_26 rfl rfl ?_
      refine zm_cVv h hc (n := 2) (As := [iv (-3), iv r1]) (fun o1 e1 => w_fail hc.1 _ (-3) r1 (by decide) hr3 o1 e1) q1805 q1807 qs57 q136 q1808 (by decide +kernel) ⟨by decide, by decide⟩ rfl (Nat.le_of_ble_eq_true rfl) rfl dX1_specName_27 (fun σ8  => ?_)
      exact r_lv [1, 2, 0] rfl (w_specName_30 h hc _ a0 r1 ha0 hr3)
    · exact r_lv [1, 2, 0] rfl (w_specName_30 h hc _ a0 r1 ha0 hr3)
theorem dX1_mixed_0 : decode cX1_mixed 0 = .ok (.aload_n 0, 1) := by decide +kernel
theorem dX1_mixed_1 : decode cX1_mixed 1 = .ok (.getfield 79, 3) := by decide +kernel
theorem dX1_mixed_4 : decode cX1_mixed 4 = .ok (.iload_n 1, 1) := by decide +kernel
theorem dX1_mixed_5 : decode cX1_mixed 5 = .ok (.iconst 2, 1) := by decide +kernel
theorem dX1_mixed_6 : decode cX1_mixed 6 = .ok (.iastore, 1) := by decide +kernel
theorem dX1_mixed_7 : decode cX1_mixed 7 = .ok (.aload_n 0, 1) := by decide +kernel
theorem dX1_mixed_8 : decode cX1_mixed 8 = .ok (.dup, 1) := by decide +kernel
theorem dX1_mixed_9 : decode cX1_mixed 9 = .ok (.getfield 276, 3) := by decide +kernel
theorem dX1_mixed_12 : decode cX1_mixed 12 = .ok (.bipush 7, 2) := by decide +kernel
theorem dX1_mixed_14 : decode cX1_mixed 14 = .ok (.iadd, 1) := by decide +kernel
theorem dX1_mixed_15 : decode cX1_mixed 15 = .ok (.putfield 276, 3) := by decide +kernel
theorem dX1_mixed_18 : decode cX1_mixed 18 = .ok (.aload_n 0, 1) := by decide +kernel
theorem dX1_mixed_19 : decode cX1_mixed 19 = .ok (.invokevirtual 300, 3) := by decide +kernel
theorem dX1_mixed_22 : decode cX1_mixed 22 = .ok (.aload_n 0, 1) := by decide +kernel
theorem dX1_mixed_23 : decode cX1_mixed 23 = .ok (.invokevirtual 289, 3) := by decide +kernel
theorem dX1_mixed_26 : decode cX1_mixed 26 = .ok (.ifCond .eq 43, 3) := by decide +kernel
theorem dX1_mixed_29 : decode cX1_mixed 29 = .ok (.aload_n 0, 1) := by decide +kernel
theorem dX1_mixed_30 : decode cX1_mixed 30 = .ok (.aload_n 0, 1) := by decide +kernel
theorem dX1_mixed_31 : decode cX1_mixed 31 = .ok (.getfield 276, 3) := by decide +kernel
theorem dX1_mixed_34 : decode cX1_mixed 34 = .ok (.invokevirtual 279, 3) := by decide +kernel
theorem dX1_mixed_37 : decode cX1_mixed 37 = .ok (.bipush 124, 2) := by decide +kernel
theorem dX1_mixed_39 : decode cX1_mixed 39 = .ok (.if_icmp .ne 30, 3) := by decide +kernel
theorem dX1_mixed_42 : decode cX1_mixed 42 = .ok (.aload_n 0, 1) := by decide +kernel
theorem dX1_mixed_43 : decode cX1_mixed 43 = .ok (.dup, 1) := by decide +kernel
theorem dX1_mixed_44 : decode cX1_mixed 44 = .ok (.getfield 276, 3) := by decide +kernel
theorem dX1_mixed_47 : decode cX1_mixed 47 = .ok (.iconst 1, 1) := by decide +kernel
theorem dX1_mixed_48 : decode cX1_mixed 48 = .ok (.iadd, 1) := by decide +kernel
theorem dX1_mixed_49 : decode cX1_mixed 49 = .ok (.putfield 276, 3) := by decide +kernel
theorem dX1_mixed_52 : decode cX1_mixed 52 = .ok (.aload_n 0, 1) := by decide +kernel
theorem dX1_mixed_53 : decode cX1_mixed 53 = .ok (.invokevirtual 300, 3) := by decide +kernel
theorem dX1_mixed_56 : decode cX1_mixed 56 = .ok (.aload_n 0, 1) := by decide +kernel
theorem dX1_mixed_57 : decode cX1_mixed 57 = .ok (.iload_n 1, 1) := by decide +kernel
theorem dX1_mixed_58 : decode cX1_mixed 58 = .ok (.invokevirtual 383, 3) := by decide +kernel
theorem dX1_mixed_61 : decode cX1_mixed 61 = .ok (.istore_n 2, 1) := by decide +kernel
theorem dX1_mixed_62 : decode cX1_mixed 62 = .ok (.aload_n 0, 1) := by decide +kernel
theorem dX1_mixed_63 : decode cX1_mixed 63 = .ok (.invokevirtual 300, 3) := by decide +kernel
theorem dX1_mixed_66 : decode cX1_mixed 66 = .ok (.goto (-44), 3) := by decide +kernel
theorem dX1_mixed_69 : decode cX1_mixed 69 = .ok (.aload_n 0, 1) := by decide +kernel
theorem dX1_mixed_70 : decode cX1_mixed 70 = .ok (.bipush 41, 2) := by decide +kernel
theorem dX1_mixed_72 : decode cX1_mixed 72 = .ok (.invokevirtual 340, 3) := by decide +kernel
theorem dX1_mixed_75 : decode cX1_mixed 75 = .ok (.istore_n 2, 1) := by decide +kernel
theorem dX1_mixed_76 : decode cX1_mixed 76 = .ok (.aload_n 0, 1) := by decide +kernel
theorem dX1_mixed_77 : decode cX1_mixed 77 = .ok (.invokevirtual 289, 3) := by decide +kernel
theorem dX1_mixed_80 : decode cX1_mixed 80 = .ok (.ifCond .eq 32, 3) := by decide +kernel
theorem dX1_mixed_83 : decode cX1_mixed 83 = .ok (.aload_n 0, 1) := by decide +kernel
theorem dX1_mixed_84 : decode cX1_mixed 84 = .ok (.getfield 82, 3) := by decide +kernel
theorem dX1_mixed_87 : decode cX1_mixed 87 = .ok (.iload_n 1, 1) := by decide +kernel
theorem dX1_mixed_88 : decode cX1_mixed 88 = .ok (.iaload, 1) := by decide +kernel
theorem dX1_mixed_89 : decode cX1_mixed 89 = .ok (.ifCond .gt 16, 3) := by decide +kernel
theorem dX1_mixed_92 : decode cX1_mixed 92 = .ok (.aload_n 0, 1) := by decide +kernel
theorem dX1_mixed_93 : decode cX1_mixed 93 = .ok (.aload_n 0, 1) := by decide +kernel
theorem dX1_mixed_94 : decode cX1_mixed 94 = .ok (.getfield 276, 3) := by decide +kernel
theorem dX1_mixed_97 : decode cX1_mixed 97 = .ok (.invokevirtual 279, 3) := by decide +kernel
theorem dX1_mixed_100 : decode cX1_mixed 100 = .ok (.bipush 42, 2) := by decide +kernel
theorem dX1_mixed_102 : decode cX1_mixed 102 = .ok (.if_icmp .ne 10, 3) := by decide +kernel
theorem dX1_mixed_105 : decode cX1_mixed 105 = .ok (.aload_n 0, 1) := by decide +kernel
theorem dX1_mixed_106 : decode cX1_mixed 106 = .ok (.bipush 42, 2) := by decide +kernel
theorem dX1_mixed_108 : decode cX1_mixed 108 = .ok (.invokevirtual 340, 3) := by decide +kernel
theorem dX1_mixed_111 : decode cX1_mixed 111 = .ok (.istore_n 2, 1) := by decide +kernel
theorem dX1_mixed_112 : decode cX1_mixed 112 = .ok (.return_, 1) := by decide +kernel
def m_mixed_69 (σ : MEM) (x1 : Int) : Option zm_O := bd (m_passes σ 41) (fun r1 σ2 => bd (m_isGood σ2) (fun r4 σ5 => if r4 = 0 then (some (0, σ5)) else (ck (0 ≤ x1 ∧ x1 < 60) (if 0 < (σ5 30 x1) then (bd (m_passes σ5 42) (fun r8 σ9 => some (0, σ9))) else (bd (m_octet σ5 (σ5 (-1) 4)) (fun r12 σ13 => if r12 = 42 then (bd (m_passes σ13 42) (fun r15 σ16 => some (0, σ16))) else (some (0, σ13))))))))
theorem w_mixed_69 {C : zv_Cx zm_O} {G : zm_G} (h : zv_Ok C cX1_mixed RX1) (hc : zm_C C G 3 (Option.none : Option FieldType) 0 5 109) (σ : MEM) (x1 : Int) (hx1 : inR x1) : VV C (m_mixed_69 σ x1) σ [(0, .ref (zm_h G)), (1, iv x1)] [] 69 := by
  have hN : ∀ i, i < 3 → i < zv_n C := fun i q => by rw [hc.2.2.1]; exact q
  unfold m_mixed_69
  refine r_aload_n h 0 dX1_mixed_69 rfl rfl ?_
  refine r_bipush h dX1_mixed_70 (by decide) ?_
  refine zm_cVz h hc (n := 1) (As := [iv 41]) (fun o1 e1 => w_passes hc.1 _ 41 (by decide) o1 e1) q1840 q1842 qs63 q136 q1843 (by decide +kernel) ⟨by decide, by decide⟩ rfl (Nat.le_of_ble_eq_true rfl) rfl dX1_mixed_72 (fun r1 σ2 hr3 => ?_)
  refine r_istore_n (lv' := [(2, iv r1), (0, .ref (zm_h G)), (1, iv x1)]) h dX1_mixed_75 rfl (hN _ (by decide)) rfl ?_
  refine r_aload_n h 1 dX1_mixed_76 rfl rfl ?_
  refine zm_cVz h hc (n := 0) (As := []) (fun o1 e1 => w_isGood hc.1 _ o1 e1) q1801 q1803 qs56 q136 q1804 (by decide +kernel) ⟨by decide, by decide⟩ rfl (Nat.le_of_ble_eq_true rfl) rfl dX1_mixed_77 (fun r4 σ5 hr6 => ?_)
  refine r_if_eq h hr6.r 112 dX1_mixed_80 rfl ?_ ?_
  · exact zm_vret h hc rfl dX1_mixed_112
  · refine r_aload_n h 1 dX1_mixed_83 rfl rfl ?_
    refine zm_getA h hc 30 (by decide) rfl q1510 rfl dX1_mixed_84 ?_
    refine r_iload_n h 2 dX1_mixed_87 rfl rfl ?_
    refine zm_ldI h hc 30 30 60 (by decide) rfl rfl rfl (by decide) dX1_mixed_88 (fun _ hr7 => ?_)
    refine r_if_gt h hr7 105 dX1_mixed_89 rfl ?_ ?_
    · refine r_aload_n h 1 dX1_mixed_105 rfl rfl ?_
      refine r_bipush h dX1_mixed_106 (by decide) ?_
      refine zm_cVz h hc (n := 1) (As := [iv 42]) (fun o1 e1 => w_passes hc.1 _ 42 (by decide) o1 e1) q1840 q1842 qs63 q136 q1843 (by decide +kernel) ⟨by decide, by decide⟩ rfl (Nat.le_of_ble_eq_true rfl) rfl dX1_mixed_108 (fun r8 σ9 hr10 => ?_)
      refine r_istore_n (lv' := [(2, iv r8), (0, .ref (zm_h G)), (1, iv x1)]) h dX1_mixed_111 rfl (hN _ (by decide)) rfl ?_
      exact zm_vret h hc rfl dX1_mixed_112
    · refine r_aload_n h 1 dX1_mixed_92 rfl rfl ?_
      refine r_aload_n h 1 dX1_mixed_93 rfl rfl ?_
      refine zm_getI h hc 4 4 (by decide) rfl rfl q1484 rfl dX1_mixed_94 (fun hr11 => ?_)
      refine zm_cVi h hc (n := 1) (As := [iv (σ5 (-1) 4)]) (fun o1 e1 => w_octet hc.1 _ (σ5 (-1) 4) hr11 o1 e1) q1817 q1819 qs60 q136 q1820 (by decide +kernel) ⟨by decide, by decide⟩ rfl (Nat.le_of_ble_eq_true rfl) rfl dX1_mixed_97 (fun r12 σ13 hr14 => ?_)
      refine r_bipush h dX1_mixed_100 (by decide) ?_
      refine r_icmp_ne h hr14 (by decide) 112 dX1_mixed_102 rfl ?_ ?_
      · refine r_aload_n h 1 dX1_mixed_105 rfl rfl ?_
        refine r_bipush h dX1_mixed_106 (by decide) ?_
        refine zm_cVz h hc (n := 1) (As := [iv 42]) (fun o1 e1 => w_passes hc.1 _ 42 (by decide) o1 e1) q1840 q1842 qs63 q136 q1843 (by decide +kernel) ⟨by decide, by decide⟩ rfl (Nat.le_of_ble_eq_true rfl) rfl dX1_mixed_108 (fun r15 σ16 hr17 => ?_)
        refine r_istore_n (lv' := [(2, iv r15), (0, .ref (zm_h G)), (1, iv x1)]) h dX1_mixed_111 rfl (hN _ (by decide)) rfl ?_
        exact zm_vret h hc rfl dX1_mixed_112
      · exact zm_vret h hc rfl dX1_mixed_112
def m_mixed_22 : Nat → MEM → Int → Option zm_O
  | 0, _, _ => none
  | n + 1, σ, x1 => bd (m_isGood σ) (fun r1 σ2 => if r1 = 0 then (m_mixed_69 σ2 x1) else (bd (m_octet σ2 (σ2 (-1) 4)) (fun r5 σ6 => if r5 = 124 then (ck (inR ((σ6 (-1) 4) + 1)) (nu (mup σ6 (-1) 4 ((σ6 (-1) 4) + 1)) (fun σ10 => bd (m_maybeS σ10) (fun _ σ11 => bd (m_specName σ11 x1) (fun r12 σ13 => bd (m_maybeS σ13) (fun _ σ15 => m_mixed_22 n σ15 x1)))))) else (m_mixed_69 σ6 x1))))
theorem w_mixed_22 {C : zv_Cx zm_O} {G : zm_G} (h : zv_Ok C cX1_mixed RX1) (hc : zm_C C G 3 (Option.none : Option FieldType) 0 5 109) : ∀ (n : Nat) (σ : MEM) (x1 : Int), inR x1 → VV C (m_mixed_22 n σ x1) σ [(0, .ref (zm_h G)), (1, iv x1)] [] 22 := by
  have hN : ∀ i, i < 3 → i < zv_n C := fun i q => by rw [hc.2.2.1]; exact q
  intro n
  induction n with
  | zero => intros; exact r_none
  | succ n ih =>
    intro σ x1 hx1
    rw [m_mixed_22]
    refine r_aload_n h 0 dX1_mixed_22 rfl rfl ?_
    refine zm_cVz h hc (n := 0) (As := []) (fun o1 e1 => w_isGood hc.1 _ o1 e1) q1801 q1803 qs56 q136 q1804 (by decide +kernel) ⟨by decide, by decide⟩ rfl (Nat.le_of_ble_eq_true rfl) rfl dX1_mixed_23 (fun r1 σ2 hr3 => ?_)
    refine r_if_eq h hr3.r 69 dX1_mixed_26 rfl ?_ ?_
    · exact r_lv [0, 1] rfl (w_mixed_69 h hc _ x1 hx1)
    · refine r_aload_n h 0 dX1_mixed_29 rfl rfl ?_
      refine r_aload_n h 0 dX1_mixed_30 rfl rfl ?_
      refine zm_getI h hc 4 4 (by decide) rfl rfl q1484 rfl dX1_mixed_31 (fun hr4 => ?_)
      refine zm_cVi h hc (n := 1) (As := [iv (σ2 (-1) 4)]) (fun o1 e1 => w_octet hc.1 _ (σ2 (-1) 4) hr4 o1 e1) q1817 q1819 qs60 q136 q1820 (by decide +kernel) ⟨by decide, by decide⟩ rfl (Nat.le_of_ble_eq_true rfl) rfl dX1_mixed_34 (fun r5 σ6 hr7 => ?_)
      refine r_bipush h dX1_mixed_37 (by decide) ?_
      refine r_icmp_ne h hr7 (by decide) 69 dX1_mixed_39 rfl ?_ ?_
      · refine r_aload_n h 0 dX1_mixed_42 rfl rfl ?_
        refine r_dup h dX1_mixed_43 rfl ?_
        refine zm_getI h hc 4 4 (by decide) rfl rfl q1484 rfl dX1_mixed_44 (fun hr8 => ?_)
        refine r_iconst h dX1_mixed_47 ?_
        refine r_iadd h dX1_mixed_48 ?_
        refine r_ck (fun hk9 => ?_)
        refine zm_putI h hc 4 4 (by decide) rfl rfl q1484 ⟨rfl, rfl, by decide +kernel⟩ hk9 dX1_mixed_49 (fun σ10 _ => ?_)
        refine r_aload_n h 0 dX1_mixed_52 rfl rfl ?_
        refine zm_cVv h hc (n := 0) (As := []) (fun o1 e1 => w_maybeS hc.1 _ o1 e1) q1813 q1815 qs59 q136 q1816 (by decide +kernel) ⟨by decide, by decide⟩ rfl (Nat.le_of_ble_eq_true rfl) rfl dX1_mixed_53 (fun σ11  => ?_)
        refine r_aload_n h 0 dX1_mixed_56 rfl rfl ?_
        refine r_iload_n h 1 dX1_mixed_57 rfl rfl ?_
        refine zm_cVi h hc (n := 1) (As := [iv x1]) (fun o1 e1 => w_specName hc.1 _ x1 hx1 o1 e1) q1887 q1889 qs70 q136 q1890 (by decide +kernel) ⟨by decide, by decide⟩ rfl (Nat.le_of_ble_eq_true rfl) rfl dX1_mixed_58 (fun r12 σ13 hr14 => ?_)
        refine r_istore_n (lv' := [(2, iv r12), (0, .ref (zm_h G)), (1, iv x1)]) h dX1_mixed_61 rfl (hN _ (by decide)) rfl ?_
        refine r_aload_n h 1 dX1_mixed_62 rfl rfl ?_
        refine zm_cVv h hc (n := 0) (As := []) (fun o1 e1 => w_maybeS hc.1 _ o1 e1) q1813 q1815 qs59 q136 q1816 (by decide +kernel) ⟨by decide, by decide⟩ rfl (Nat.le_of_ble_eq_true rfl) rfl dX1_mixed_63 (fun σ15  => ?_)
        refine r_goto h 22 dX1_mixed_66 rfl ?_
        exact r_lv [1, 2] rfl (ih _ x1 hx1)
      · exact r_lv [0, 1] rfl (w_mixed_69 h hc _ x1 hx1)
def m_mixed (σ : MEM) (a0 : Int) : Option zm_O := ck (0 ≤ a0 ∧ a0 < 60) (nu (mup σ 29 a0 2) (fun σ1 => ck (inR ((σ1 (-1) 4) + 7)) (nu (mup σ1 (-1) 4 ((σ1 (-1) 4) + 7)) (fun σ4 => bd (m_maybeS σ4) (fun _ σ5 => m_mixed_22 zF σ5 a0)))))
theorem w_mixed {G : zm_G} (hD : zm_D G) (σ : MEM) (a0 : Int) (ha0 : inR a0) (o : zm_O) (hd : m_mixed σ a0 = some o) : zm_Met G yX1_mixed cX1_mixed 3 (Option.none : Option FieldType) 0 5 109 σ [.ref (zm_h G), iv a0] o := by
  refine zm_intro hD hd (by decide) rfl (Nat.le_of_ble_eq_true rfl) rfl (fun C h hc => ?_)
  have hN : ∀ i, i < 3 → i < zv_n C := fun i q => by rw [hc.2.2.1]; exact q
  unfold m_mixed
  refine r_aload_n h 0 dX1_mixed_0 rfl rfl ?_
  refine zm_getA h hc 29 (by decide) rfl q1509 rfl dX1_mixed_1 ?_
  refine r_iload_n h 1 dX1_mixed_4 rfl rfl ?_
  refine r_iconst h dX1_mixed_5 ?_
  refine zm_stI h hc 29 29 60 (by decide) rfl rfl rfl (by decide) (by decide) dX1_mixed_6 (fun _ σ1 _ => ?_)
  refine r_aload_n h 0 dX1_mixed_7 rfl rfl ?_
  refine r_dup h dX1_mixed_8 rfl ?_
  refine zm_getI h hc 4 4 (by decide) rfl rfl q1484 rfl dX1_mixed_9 (fun hr2 => ?_)
  refine r_bipush h dX1_mixed_12 (by decide) ?_
  refine r_iadd h dX1_mixed_14 ?_
  refine r_ck (fun hk3 => ?_)
  refine zm_putI h hc 4 4 (by decide) rfl rfl q1484 ⟨rfl, rfl, by decide +kernel⟩ hk3 dX1_mixed_15 (fun σ4 _ => ?_)
  refine r_aload_n h 0 dX1_mixed_18 rfl rfl ?_
  refine zm_cVv h hc (n := 0) (As := []) (fun o1 e1 => w_maybeS hc.1 _ o1 e1) q1813 q1815 qs59 q136 q1816 (by decide +kernel) ⟨by decide, by decide⟩ rfl (Nat.le_of_ble_eq_true rfl) rfl dX1_mixed_19 (fun σ5  => ?_)
  exact r_lv [0, 1] rfl (w_mixed_22 h hc zF _ a0 ha0)
theorem dX1_openGroup_0 : decode cX1_openGroup 0 = .ok (.aload_n 0, 1) := by decide +kernel
theorem dX1_openGroup_1 : decode cX1_openGroup 1 = .ok (.getfield 146, 3) := by decide +kernel
theorem dX1_openGroup_4 : decode cX1_openGroup 4 = .ok (.iload_n 1, 1) := by decide +kernel
theorem dX1_openGroup_5 : decode cX1_openGroup 5 = .ok (.iconst 0, 1) := by decide +kernel
theorem dX1_openGroup_6 : decode cX1_openGroup 6 = .ok (.iastore, 1) := by decide +kernel
theorem dX1_openGroup_7 : decode cX1_openGroup 7 = .ok (.aload_n 0, 1) := by decide +kernel
theorem dX1_openGroup_8 : decode cX1_openGroup 8 = .ok (.getfield 149, 3) := by decide +kernel
theorem dX1_openGroup_11 : decode cX1_openGroup 11 = .ok (.iload_n 1, 1) := by decide +kernel
theorem dX1_openGroup_12 : decode cX1_openGroup 12 = .ok (.iconst 0, 1) := by decide +kernel
theorem dX1_openGroup_13 : decode cX1_openGroup 13 = .ok (.bastore, 1) := by decide +kernel
theorem dX1_openGroup_14 : decode cX1_openGroup 14 = .ok (.return_, 1) := by decide +kernel
def m_openGroup (σ : MEM) (a0 : Int) : Option zm_O := ck (0 ≤ a0 ∧ a0 < 8) (nu (mup σ 54 a0 0) (fun σ1 => ck (0 ≤ a0 ∧ a0 < 8) (nu (mup σ1 55 a0 0) (fun σ2 => some (0, σ2)))))
theorem w_openGroup {G : zm_G} (hD : zm_D G) (σ : MEM) (a0 : Int) (ha0 : inR a0) (o : zm_O) (hd : m_openGroup σ a0 = some o) : zm_Met G yX1_openGroup cX1_openGroup 2 (Option.none : Option FieldType) 0 0 0 σ [.ref (zm_h G), iv a0] o := by
  refine zm_intro hD hd (by decide) rfl (Nat.le_of_ble_eq_true rfl) rfl (fun C h hc => ?_)
  have hN : ∀ i, i < 2 → i < zv_n C := fun i q => by rw [hc.2.2.1]; exact q
  unfold m_openGroup
  refine r_aload_n h 0 dX1_openGroup_0 rfl rfl ?_
  refine zm_getA h hc 54 (by decide) rfl q1533 rfl dX1_openGroup_1 ?_
  refine r_iload_n h 1 dX1_openGroup_4 rfl rfl ?_
  refine r_iconst h dX1_openGroup_5 ?_
  refine zm_stI h hc 54 54 8 (by decide) rfl rfl rfl (by decide) (by decide) dX1_openGroup_6 (fun _ σ1 _ => ?_)
  refine r_aload_n h 0 dX1_openGroup_7 rfl rfl ?_
  refine zm_getA h hc 55 (by decide) rfl q1534 rfl dX1_openGroup_8 ?_
  refine r_iload_n h 1 dX1_openGroup_11 rfl rfl ?_
  refine r_iconst h dX1_openGroup_12 ?_
  refine zm_stZ h hc 55 55 8 (by decide) rfl rfl rfl (by decide) (by decide) dX1_openGroup_13 (fun _ σ2 _ => ?_)
  exact zm_vret h hc rfl dX1_openGroup_14
theorem dX1_joinFollows_0 : decode cX1_joinFollows 0 = .ok (.iconst 0, 1) := by decide +kernel
theorem dX1_joinFollows_1 : decode cX1_joinFollows 1 = .ok (.istore 6, 2) := by decide +kernel
theorem dX1_joinFollows_3 : decode cX1_joinFollows 3 = .ok (.iload 6, 2) := by decide +kernel
theorem dX1_joinFollows_5 : decode cX1_joinFollows 5 = .ok (.bipush 40, 2) := by decide +kernel
theorem dX1_joinFollows_7 : decode cX1_joinFollows 7 = .ok (.if_icmp .ge 37, 3) := by decide +kernel
theorem dX1_joinFollows_10 : decode cX1_joinFollows 10 = .ok (.lload_n 2, 1) := by decide +kernel
theorem dX1_joinFollows_11 : decode cX1_joinFollows 11 = .ok (.iload 6, 2) := by decide +kernel
theorem dX1_joinFollows_13 : decode cX1_joinFollows 13 = .ok (.lshr, 1) := by decide +kernel
theorem dX1_joinFollows_14 : decode cX1_joinFollows 14 = .ok (.lconst 1, 1) := by decide +kernel
theorem dX1_joinFollows_15 : decode cX1_joinFollows 15 = .ok (.land, 1) := by decide +kernel
theorem dX1_joinFollows_16 : decode cX1_joinFollows 16 = .ok (.lconst 1, 1) := by decide +kernel
theorem dX1_joinFollows_17 : decode cX1_joinFollows 17 = .ok (.lcmp, 1) := by decide +kernel
theorem dX1_joinFollows_18 : decode cX1_joinFollows 18 = .ok (.ifCond .ne 20, 3) := by decide +kernel
theorem dX1_joinFollows_21 : decode cX1_joinFollows 21 = .ok (.aload_n 0, 1) := by decide +kernel
theorem dX1_joinFollows_22 : decode cX1_joinFollows 22 = .ok (.getfield 101, 3) := by decide +kernel
theorem dX1_joinFollows_25 : decode cX1_joinFollows 25 = .ok (.bipush 40, 2) := by decide +kernel
theorem dX1_joinFollows_27 : decode cX1_joinFollows 27 = .ok (.iload_n 1, 1) := by decide +kernel
theorem dX1_joinFollows_28 : decode cX1_joinFollows 28 = .ok (.imul, 1) := by decide +kernel
theorem dX1_joinFollows_29 : decode cX1_joinFollows 29 = .ok (.iload 6, 2) := by decide +kernel
theorem dX1_joinFollows_31 : decode cX1_joinFollows 31 = .ok (.iadd, 1) := by decide +kernel
theorem dX1_joinFollows_32 : decode cX1_joinFollows 32 = .ok (.dup2, 1) := by decide +kernel
theorem dX1_joinFollows_33 : decode cX1_joinFollows 33 = .ok (.laload, 1) := by decide +kernel
theorem dX1_joinFollows_34 : decode cX1_joinFollows 34 = .ok (.lload 4, 2) := by decide +kernel
theorem dX1_joinFollows_36 : decode cX1_joinFollows 36 = .ok (.lor, 1) := by decide +kernel
theorem dX1_joinFollows_37 : decode cX1_joinFollows 37 = .ok (.lastore, 1) := by decide +kernel
theorem dX1_joinFollows_38 : decode cX1_joinFollows 38 = .ok (.iinc 6 1, 3) := by decide +kernel
theorem dX1_joinFollows_41 : decode cX1_joinFollows 41 = .ok (.goto (-38), 3) := by decide +kernel
theorem dX1_joinFollows_44 : decode cX1_joinFollows 44 = .ok (.return_, 1) := by decide +kernel
def m_joinFollows_3 : Nat → MEM → Int → Int → Int → Int → Option zm_O
  | 0, _, _, _, _, _ => none
  | n + 1, σ, x1, x2, x4, x6 => if 40 ≤ x6 then (some (0, σ)) else (if (j_cmp (j_and (j_shr x2 x6) 1) 1) = 0 then (ck (0 ≤ ((40 * x1) + x6) ∧ ((40 * x1) + x6) < 2400) (ck (0 ≤ ((40 * x1) + x6) ∧ ((40 * x1) + x6) < 2400) (nu (mup σ 36 ((40 * x1) + x6) (j_or (σ 36 ((40 * x1) + x6)) x4)) (fun σ2 => ck (inR (x6 + 1)) (m_joinFollows_3 n σ2 x1 x2 x4 (x6 + 1)))))) else (ck (inR (x6 + 1)) (m_joinFollows_3 n σ x1 x2 x4 (x6 + 1))))
theorem w_joinFollows_3 {C : zv_Cx zm_O} {G : zm_G} (h : zv_Ok C cX1_joinFollows RX1) (hc : zm_C C G 7 (Option.none : Option FieldType) 0 0 0) : ∀ (n : Nat) (σ : MEM) (x1 x2 x4 x6 : Int), inR x1 → inL x2 → inL x4 → inR x6 → VV C (m_joinFollows_3 n σ x1 x2 x4 x6) σ [(0, .ref (zm_h G)), (1, iv x1), (2, jv x2), (4, jv x4), (6, iv x6)] [] 3 := by
  have hN : ∀ i, i < 7 → i < zv_n C := fun i q => by rw [hc.2.2.1]; exact q
  intro n
  induction n with
  | zero => intros; exact r_none
  | succ n ih =>
    intro σ x1 x2 x4 x6 hx1 hx2 hx4 hx6
    rw [m_joinFollows_3]
    refine r_iload h 4 dX1_joinFollows_3 rfl ?_
    refine r_bipush h dX1_joinFollows_5 (by decide) ?_
    refine r_icmp_ge h hx6 (by decide) 44 dX1_joinFollows_7 rfl ?_ ?_
    · exact zm_vret h hc rfl dX1_joinFollows_44
    · refine r_lload_n h 2 dX1_joinFollows_10 rfl rfl ?_
      refine r_iload h 4 dX1_joinFollows_11 rfl ?_
      refine r_lshr h dX1_joinFollows_13 ?_
      refine r_lconst (x := 1) h dX1_joinFollows_14 (by decide) ?_
      refine r_land h dX1_joinFollows_15 ?_
      refine r_lconst (x := 1) h dX1_joinFollows_16 (by decide) ?_
      refine r_lcmp h (inL_t _) (by decide) dX1_joinFollows_17 ?_
      refine r_if_ne h (j_cmp_r _ _) 38 dX1_joinFollows_18 rfl ?_ ?_
      · refine r_aload_n h 0 dX1_joinFollows_21 rfl rfl ?_
        refine zm_getA h hc 36 (by decide) rfl q1516 rfl dX1_joinFollows_22 ?_
        refine r_bipush h dX1_joinFollows_25 (by decide) ?_
        refine r_iload_n h 1 dX1_joinFollows_27 rfl rfl ?_
        refine r_imul h dX1_joinFollows_28 ?_
        refine r_iload h 4 dX1_joinFollows_29 rfl ?_
        refine r_iadd h dX1_joinFollows_31 ?_
        refine r_dup2 h dX1_joinFollows_32 rfl rfl ?_
        refine zm_ldJ h hc 36 36 2400 (by decide) rfl rfl rfl (by decide) dX1_joinFollows_33 (fun _ hr1 => ?_)
        refine r_lload h 3 dX1_joinFollows_34 rfl ?_
        refine r_lor h dX1_joinFollows_36 ?_
        refine zm_stJ h hc 36 36 2400 (by decide) rfl rfl rfl (by decide) (inL_t _) dX1_joinFollows_37 (fun _ σ2 _ => ?_)
        refine r_iinc (lv' := [(6, iv (x6 + 1)), (0, .ref (zm_h G)), (1, iv x1), (2, jv x2), (4, jv x4)]) h 4 dX1_joinFollows_38 rfl (hN _ (by decide)) rfl ?_
        refine r_goto h 3 dX1_joinFollows_41 rfl ?_
        refine r_ck (fun hk3 => ?_)
        exact r_lv [1, 2, 3, 4, 0] rfl (ih _ x1 x2 x4 (x6 + 1) hx1 hx2 hx4 hk3)
      · refine r_iinc (lv' := [(6, iv (x6 + 1)), (0, .ref (zm_h G)), (1, iv x1), (2, jv x2), (4, jv x4)]) h 4 dX1_joinFollows_38 rfl (hN _ (by decide)) rfl ?_
        refine r_goto h 3 dX1_joinFollows_41 rfl ?_
        refine r_ck (fun hk4 => ?_)
        exact r_lv [1, 2, 3, 4, 0] rfl (ih _ x1 x2 x4 (x6 + 1) hx1 hx2 hx4 hk4)
def m_joinFollows (σ : MEM) (a0 a1 a2 : Int) : Option zm_O := m_joinFollows_3 zF σ a0 a1 a2 0
theorem w_joinFollows {G : zm_G} (hD : zm_D G) (σ : MEM) (a0 a1 a2 : Int) (ha0 : inR a0) (ha1 : inL a1) (ha2 : inL a2) (o : zm_O) (hd : m_joinFollows σ a0 a1 a2 = some o) : zm_Met G yX1_joinFollows cX1_joinFollows 7 (Option.none : Option FieldType) 0 0 0 σ [.ref (zm_h G), iv a0, jv a1, jv a2] o := by
  refine zm_intro hD hd (by decide) rfl (Nat.le_of_ble_eq_true rfl) rfl (fun C h hc => ?_)
  have hN : ∀ i, i < 7 → i < zv_n C := fun i q => by rw [hc.2.2.1]; exact q
  unfold m_joinFollows
  refine r_iconst h dX1_joinFollows_0 ?_
  refine r_istore (lv' := [(6, iv 0), (0, .ref (zm_h G)), (1, iv a0), (2, jv a1), (4, jv a2)]) h dX1_joinFollows_1 (hN _ (by decide)) rfl ?_
  exact r_lv [1, 2, 3, 4, 0] rfl (w_joinFollows_3 h hc zF _ a0 a1 a2 0 ha0 ha1 ha2 (by decide))
theorem dX1_mark_0 : decode cX1_mark 0 = .ok (.aload_n 0, 1) := by decide +kernel
theorem dX1_mark_1 : decode cX1_mark 1 = .ok (.aload_n 0, 1) := by decide +kernel
theorem dX1_mark_2 : decode cX1_mark 2 = .ok (.getfield 276, 3) := by decide +kernel
theorem dX1_mark_5 : decode cX1_mark 5 = .ok (.invokevirtual 279, 3) := by decide +kernel
theorem dX1_mark_8 : decode cX1_mark 8 = .ok (.istore_n 2, 1) := by decide +kernel
theorem dX1_mark_9 : decode cX1_mark 9 = .ok (.aload_n 0, 1) := by decide +kernel
theorem dX1_mark_10 : decode cX1_mark 10 = .ok (.invokevirtual 289, 3) := by decide +kernel
theorem dX1_mark_13 : decode cX1_mark 13 = .ok (.ifCond .eq 21, 3) := by decide +kernel
theorem dX1_mark_16 : decode cX1_mark 16 = .ok (.iload_n 2, 1) := by decide +kernel
theorem dX1_mark_17 : decode cX1_mark 17 = .ok (.bipush 63, 2) := by decide +kernel
theorem dX1_mark_19 : decode cX1_mark 19 = .ok (.if_icmp .eq 16, 3) := by decide +kernel
theorem dX1_mark_22 : decode cX1_mark 22 = .ok (.iload_n 2, 1) := by decide +kernel
theorem dX1_mark_23 : decode cX1_mark 23 = .ok (.bipush 42, 2) := by decide +kernel
theorem dX1_mark_25 : decode cX1_mark 25 = .ok (.if_icmp .eq 10, 3) := by decide +kernel
theorem dX1_mark_28 : decode cX1_mark 28 = .ok (.iload_n 2, 1) := by decide +kernel
theorem dX1_mark_29 : decode cX1_mark 29 = .ok (.bipush 43, 2) := by decide +kernel
theorem dX1_mark_31 : decode cX1_mark 31 = .ok (.if_icmp .eq 4, 3) := by decide +kernel
theorem dX1_mark_34 : decode cX1_mark 34 = .ok (.return_, 1) := by decide +kernel
theorem dX1_mark_35 : decode cX1_mark 35 = .ok (.aload_n 0, 1) := by decide +kernel
theorem dX1_mark_36 : decode cX1_mark 36 = .ok (.dup, 1) := by decide +kernel
theorem dX1_mark_37 : decode cX1_mark 37 = .ok (.getfield 276, 3) := by decide +kernel
theorem dX1_mark_40 : decode cX1_mark 40 = .ok (.iconst 1, 1) := by decide +kernel
theorem dX1_mark_41 : decode cX1_mark 41 = .ok (.iadd, 1) := by decide +kernel
theorem dX1_mark_42 : decode cX1_mark 42 = .ok (.putfield 276, 3) := by decide +kernel
theorem dX1_mark_45 : decode cX1_mark 45 = .ok (.iload_n 2, 1) := by decide +kernel
theorem dX1_mark_46 : decode cX1_mark 46 = .ok (.bipush 63, 2) := by decide +kernel
theorem dX1_mark_48 : decode cX1_mark 48 = .ok (.if_icmp .eq 16, 3) := by decide +kernel
theorem dX1_mark_51 : decode cX1_mark 51 = .ok (.aload_n 0, 1) := by decide +kernel
theorem dX1_mark_52 : decode cX1_mark 52 = .ok (.iload_n 1, 1) := by decide +kernel
theorem dX1_mark_53 : decode cX1_mark 53 = .ok (.aload_n 0, 1) := by decide +kernel
theorem dX1_mark_54 : decode cX1_mark 54 = .ok (.getfield 386, 3) := by decide +kernel
theorem dX1_mark_57 : decode cX1_mark 57 = .ok (.aload_n 0, 1) := by decide +kernel
theorem dX1_mark_58 : decode cX1_mark 58 = .ok (.getfield 390, 3) := by decide +kernel
theorem dX1_mark_61 : decode cX1_mark 61 = .ok (.invokevirtual 393, 3) := by decide +kernel
theorem dX1_mark_64 : decode cX1_mark 64 = .ok (.aload_n 0, 1) := by decide +kernel
theorem dX1_mark_65 : decode cX1_mark 65 = .ok (.aload_n 0, 1) := by decide +kernel
theorem dX1_mark_66 : decode cX1_mark 66 = .ok (.getfield 397, 3) := by decide +kernel
theorem dX1_mark_69 : decode cX1_mark 69 = .ok (.ifCond .ne 9, 3) := by decide +kernel
theorem dX1_mark_72 : decode cX1_mark 72 = .ok (.iload_n 2, 1) := by decide +kernel
theorem dX1_mark_73 : decode cX1_mark 73 = .ok (.bipush 43, 2) := by decide +kernel
theorem dX1_mark_75 : decode cX1_mark 75 = .ok (.if_icmp .eq 7, 3) := by decide +kernel
theorem dX1_mark_78 : decode cX1_mark 78 = .ok (.iconst 1, 1) := by decide +kernel
theorem dX1_mark_79 : decode cX1_mark 79 = .ok (.goto 4, 3) := by decide +kernel
theorem dX1_mark_82 : decode cX1_mark 82 = .ok (.iconst 0, 1) := by decide +kernel
theorem dX1_mark_83 : decode cX1_mark 83 = .ok (.putfield 397, 3) := by decide +kernel
theorem dX1_mark_86 : decode cX1_mark 86 = .ok (.return_, 1) := by decide +kernel
def m_mark_64 (σ : MEM) (x2 : Int) : Option zm_O := if (σ (-1) 59) = 0 then (if x2 = 43 then (nu (mup σ (-1) 59 0) (fun σ2 => some (0, σ2))) else (nu (mup σ (-1) 59 1) (fun σ3 => some (0, σ3)))) else (nu (mup σ (-1) 59 1) (fun σ4 => some (0, σ4)))
theorem w_mark_64 {C : zv_Cx zm_O} {G : zm_G} (h : zv_Ok C cX1_mark RX1) (hc : zm_C C G 3 (Option.none : Option FieldType) 0 1 26) (σ : MEM) (x2 : Int) (hx2 : inR x2) : VV C (m_mark_64 σ x2) σ [(0, .ref (zm_h G)), (2, iv x2)] [] 64 := by
  have hN : ∀ i, i < 3 → i < zv_n C := fun i q => by rw [hc.2.2.1]; exact q
  unfold m_mark_64
  refine r_aload_n h 0 dX1_mark_64 rfl rfl ?_
  refine r_aload_n h 0 dX1_mark_65 rfl rfl ?_
  refine zm_getZ h hc 59 59 (by decide) rfl rfl q1538 rfl dX1_mark_66 (fun hr1 => ?_)
  refine r_if_ne h hr1.r 78 dX1_mark_69 rfl ?_ ?_
  · refine r_iload_n h 1 dX1_mark_72 rfl rfl ?_
    refine r_bipush h dX1_mark_73 (by decide) ?_
    refine r_icmp_eq h hx2 (by decide) 82 dX1_mark_75 rfl ?_ ?_
    · refine r_iconst h dX1_mark_82 ?_
      refine zm_putZ h hc 59 59 (by decide) rfl rfl q1538 ⟨rfl, rfl, by decide +kernel⟩ (by decide) dX1_mark_83 (fun σ2 _ => ?_)
      exact zm_vret h hc rfl dX1_mark_86
    · refine r_iconst h dX1_mark_78 ?_
      refine r_goto h 83 dX1_mark_79 rfl ?_
      refine zm_putZ h hc 59 59 (by decide) rfl rfl q1538 ⟨rfl, rfl, by decide +kernel⟩ (by decide) dX1_mark_83 (fun σ3 _ => ?_)
      exact zm_vret h hc rfl dX1_mark_86
  · refine r_iconst h dX1_mark_78 ?_
    refine r_goto h 83 dX1_mark_79 rfl ?_
    refine zm_putZ h hc 59 59 (by decide) rfl rfl q1538 ⟨rfl, rfl, by decide +kernel⟩ (by decide) dX1_mark_83 (fun σ4 _ => ?_)
    exact zm_vret h hc rfl dX1_mark_86
def m_mark_35 (σ : MEM) (x1 x2 : Int) : Option zm_O := ck (inR ((σ (-1) 4) + 1)) (nu (mup σ (-1) 4 ((σ (-1) 4) + 1)) (fun σ3 => if x2 = 63 then (m_mark_64 σ3 x2) else (bd (m_joinFollows σ3 x1 (σ3 (-1) 61) (σ3 (-1) 60)) (fun _ σ6 => m_mark_64 σ6 x2))))
theorem w_mark_35 {C : zv_Cx zm_O} {G : zm_G} (h : zv_Ok C cX1_mark RX1) (hc : zm_C C G 3 (Option.none : Option FieldType) 0 1 26) (σ : MEM) (x1 x2 : Int) (hx1 : inR x1) (hx2 : inR x2) : VV C (m_mark_35 σ x1 x2) σ [(0, .ref (zm_h G)), (1, iv x1), (2, iv x2)] [] 35 := by
  have hN : ∀ i, i < 3 → i < zv_n C := fun i q => by rw [hc.2.2.1]; exact q
  unfold m_mark_35
  refine r_aload_n h 0 dX1_mark_35 rfl rfl ?_
  refine r_dup h dX1_mark_36 rfl ?_
  refine zm_getI h hc 4 4 (by decide) rfl rfl q1484 rfl dX1_mark_37 (fun hr1 => ?_)
  refine r_iconst h dX1_mark_40 ?_
  refine r_iadd h dX1_mark_41 ?_
  refine r_ck (fun hk2 => ?_)
  refine zm_putI h hc 4 4 (by decide) rfl rfl q1484 ⟨rfl, rfl, by decide +kernel⟩ hk2 dX1_mark_42 (fun σ3 _ => ?_)
  refine r_iload_n h 2 dX1_mark_45 rfl rfl ?_
  refine r_bipush h dX1_mark_46 (by decide) ?_
  refine r_icmp_eq h hx2 (by decide) 64 dX1_mark_48 rfl ?_ ?_
  · exact r_lv [0, 2] rfl (w_mark_64 h hc _ x2 hx2)
  · refine r_aload_n h 0 dX1_mark_51 rfl rfl ?_
    refine r_iload_n h 1 dX1_mark_52 rfl rfl ?_
    refine r_aload_n h 0 dX1_mark_53 rfl rfl ?_
    refine zm_getJ h hc 61 61 (by decide) rfl rfl q1540 rfl dX1_mark_54 (fun hr4 => ?_)
    refine r_aload_n h 0 dX1_mark_57 rfl rfl ?_
    refine zm_getJ h hc 60 60 (by decide) rfl rfl q1539 rfl dX1_mark_58 (fun hr5 => ?_)
    refine zm_cVv h hc (n := 3) (As := [iv x1, jv (σ3 (-1) 61), jv (σ3 (-1) 60)]) (fun o1 e1 => w_joinFollows hc.1 _ x1 (σ3 (-1) 61) (σ3 (-1) 60) hx1 hr4 hr5 o1 e1) q1903 q1905 qs74 q136 q1906 (by decide +kernel) ⟨by decide, by decide⟩ rfl (Nat.le_of_ble_eq_true rfl) rfl dX1_mark_61 (fun σ6  => ?_)
    exact r_lv [0, 2] rfl (w_mark_64 h hc _ x2 hx2)
def m_mark (σ : MEM) (a0 : Int) : Option zm_O := bd (m_octet σ (σ (-1) 4)) (fun r2 σ3 => bd (m_isGood σ3) (fun r5 σ6 => if r5 = 0 then (some (0, σ6)) else (if r2 = 63 then (m_mark_35 σ6 a0 r2) else (if r2 = 42 then (m_mark_35 σ6 a0 r2) else (if r2 = 43 then (m_mark_35 σ6 a0 r2) else (some (0, σ6)))))))
theorem w_mark {G : zm_G} (hD : zm_D G) (σ : MEM) (a0 : Int) (ha0 : inR a0) (o : zm_O) (hd : m_mark σ a0 = some o) : zm_Met G yX1_mark cX1_mark 3 (Option.none : Option FieldType) 0 1 26 σ [.ref (zm_h G), iv a0] o := by
  refine zm_intro hD hd (by decide) rfl (Nat.le_of_ble_eq_true rfl) rfl (fun C h hc => ?_)
  have hN : ∀ i, i < 3 → i < zv_n C := fun i q => by rw [hc.2.2.1]; exact q
  unfold m_mark
  refine r_aload_n h 0 dX1_mark_0 rfl rfl ?_
  refine r_aload_n h 0 dX1_mark_1 rfl rfl ?_
  refine zm_getI h hc 4 4 (by decide) rfl rfl q1484 rfl dX1_mark_2 (fun hr1 => ?_)
  refine zm_cVi h hc (n := 1) (As := [iv (σ (-1) 4)]) (fun o1 e1 => w_octet hc.1 _ (σ (-1) 4) hr1 o1 e1) q1817 q1819 qs60 q136 q1820 (by decide +kernel) ⟨by decide, by decide⟩ rfl (Nat.le_of_ble_eq_true rfl) rfl dX1_mark_5 (fun r2 σ3 hr4 => ?_)
  refine r_istore_n (lv' := [(2, iv r2), (0, .ref (zm_h G)), (1, iv a0)]) h dX1_mark_8 rfl (hN _ (by decide)) rfl ?_
  refine r_aload_n h 1 dX1_mark_9 rfl rfl ?_
  refine zm_cVz h hc (n := 0) (As := []) (fun o1 e1 => w_isGood hc.1 _ o1 e1) q1801 q1803 qs56 q136 q1804 (by decide +kernel) ⟨by decide, by decide⟩ rfl (Nat.le_of_ble_eq_true rfl) rfl dX1_mark_10 (fun r5 σ6 hr7 => ?_)
  refine r_if_eq h hr7.r 34 dX1_mark_13 rfl ?_ ?_
  · exact zm_vret h hc rfl dX1_mark_34
  · refine r_iload_n h 0 dX1_mark_16 rfl rfl ?_
    refine r_bipush h dX1_mark_17 (by decide) ?_
    refine r_icmp_eq h hr4 (by decide) 35 dX1_mark_19 rfl ?_ ?_
    · exact r_lv [1, 2, 0] rfl (w_mark_35 h hc _ a0 r2 ha0 hr4)
    · refine r_iload_n h 0 dX1_mark_22 rfl rfl ?_
      refine r_bipush h dX1_mark_23 (by decide) ?_
      refine r_icmp_eq h hr4 (by decide) 35 dX1_mark_25 rfl ?_ ?_
      · exact r_lv [1, 2, 0] rfl (w_mark_35 h hc _ a0 r2 ha0 hr4)
      · refine r_iload_n h 0 dX1_mark_28 rfl rfl ?_
        refine r_bipush h dX1_mark_29 (by decide) ?_
        refine r_icmp_eq h hr4 (by decide) 35 dX1_mark_31 rfl ?_ ?_
        · exact r_lv [1, 2, 0] rfl (w_mark_35 h hc _ a0 r2 ha0 hr4)
        · exact zm_vret h hc rfl dX1_mark_34
