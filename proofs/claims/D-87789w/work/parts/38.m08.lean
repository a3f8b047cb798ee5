set_option maxRecDepth 100000
/-! methods of the Model: decode rows, denotations m_.., walks w_.. (written by wip/gen/gen.py) -/
theorem dX1_feed_0 : decode cX1_feed 0 = .ok (.aload_n 0, 1) := by decide +kernel
theorem dX1_feed_1 : decode cX1_feed 1 = .ok (.getfield 476, 3) := by decide +kernel
theorem dX1_feed_4 : decode cX1_feed 4 = .ok (.bipush 20, 2) := by decide +kernel
theorem dX1_feed_6 : decode cX1_feed 6 = .ok (.iadd, 1) := by decide +kernel
theorem dX1_feed_7 : decode cX1_feed 7 = .ok (.sipush 6000, 3) := by decide +kernel
theorem dX1_feed_10 : decode cX1_feed 10 = .ok (.if_icmp .le 5, 3) := by decide +kernel
theorem dX1_feed_13 : decode cX1_feed 13 = .ok (.iconst (-1), 1) := by decide +kernel
theorem dX1_feed_14 : decode cX1_feed 14 = .ok (.ireturn, 1) := by decide +kernel
theorem dX1_feed_15 : decode cX1_feed 15 = .ok (.iconst 0, 1) := by decide +kernel
theorem dX1_feed_16 : decode cX1_feed 16 = .ok (.istore 6, 2) := by decide +kernel
theorem dX1_feed_18 : decode cX1_feed 18 = .ok (.iload 6, 2) := by decide +kernel
theorem dX1_feed_20 : decode cX1_feed 20 = .ok (.bipush 20, 2) := by decide +kernel
theorem dX1_feed_22 : decode cX1_feed 22 = .ok (.if_icmp .ge 90, 3) := by decide +kernel
theorem dX1_feed_25 : decode cX1_feed 25 = .ok (.iload 6, 2) := by decide +kernel
theorem dX1_feed_27 : decode cX1_feed 27 = .ok (.iconst 4, 1) := by decide +kernel
theorem dX1_feed_28 : decode cX1_feed 28 = .ok (.if_icmp .ge 7, 3) := by decide +kernel
theorem dX1_feed_31 : decode cX1_feed 31 = .ok (.iload_n 1, 1) := by decide +kernel
theorem dX1_feed_32 : decode cX1_feed 32 = .ok (.goto 39, 3) := by decide +kernel
theorem dX1_feed_35 : decode cX1_feed 35 = .ok (.iload 6, 2) := by decide +kernel
theorem dX1_feed_37 : decode cX1_feed 37 = .ok (.bipush 8, 2) := by decide +kernel
theorem dX1_feed_39 : decode cX1_feed 39 = .ok (.if_icmp .ge 7, 3) := by decide +kernel
theorem dX1_feed_42 : decode cX1_feed 42 = .ok (.iload_n 2, 1) := by decide +kernel
theorem dX1_feed_43 : decode cX1_feed 43 = .ok (.goto 28, 3) := by decide +kernel
theorem dX1_feed_46 : decode cX1_feed 46 = .ok (.iload 6, 2) := by decide +kernel
theorem dX1_feed_48 : decode cX1_feed 48 = .ok (.bipush 12, 2) := by decide +kernel
theorem dX1_feed_50 : decode cX1_feed 50 = .ok (.if_icmp .ge 7, 3) := by decide +kernel
theorem dX1_feed_53 : decode cX1_feed 53 = .ok (.iload_n 3, 1) := by decide +kernel
theorem dX1_feed_54 : decode cX1_feed 54 = .ok (.goto 17, 3) := by decide +kernel
theorem dX1_feed_57 : decode cX1_feed 57 = .ok (.iload 6, 2) := by decide +kernel
theorem dX1_feed_59 : decode cX1_feed 59 = .ok (.bipush 16, 2) := by decide +kernel
theorem dX1_feed_61 : decode cX1_feed 61 = .ok (.if_icmp .ge 8, 3) := by decide +kernel
theorem dX1_feed_64 : decode cX1_feed 64 = .ok (.iload 4, 2) := by decide +kernel
theorem dX1_feed_66 : decode cX1_feed 66 = .ok (.goto 5, 3) := by decide +kernel
theorem dX1_feed_69 : decode cX1_feed 69 = .ok (.iload 5, 2) := by decide +kernel
theorem dX1_feed_71 : decode cX1_feed 71 = .ok (.istore 7, 2) := by decide +kernel
theorem dX1_feed_73 : decode cX1_feed 73 = .ok (.aload_n 0, 1) := by decide +kernel
theorem dX1_feed_74 : decode cX1_feed 74 = .ok (.getfield 7, 3) := by decide +kernel
theorem dX1_feed_77 : decode cX1_feed 77 = .ok (.aload_n 0, 1) := by decide +kernel
theorem dX1_feed_78 : decode cX1_feed 78 = .ok (.getfield 476, 3) := by decide +kernel
theorem dX1_feed_81 : decode cX1_feed 81 = .ok (.iload 7, 2) := by decide +kernel
theorem dX1_feed_83 : decode cX1_feed 83 = .ok (.bipush 24, 2) := by decide +kernel
theorem dX1_feed_85 : decode cX1_feed 85 = .ok (.bipush 8, 2) := by decide +kernel
theorem dX1_feed_87 : decode cX1_feed 87 = .ok (.iload 6, 2) := by decide +kernel
theorem dX1_feed_89 : decode cX1_feed 89 = .ok (.iconst 4, 1) := by decide +kernel
theorem dX1_feed_90 : decode cX1_feed 90 = .ok (.irem, 1) := by decide +kernel
theorem dX1_feed_91 : decode cX1_feed 91 = .ok (.imul, 1) := by decide +kernel
theorem dX1_feed_92 : decode cX1_feed 92 = .ok (.isub, 1) := by decide +kernel
theorem dX1_feed_93 : decode cX1_feed 93 = .ok (.ishr, 1) := by decide +kernel
theorem dX1_feed_94 : decode cX1_feed 94 = .ok (.i2b, 1) := by decide +kernel
theorem dX1_feed_95 : decode cX1_feed 95 = .ok (.bastore, 1) := by decide +kernel
theorem dX1_feed_96 : decode cX1_feed 96 = .ok (.aload_n 0, 1) := by decide +kernel
theorem dX1_feed_97 : decode cX1_feed 97 = .ok (.dup, 1) := by decide +kernel
theorem dX1_feed_98 : decode cX1_feed 98 = .ok (.getfield 476, 3) := by decide +kernel
theorem dX1_feed_101 : decode cX1_feed 101 = .ok (.iconst 1, 1) := by decide +kernel
theorem dX1_feed_102 : decode cX1_feed 102 = .ok (.iadd, 1) := by decide +kernel
theorem dX1_feed_103 : decode cX1_feed 103 = .ok (.putfield 476, 3) := by decide +kernel
theorem dX1_feed_106 : decode cX1_feed 106 = .ok (.iinc 6 1, 3) := by decide +kernel
theorem dX1_feed_109 : decode cX1_feed 109 = .ok (.goto (-91), 3) := by decide +kernel
theorem dX1_feed_112 : decode cX1_feed 112 = .ok (.aload_n 0, 1) := by decide +kernel
theorem dX1_feed_113 : decode cX1_feed 113 = .ok (.getfield 476, 3) := by decide +kernel
theorem dX1_feed_116 : decode cX1_feed 116 = .ok (.ireturn, 1) := by decide +kernel
def m_feed_71 (lp18 : MEM → Int → Int → Int → Int → Int → Int → Option zm_O) (σ : MEM) (x1 x2 x3 x4 x5 x6 s0 : Int) : Option zm_O := ck (0 ≤ (σ (-1) 1) ∧ (σ (-1) 1) < 6000) (nu (mup σ 0 (σ (-1) 1) (i_b (i_shr s0 (24 - (8 * (i_rem x6 4)))))) (fun σ2 => ck (inR ((σ2 (-1) 1) + 1)) (nu (mup σ2 (-1) 1 ((σ2 (-1) 1) + 1)) (fun σ5 => ck (inR (x6 + 1)) (lp18 σ5 x1 x2 x3 x4 x5 (x6 + 1))))))
theorem w_feed_71 {C : zv_Cx zm_O} {G : zm_G} (h : zv_Ok C cX1_feed RX1) (hc : zm_C C G 8 (Option.some FieldType.int) 1 0 0) (lp18 : MEM → Int → Int → Int → Int → Int → Int → Option zm_O) (hlp18 : ∀ (σ : MEM) (x1 x2 x3 x4 x5 x6 : Int), inR x1 → inR x2 → inR x3 → inR x4 → inR x5 → inR x6 → VV C (lp18 σ x1 x2 x3 x4 x5 x6) σ [(0, .ref (zm_h G)), (1, iv x1), (2, iv x2), (3, iv x3), (4, iv x4), (5, iv x5), (6, iv x6)] [] 18) (σ : MEM) (x1 x2 x3 x4 x5 x6 s0 : Int) (hx1 : inR x1) (hx2 : inR x2) (hx3 : inR x3) (hx4 : inR x4) (hx5 : inR x5) (hx6 : inR x6) (hs0 : inR s0) : VV C (m_feed_71 lp18 σ x1 x2 x3 x4 x5 x6 s0) σ [(0, .ref (zm_h G)), (1, iv x1), (2, iv x2), (3, iv x3), (4, iv x4), (5, iv x5), (6, iv x6)] [iv s0] 71 := by
  have hN : ∀ i, i < 8 → i < zv_n C := fun i q => by rw [hc.2.2.1]; exact q
  unfold m_feed_71
  refine r_istore (lv' := [(7, iv s0), (0, .ref (zm_h G)), (1, iv x1), (2, iv x2), (3, iv x3), (4, iv x4), (5, iv x5), (6, iv x6)]) h dX1_feed_71 (hN _ (by decide)) rfl ?_
  refine r_aload_n h 1 dX1_feed_73 rfl rfl ?_
  refine zm_getA h hc 0 (by decide) rfl q1480 rfl dX1_feed_74 ?_
  refine r_aload_n h 1 dX1_feed_77 rfl rfl ?_
  refine zm_getI h hc 1 1 (by decide) rfl rfl q1481 rfl dX1_feed_78 (fun hr1 => ?_)
  refine r_iload h 0 dX1_feed_81 rfl ?_
  refine r_bipush h dX1_feed_83 (by decide) ?_
  refine r_bipush h dX1_feed_85 (by decide) ?_
  refine r_iload h 7 dX1_feed_87 rfl ?_
  refine r_iconst h dX1_feed_89 ?_
  refine r_irem h (by decide) (by decide) dX1_feed_90 ?_
  refine r_imul h dX1_feed_91 ?_
  refine r_isub h dX1_feed_92 ?_
  refine r_ishr h dX1_feed_93 ?_
  refine r_i2b h dX1_feed_94 ?_
  refine zm_stB h hc 0 0 6000 (by decide) rfl rfl rfl (by decide) (i_b_y _) dX1_feed_95 (fun _ σ2 _ => ?_)
  refine r_aload_n h 1 dX1_feed_96 rfl rfl ?_
  refine r_dup h dX1_feed_97 rfl ?_
  refine zm_getI h hc 1 1 (by decide) rfl rfl q1481 rfl dX1_feed_98 (fun hr3 => ?_)
  refine r_iconst h dX1_feed_101 ?_
  refine r_iadd h dX1_feed_102 ?_
  refine r_ck (fun hk4 => ?_)
  refine zm_putI h hc 1 1 (by decide) rfl rfl q1481 ⟨rfl, rfl, by decide +kernel⟩ hk4 dX1_feed_103 (fun σ5 _ => ?_)
  refine r_iinc (lv' := [(6, iv (x6 + 1)), (7, iv s0), (0, .ref (zm_h G)), (1, iv x1), (2, iv x2), (3, iv x3), (4, iv x4), (5, iv x5)]) h 7 dX1_feed_106 rfl (hN _ (by decide)) rfl ?_
  refine r_goto h 18 dX1_feed_109 rfl ?_
  refine r_ck (fun hk6 => ?_)
  exact r_lv [2, 3, 4, 5, 6, 7, 0] rfl (hlp18 _ x1 x2 x3 x4 x5 (x6 + 1) hx1 hx2 hx3 hx4 hx5 hk6)
def m_feed_18 : Nat → MEM → Int → Int → Int → Int → Int → Int → Option zm_O
  | 0, _, _, _, _, _, _, _ => none
  | n + 1, σ, x1, x2, x3, x4, x5, x6 => if 20 ≤ x6 then (some ((σ (-1) 1), σ)) else (if 4 ≤ x6 then (if 8 ≤ x6 then (if 12 ≤ x6 then (if 16 ≤ x6 then (m_feed_71 (m_feed_18 n) σ x1 x2 x3 x4 x5 x6 x5) else (m_feed_71 (m_feed_18 n) σ x1 x2 x3 x4 x5 x6 x4)) else (m_feed_71 (m_feed_18 n) σ x1 x2 x3 x4 x5 x6 x3)) else (m_feed_71 (m_feed_18 n) σ x1 x2 x3 x4 x5 x6 x2)) else (m_feed_71 (m_feed_18 n) σ x1 x2 x3 x4 x5 x6 x1))
theorem w_feed_18 {C : zv_Cx zm_O} {G : zm_G} (h : zv_Ok C cX1_feed RX1) (hc : zm_C C G 8 (Option.some FieldType.int) 1 0 0) : ∀ (n : Nat) (σ : MEM) (x1 x2 x3 x4 x5 x6 : Int), inR x1 → inR x2 → inR x3 → inR x4 → inR x5 → inR x6 → VV C (m_feed_18 n σ x1 x2 x3 x4 x5 x6) σ [(0, .ref (zm_h G)), (1, iv x1), (2, iv x2), (3, iv x3), (4, iv x4), (5, iv x5), (6, iv x6)] [] 18 := by
  have hN : ∀ i, i < 8 → i < zv_n C := fun i q => by rw [hc.2.2.1]; exact q
  intro n
  induction n with
  | zero => intros; exact r_none
  | succ n ih =>
    intro σ x1 x2 x3 x4 x5 x6 hx1 hx2 hx3 hx4 hx5 hx6
    rw [m_feed_18]
    refine r_iload h 6 dX1_feed_18 rfl ?_
    refine r_bipush h dX1_feed_20 (by decide) ?_
    refine r_icmp_ge h hx6 (by decide) 112 dX1_feed_22 rfl ?_ ?_
    · refine r_aload_n h 0 dX1_feed_112 rfl rfl ?_
      refine zm_getI h hc 1 1 (by decide) rfl rfl q1481 rfl dX1_feed_113 (fun hr1 => ?_)
      exact zm_iret h hc rfl hr1 dX1_feed_116
    · refine r_iload h 6 dX1_feed_25 rfl ?_
      refine r_iconst h dX1_feed_27 ?_
      refine r_icmp_ge h hx6 (by decide) 35 dX1_feed_28 rfl ?_ ?_
      · refine r_iload h 6 dX1_feed_35 rfl ?_
        refine r_bipush h dX1_feed_37 (by decide) ?_
        refine r_icmp_ge h hx6 (by decide) 46 dX1_feed_39 rfl ?_ ?_
        · refine r_iload h 6 dX1_feed_46 rfl ?_
          refine r_bipush h dX1_feed_48 (by decide) ?_
          refine r_icmp_ge h hx6 (by decide) 57 dX1_feed_50 rfl ?_ ?_
          · refine r_iload h 6 dX1_feed_57 rfl ?_
            refine r_bipush h dX1_feed_59 (by decide) ?_
            refine r_icmp_ge h hx6 (by decide) 69 dX1_feed_61 rfl ?_ ?_
            · refine r_iload h 5 dX1_feed_69 rfl ?_
              exact r_lv [0, 1, 2, 3, 4, 5, 6] rfl (w_feed_71 h hc (m_feed_18 n) ih _ x1 x2 x3 x4 x5 x6 x5 hx1 hx2 hx3 hx4 hx5 hx6 hx5)
            · refine r_iload h 4 dX1_feed_64 rfl ?_
              refine r_goto h 71 dX1_feed_66 rfl ?_
              exact r_lv [0, 1, 2, 3, 4, 5, 6] rfl (w_feed_71 h hc (m_feed_18 n) ih _ x1 x2 x3 x4 x5 x6 x4 hx1 hx2 hx3 hx4 hx5 hx6 hx4)
          · refine r_iload_n h 3 dX1_feed_53 rfl rfl ?_
            refine r_goto h 71 dX1_feed_54 rfl ?_
            exact r_lv [0, 1, 2, 3, 4, 5, 6] rfl (w_feed_71 h hc (m_feed_18 n) ih _ x1 x2 x3 x4 x5 x6 x3 hx1 hx2 hx3 hx4 hx5 hx6 hx3)
        · refine r_iload_n h 2 dX1_feed_42 rfl rfl ?_
          refine r_goto h 71 dX1_feed_43 rfl ?_
          exact r_lv [0, 1, 2, 3, 4, 5, 6] rfl (w_feed_71 h hc (m_feed_18 n) ih _ x1 x2 x3 x4 x5 x6 x2 hx1 hx2 hx3 hx4 hx5 hx6 hx2)
      · refine r_iload_n h 1 dX1_feed_31 rfl rfl ?_
        refine r_goto h 71 dX1_feed_32 rfl ?_
        exact r_lv [0, 1, 2, 3, 4, 5, 6] rfl (w_feed_71 h hc (m_feed_18 n) ih _ x1 x2 x3 x4 x5 x6 x1 hx1 hx2 hx3 hx4 hx5 hx6 hx1)
def m_feed (σ : MEM) (a0 a1 a2 a3 a4 : Int) : Option zm_O := ck (inR ((σ (-1) 1) + 20)) (if ((σ (-1) 1) + 20) ≤ 6000 then (m_feed_18 zF σ a0 a1 a2 a3 a4 0) else (some ((-1), σ)))
theorem w_feed {G : zm_G} (hD : zm_D G) (σ : MEM) (a0 a1 a2 a3 a4 : Int) (ha0 : inR a0) (ha1 : inR a1) (ha2 : inR a2) (ha3 : inR a3) (ha4 : inR a4) (o : zm_O) (hd : m_feed σ a0 a1 a2 a3 a4 = some o) : zm_Met G yX1_feed cX1_feed 8 (Option.some FieldType.int) 1 0 0 σ [.ref (zm_h G), iv a0, iv a1, iv a2, iv a3, iv a4] o := by
  refine zm_intro hD hd (by decide) rfl (Nat.le_of_ble_eq_true rfl) rfl (fun C h hc => ?_)
  have hN : ∀ i, i < 8 → i < zv_n C := fun i q => by rw [hc.2.2.1]; exact q
  unfold m_feed
  refine r_aload_n h 0 dX1_feed_0 rfl rfl ?_
  refine zm_getI h hc 1 1 (by decide) rfl rfl q1481 rfl dX1_feed_1 (fun hr1 => ?_)
  refine r_bipush h dX1_feed_4 (by decide) ?_
  refine r_iadd h dX1_feed_6 ?_
  refine r_sipush h dX1_feed_7 (by decide) ?_
  refine r_ck (fun hk2 => ?_)
  refine r_icmp_le h hk2 (by decide) 15 dX1_feed_10 rfl ?_ ?_
  · refine r_iconst h dX1_feed_15 ?_
    refine r_istore (lv' := [(6, iv 0), (0, .ref (zm_h G)), (1, iv a0), (2, iv a1), (3, iv a2), (4, iv a3), (5, iv a4)]) h dX1_feed_16 (hN _ (by decide)) rfl ?_
    exact r_lv [1, 2, 3, 4, 5, 6, 0] rfl (w_feed_18 h hc zF _ a0 a1 a2 a3 a4 0 ha0 ha1 ha2 ha3 ha4 (by decide))
  · refine r_iconst h dX1_feed_13 ?_
    exact zm_iret h hc rfl (by decide) dX1_feed_14
theorem dX1_place_0 : decode cX1_place 0 = .ok (.aload_n 0, 1) := by decide +kernel
theorem dX1_place_1 : decode cX1_place 1 = .ok (.getfield 16, 3) := by decide +kernel
theorem dX1_place_4 : decode cX1_place 4 = .ok (.ireturn, 1) := by decide +kernel
def m_place (σ : MEM) : Option zm_O := some ((σ (-1) 6), σ)
theorem w_place {G : zm_G} (hD : zm_D G) (σ : MEM) (o : zm_O) (hd : m_place σ  = some o) : zm_Met G yX1_place cX1_place 1 (Option.some FieldType.int) 1 0 0 σ [.ref (zm_h G)] o := by
  refine zm_intro hD hd (by decide) rfl (Nat.le_of_ble_eq_true rfl) rfl (fun C h hc => ?_)
  have hN : ∀ i, i < 1 → i < zv_n C := fun i q => by rw [hc.2.2.1]; exact q
  unfold m_place
  refine r_aload_n h 0 dX1_place_0 rfl rfl ?_
  refine zm_getI h hc 6 6 (by decide) rfl rfl q1486 rfl dX1_place_1 (fun hr1 => ?_)
  exact zm_iret h hc rfl hr1 dX1_place_4
theorem dX1_isNode_0 : decode cX1_isNode 0 = .ok (.aload_n 0, 1) := by decide +kernel
theorem dX1_isNode_1 : decode cX1_isNode 1 = .ok (.getfield 498, 3) := by decide +kernel
theorem dX1_isNode_4 : decode cX1_isNode 4 = .ok (.ifCond .eq 28, 3) := by decide +kernel
theorem dX1_isNode_7 : decode cX1_isNode 7 = .ok (.iload_n 1, 1) := by decide +kernel
theorem dX1_isNode_8 : decode cX1_isNode 8 = .ok (.i2l, 1) := by decide +kernel
theorem dX1_isNode_9 : decode cX1_isNode 9 = .ok (.lconst 0, 1) := by decide +kernel
theorem dX1_isNode_10 : decode cX1_isNode 10 = .ok (.aload_n 0, 1) := by decide +kernel
theorem dX1_isNode_11 : decode cX1_isNode 11 = .ok (.getfield 27, 3) := by decide +kernel
theorem dX1_isNode_14 : decode cX1_isNode 14 = .ok (.aload_n 0, 1) := by decide +kernel
theorem dX1_isNode_15 : decode cX1_isNode 15 = .ok (.getfield 482, 3) := by decide +kernel
theorem dX1_isNode_18 : decode cX1_isNode 18 = .ok (.iaload, 1) := by decide +kernel
theorem dX1_isNode_19 : decode cX1_isNode 19 = .ok (.iconst 1, 1) := by decide +kernel
theorem dX1_isNode_20 : decode cX1_isNode 20 = .ok (.isub, 1) := by decide +kernel
theorem dX1_isNode_21 : decode cX1_isNode 21 = .ok (.i2l, 1) := by decide +kernel
theorem dX1_isNode_22 : decode cX1_isNode 22 = .ok (.invokestatic 256, 3) := by decide +kernel
theorem dX1_isNode_25 : decode cX1_isNode 25 = .ok (.ifCond .eq 7, 3) := by decide +kernel
theorem dX1_isNode_28 : decode cX1_isNode 28 = .ok (.iconst 1, 1) := by decide +kernel
theorem dX1_isNode_29 : decode cX1_isNode 29 = .ok (.goto 4, 3) := by decide +kernel
theorem dX1_isNode_32 : decode cX1_isNode 32 = .ok (.iconst 0, 1) := by decide +kernel
theorem dX1_isNode_33 : decode cX1_isNode 33 = .ok (.ireturn, 1) := by decide +kernel
def m_isNode (σ : MEM) (a0 : Int) : Option zm_O := if (σ (-1) 9) = 0 then (some (0, σ)) else (ck (0 ≤ (σ (-1) 7) ∧ (σ (-1) 7) < 2) (ck (inR ((σ 12 (σ (-1) 7)) - 1)) (bd (m_in σ a0 0 ((σ 12 (σ (-1) 7)) - 1)) (fun r5 σ6 => if r5 = 0 then (some (0, σ6)) else (some (1, σ6))))))
theorem w_isNode {G : zm_G} (hD : zm_D G) (σ : MEM) (a0 : Int) (ha0 : inR a0) (o : zm_O) (hd : m_isNode σ a0 = some o) : zm_Met G yX1_isNode cX1_isNode 2 (Option.some FieldType.boolean) 3 1 25 σ [.ref (zm_h G), iv a0] o := by
  refine zm_intro hD hd (by decide) rfl (Nat.le_of_ble_eq_true rfl) rfl (fun C h hc => ?_)
  have hN : ∀ i, i < 2 → i < zv_n C := fun i q => by rw [hc.2.2.1]; exact q
  unfold m_isNode
  refine r_aload_n h 0 dX1_isNode_0 rfl rfl ?_
  refine zm_getZ h hc 9 9 (by decide) rfl rfl q1489 rfl dX1_isNode_1 (fun hr1 => ?_)
  refine r_if_eq h hr1.r 32 dX1_isNode_4 rfl ?_ ?_
  · refine r_iconst h dX1_isNode_32 ?_
    exact zm_zret h hc rfl (by decide) dX1_isNode_33
  · refine r_iload_n h 1 dX1_isNode_7 rfl rfl ?_
    refine r_i2l h ha0 dX1_isNode_8 ?_
    refine r_lconst (x := 0) h dX1_isNode_9 (by decide) ?_
    refine r_aload_n h 0 dX1_isNode_10 rfl rfl ?_
    refine zm_getA h hc 12 (by decide) rfl q1492 rfl dX1_isNode_11 ?_
    refine r_aload_n h 0 dX1_isNode_14 rfl rfl ?_
    refine zm_getI h hc 7 7 (by decide) rfl rfl q1487 rfl dX1_isNode_15 (fun hr2 => ?_)
    refine zm_ldI h hc 12 12 2 (by decide) rfl rfl rfl (by decide) dX1_isNode_18 (fun _ hr3 => ?_)
    refine r_iconst h dX1_isNode_19 ?_
    refine r_isub h dX1_isNode_20 ?_
    refine r_ck (fun hk4 => ?_)
    refine r_i2l h hk4 dX1_isNode_21 ?_
    refine zm_cSz h hc (n := 3) (As := [jv a0, jv 0, jv ((σ 12 (σ (-1) 7)) - 1)]) (fun o1 e1 => w_in hc.1 _ a0 0 ((σ 12 (σ (-1) 7)) - 1) ha0.l (by decide) hk4.l o1 e1) q1790 q1791 q136 q1792 (by decide +kernel) ⟨by decide, by decide⟩ rfl (Nat.le_of_ble_eq_true rfl) rfl dX1_isNode_22 (fun r5 σ6 hr7 => ?_)
    refine r_if_eq h hr7.r 32 dX1_isNode_25 rfl ?_ ?_
    · refine r_iconst h dX1_isNode_32 ?_
      exact zm_zret h hc rfl (by decide) dX1_isNode_33
    · refine r_iconst h dX1_isNode_28 ?_
      refine r_goto h 33 dX1_isNode_29 rfl ?_
      exact zm_zret h hc rfl (by decide) dX1_isNode_33
theorem dX1_node_0 : decode cX1_node 0 = .ok (.aload_n 0, 1) := by decide +kernel
theorem dX1_node_1 : decode cX1_node 1 = .ok (.iload_n 1, 1) := by decide +kernel
theorem dX1_node_2 : decode cX1_node 2 = .ok (.invokevirtual 664, 3) := by decide +kernel
theorem dX1_node_5 : decode cX1_node 5 = .ok (.ifCond .ne 6, 3) := by decide +kernel
theorem dX1_node_8 : decode cX1_node 8 = .ok (.bipush (-9), 2) := by decide +kernel
theorem dX1_node_10 : decode cX1_node 10 = .ok (.ireturn, 1) := by decide +kernel
theorem dX1_node_11 : decode cX1_node 11 = .ok (.sipush 600, 3) := by decide +kernel
theorem dX1_node_14 : decode cX1_node 14 = .ok (.aload_n 0, 1) := by decide +kernel
theorem dX1_node_15 : decode cX1_node 15 = .ok (.getfield 482, 3) := by decide +kernel
theorem dX1_node_18 : decode cX1_node 18 = .ok (.imul, 1) := by decide +kernel
theorem dX1_node_19 : decode cX1_node 19 = .ok (.iload_n 1, 1) := by decide +kernel
theorem dX1_node_20 : decode cX1_node 20 = .ok (.iadd, 1) := by decide +kernel
theorem dX1_node_21 : decode cX1_node 21 = .ok (.istore_n 3, 1) := by decide +kernel
theorem dX1_node_22 : decode cX1_node 22 = .ok (.iconst 0, 1) := by decide +kernel
theorem dX1_node_23 : decode cX1_node 23 = .ok (.istore 4, 2) := by decide +kernel
theorem dX1_node_25 : decode cX1_node 25 = .ok (.iconst 0, 1) := by decide +kernel
theorem dX1_node_26 : decode cX1_node 26 = .ok (.istore 5, 2) := by decide +kernel
theorem dX1_node_28 : decode cX1_node 28 = .ok (.sipush 600, 3) := by decide +kernel
theorem dX1_node_31 : decode cX1_node 31 = .ok (.aload_n 0, 1) := by decide +kernel
theorem dX1_node_32 : decode cX1_node 32 = .ok (.getfield 482, 3) := by decide +kernel
theorem dX1_node_35 : decode cX1_node 35 = .ok (.imul, 1) := by decide +kernel
theorem dX1_node_36 : decode cX1_node 36 = .ok (.istore 6, 2) := by decide +kernel
theorem dX1_node_38 : decode cX1_node 38 = .ok (.iload 6, 2) := by decide +kernel
theorem dX1_node_40 : decode cX1_node 40 = .ok (.sipush 600, 3) := by decide +kernel
theorem dX1_node_43 : decode cX1_node 43 = .ok (.aload_n 0, 1) := by decide +kernel
theorem dX1_node_44 : decode cX1_node 44 = .ok (.getfield 482, 3) := by decide +kernel
theorem dX1_node_47 : decode cX1_node 47 = .ok (.imul, 1) := by decide +kernel
theorem dX1_node_48 : decode cX1_node 48 = .ok (.aload_n 0, 1) := by decide +kernel
theorem dX1_node_49 : decode cX1_node 49 = .ok (.getfield 27, 3) := by decide +kernel
theorem dX1_node_52 : decode cX1_node 52 = .ok (.aload_n 0, 1) := by decide +kernel
theorem dX1_node_53 : decode cX1_node 53 = .ok (.getfield 482, 3) := by decide +kernel
theorem dX1_node_56 : decode cX1_node 56 = .ok (.iaload, 1) := by decide +kernel
theorem dX1_node_57 : decode cX1_node 57 = .ok (.iadd, 1) := by decide +kernel
theorem dX1_node_58 : decode cX1_node 58 = .ok (.if_icmp .ge 73, 3) := by decide +kernel
theorem dX1_node_61 : decode cX1_node 61 = .ok (.iload 4, 2) := by decide +kernel
theorem dX1_node_63 : decode cX1_node 63 = .ok (.aload_n 0, 1) := by decide +kernel
theorem dX1_node_64 : decode cX1_node 64 = .ok (.getfield 34, 3) := by decide +kernel
theorem dX1_node_67 : decode cX1_node 67 = .ok (.iload 6, 2) := by decide +kernel
theorem dX1_node_69 : decode cX1_node 69 = .ok (.iaload, 1) := by decide +kernel
theorem dX1_node_70 : decode cX1_node 70 = .ok (.iload_n 1, 1) := by decide +kernel
theorem dX1_node_71 : decode cX1_node 71 = .ok (.if_icmp .ne 18, 3) := by decide +kernel
theorem dX1_node_74 : decode cX1_node 74 = .ok (.aload_n 0, 1) := by decide +kernel
theorem dX1_node_75 : decode cX1_node 75 = .ok (.getfield 31, 3) := by decide +kernel
theorem dX1_node_78 : decode cX1_node 78 = .ok (.iload 6, 2) := by decide +kernel
theorem dX1_node_80 : decode cX1_node 80 = .ok (.iaload, 1) := by decide +kernel
theorem dX1_node_81 : decode cX1_node 81 = .ok (.iconst 2, 1) := by decide +kernel
theorem dX1_node_82 : decode cX1_node 82 = .ok (.if_icmp .ne 7, 3) := by decide +kernel
theorem dX1_node_85 : decode cX1_node 85 = .ok (.iconst 1, 1) := by decide +kernel
theorem dX1_node_86 : decode cX1_node 86 = .ok (.goto 4, 3) := by decide +kernel
theorem dX1_node_89 : decode cX1_node 89 = .ok (.iconst 0, 1) := by decide +kernel
theorem dX1_node_90 : decode cX1_node 90 = .ok (.iadd, 1) := by decide +kernel
theorem dX1_node_91 : decode cX1_node 91 = .ok (.istore 4, 2) := by decide +kernel
theorem dX1_node_93 : decode cX1_node 93 = .ok (.iload 5, 2) := by decide +kernel
theorem dX1_node_95 : decode cX1_node 95 = .ok (.aload_n 0, 1) := by decide +kernel
theorem dX1_node_96 : decode cX1_node 96 = .ok (.getfield 34, 3) := by decide +kernel
theorem dX1_node_99 : decode cX1_node 99 = .ok (.iload 6, 2) := by decide +kernel
theorem dX1_node_101 : decode cX1_node 101 = .ok (.iaload, 1) := by decide +kernel
theorem dX1_node_102 : decode cX1_node 102 = .ok (.iload_n 1, 1) := by decide +kernel
theorem dX1_node_103 : decode cX1_node 103 = .ok (.if_icmp .ne 18, 3) := by decide +kernel
theorem dX1_node_106 : decode cX1_node 106 = .ok (.aload_n 0, 1) := by decide +kernel
theorem dX1_node_107 : decode cX1_node 107 = .ok (.getfield 31, 3) := by decide +kernel
theorem dX1_node_110 : decode cX1_node 110 = .ok (.iload 6, 2) := by decide +kernel
theorem dX1_node_112 : decode cX1_node 112 = .ok (.iaload, 1) := by decide +kernel
theorem dX1_node_113 : decode cX1_node 113 = .ok (.iconst 2, 1) := by decide +kernel
theorem dX1_node_114 : decode cX1_node 114 = .ok (.if_icmp .eq 7, 3) := by decide +kernel
theorem dX1_node_117 : decode cX1_node 117 = .ok (.iconst 1, 1) := by decide +kernel
theorem dX1_node_118 : decode cX1_node 118 = .ok (.goto 4, 3) := by decide +kernel
theorem dX1_node_121 : decode cX1_node 121 = .ok (.iconst 0, 1) := by decide +kernel
theorem dX1_node_122 : decode cX1_node 122 = .ok (.iadd, 1) := by decide +kernel
theorem dX1_node_123 : decode cX1_node 123 = .ok (.istore 5, 2) := by decide +kernel
theorem dX1_node_125 : decode cX1_node 125 = .ok (.iinc 6 1, 3) := by decide +kernel
theorem dX1_node_128 : decode cX1_node 128 = .ok (.goto (-90), 3) := by decide +kernel
theorem dX1_node_131 : decode cX1_node 131 = .ok (.iload_n 2, 1) := by decide +kernel
theorem dX1_node_132 : decode cX1_node 132 = .ok (.tableswitch 73 0 5 #[40, 47, 54, 61, 67, 70], 40) := by decide +kernel
theorem dX1_node_172 : decode cX1_node 172 = .ok (.aload_n 0, 1) := by decide +kernel
theorem dX1_node_173 : decode cX1_node 173 = .ok (.getfield 31, 3) := by decide +kernel
theorem dX1_node_176 : decode cX1_node 176 = .ok (.iload_n 3, 1) := by decide +kernel
theorem dX1_node_177 : decode cX1_node 177 = .ok (.iaload, 1) := by decide +kernel
theorem dX1_node_178 : decode cX1_node 178 = .ok (.ireturn, 1) := by decide +kernel
theorem dX1_node_179 : decode cX1_node 179 = .ok (.aload_n 0, 1) := by decide +kernel
theorem dX1_node_180 : decode cX1_node 180 = .ok (.getfield 34, 3) := by decide +kernel
theorem dX1_node_183 : decode cX1_node 183 = .ok (.iload_n 3, 1) := by decide +kernel
theorem dX1_node_184 : decode cX1_node 184 = .ok (.iaload, 1) := by decide +kernel
theorem dX1_node_185 : decode cX1_node 185 = .ok (.ireturn, 1) := by decide +kernel
theorem dX1_node_186 : decode cX1_node 186 = .ok (.aload_n 0, 1) := by decide +kernel
theorem dX1_node_187 : decode cX1_node 187 = .ok (.getfield 40, 3) := by decide +kernel
theorem dX1_node_190 : decode cX1_node 190 = .ok (.iload_n 3, 1) := by decide +kernel
theorem dX1_node_191 : decode cX1_node 191 = .ok (.iaload, 1) := by decide +kernel
theorem dX1_node_192 : decode cX1_node 192 = .ok (.ireturn, 1) := by decide +kernel
theorem dX1_node_193 : decode cX1_node 193 = .ok (.aload_n 0, 1) := by decide +kernel
theorem dX1_node_194 : decode cX1_node 194 = .ok (.iload_n 1, 1) := by decide +kernel
theorem dX1_node_195 : decode cX1_node 195 = .ok (.invokevirtual 591, 3) := by decide +kernel
theorem dX1_node_198 : decode cX1_node 198 = .ok (.ireturn, 1) := by decide +kernel
theorem dX1_node_199 : decode cX1_node 199 = .ok (.iload 4, 2) := by decide +kernel
theorem dX1_node_201 : decode cX1_node 201 = .ok (.ireturn, 1) := by decide +kernel
theorem dX1_node_202 : decode cX1_node 202 = .ok (.iload 5, 2) := by decide +kernel
theorem dX1_node_204 : decode cX1_node 204 = .ok (.ireturn, 1) := by decide +kernel
theorem dX1_node_205 : decode cX1_node 205 = .ok (.iload_n 2, 1) := by decide +kernel
theorem dX1_node_206 : decode cX1_node 206 = .ok (.bipush 6, 2) := by decide +kernel
theorem dX1_node_208 : decode cX1_node 208 = .ok (.if_icmp .ne 20, 3) := by decide +kernel
theorem dX1_node_211 : decode cX1_node 211 = .ok (.aload_n 0, 1) := by decide +kernel
theorem dX1_node_212 : decode cX1_node 212 = .ok (.getfield 49, 3) := by decide +kernel
theorem dX1_node_215 : decode cX1_node 215 = .ok (.iload_n 3, 1) := by decide +kernel
theorem dX1_node_216 : decode cX1_node 216 = .ok (.baload, 1) := by decide +kernel
theorem dX1_node_217 : decode cX1_node 217 = .ok (.ifCond .eq 7, 3) := by decide +kernel
theorem dX1_node_220 : decode cX1_node 220 = .ok (.iconst 1, 1) := by decide +kernel
theorem dX1_node_221 : decode cX1_node 221 = .ok (.goto 9, 3) := by decide +kernel
theorem dX1_node_224 : decode cX1_node 224 = .ok (.iconst 0, 1) := by decide +kernel
theorem dX1_node_225 : decode cX1_node 225 = .ok (.goto 5, 3) := by decide +kernel
theorem dX1_node_228 : decode cX1_node 228 = .ok (.bipush (-9), 2) := by decide +kernel
theorem dX1_node_230 : decode cX1_node 230 = .ok (.ireturn, 1) := by decide +kernel
def m_node_90 (lp38 : MEM → Int → Int → Int → Int → Int → Int → Option zm_O) (σ : MEM) (x1 x2 x3 x5 x6 s0 s1 : Int) : Option zm_O := ck (0 ≤ x6 ∧ x6 < 1200) (if (σ 14 x6) = x1 then (ck (0 ≤ x6 ∧ x6 < 1200) (if (σ 13 x6) = 2 then (ck (inR (s0 + s1)) (ck (inR (x5 + 0)) (ck (inR (x6 + 1)) (lp38 σ x1 x2 x3 (s0 + s1) (x5 + 0) (x6 + 1))))) else (ck (inR (s0 + s1)) (ck (inR (x5 + 1)) (ck (inR (x6 + 1)) (lp38 σ x1 x2 x3 (s0 + s1) (x5 + 1) (x6 + 1))))))) else (ck (inR (s0 + s1)) (ck (inR (x5 + 0)) (ck (inR (x6 + 1)) (lp38 σ x1 x2 x3 (s0 + s1) (x5 + 0) (x6 + 1))))))
theorem w_node_90 {C : zv_Cx zm_O} {G : zm_G} (h : zv_Ok C cX1_node RX1) (hc : zm_C C G 7 (Option.some FieldType.int) 1 2 48) (lp38 : MEM → Int → Int → Int → Int → Int → Int → Option zm_O) (hlp38 : ∀ (σ : MEM) (x1 x2 x3 x4 x5 x6 : Int), inR x1 → inR x2 → inR x3 → inR x4 → inR x5 → inR x6 → VV C (lp38 σ x1 x2 x3 x4 x5 x6) σ [(0, .ref (zm_h G)), (1, iv x1), (2, iv x2), (3, iv x3), (4, iv x4), (5, iv x5), (6, iv x6)] [] 38) (σ : MEM) (x1 x2 x3 x5 x6 s0 s1 : Int) (hx1 : inR x1) (hx2 : inR x2) (hx3 : inR x3) (hx5 : inR x5) (hx6 : inR x6) (hs0 : inR s0) (hs1 : isB s1) : VV C (m_node_90 lp38 σ x1 x2 x3 x5 x6 s0 s1) σ [(0, .ref (zm_h G)), (1, iv x1), (2, iv x2), (3, iv x3), (5, iv x5), (6, iv x6)] [iv s1, iv s0] 90 := by
  have hN : ∀ i, i < 7 → i < zv_n C := fun i q => by rw [hc.2.2.1]; exact q
  unfold m_node_90
  refine r_iadd h dX1_node_90 ?_
  refine r_istore (lv' := [(4, iv (s0 + s1)), (0, .ref (zm_h G)), (1, iv x1), (2, iv x2), (3, iv x3), (5, iv x5), (6, iv x6)]) h dX1_node_91 (hN _ (by decide)) rfl ?_
  refine r_iload h 5 dX1_node_93 rfl ?_
  refine r_aload_n h 1 dX1_node_95 rfl rfl ?_
  refine zm_getA h hc 14 (by decide) rfl q1494 rfl dX1_node_96 ?_
  refine r_iload h 6 dX1_node_99 rfl ?_
  refine zm_ldI h hc 14 14 1200 (by decide) rfl rfl rfl (by decide) dX1_node_101 (fun _ hr1 => ?_)
  refine r_iload_n h 2 dX1_node_102 rfl rfl ?_
  refine r_icmp_ne h hr1 hx1 121 dX1_node_103 rfl ?_ ?_
  · refine r_aload_n h 1 dX1_node_106 rfl rfl ?_
    refine zm_getA h hc 13 (by decide) rfl q1493 rfl dX1_node_107 ?_
    refine r_iload h 6 dX1_node_110 rfl ?_
    refine zm_ldI h hc 13 13 1200 (by decide) rfl rfl rfl (by decide) dX1_node_112 (fun _ hr2 => ?_)
    refine r_iconst h dX1_node_113 ?_
    refine r_icmp_eq h hr2 (by decide) 121 dX1_node_114 rfl ?_ ?_
    · refine r_iconst h dX1_node_121 ?_
      refine r_iadd h dX1_node_122 ?_
      refine r_istore (lv' := [(5, iv (x5 + 0)), (4, iv (s0 + s1)), (0, .ref (zm_h G)), (1, iv x1), (2, iv x2), (3, iv x3), (6, iv x6)]) h dX1_node_123 (hN _ (by decide)) rfl ?_
      refine r_iinc (lv' := [(6, iv (x6 + 1)), (5, iv (x5 + 0)), (4, iv (s0 + s1)), (0, .ref (zm_h G)), (1, iv x1), (2, iv x2), (3, iv x3)]) h 6 dX1_node_125 rfl (hN _ (by decide)) rfl ?_
      refine r_goto h 38 dX1_node_128 rfl ?_
      refine r_ck (fun hk3 => ?_)
      refine r_ck (fun hk4 => ?_)
      refine r_ck (fun hk5 => ?_)
      exact r_lv [3, 4, 5, 6, 2, 1, 0] rfl (hlp38 _ x1 x2 x3 (s0 + s1) (x5 + 0) (x6 + 1) hx1 hx2 hx3 hk3 hk4 hk5)
    · refine r_iconst h dX1_node_117 ?_
      refine r_goto h 122 dX1_node_118 rfl ?_
      refine r_iadd h dX1_node_122 ?_
      refine r_istore (lv' := [(5, iv (x5 + 1)), (4, iv (s0 + s1)), (0, .ref (zm_h G)), (1, iv x1), (2, iv x2), (3, iv x3), (6, iv x6)]) h dX1_node_123 (hN _ (by decide)) rfl ?_
      refine r_iinc (lv' := [(6, iv (x6 + 1)), (5, iv (x5 + 1)), (4, iv (s0 + s1)), (0, .ref (zm_h G)), (1, iv x1), (2, iv x2), (3, iv x3)]) h 6 dX1_node_125 rfl (hN _ (by decide)) rfl ?_
      refine r_goto h 38 dX1_node_128 rfl ?_
      refine r_ck (fun hk6 => ?_)
      refine r_ck (fun hk7 => ?_)
      refine r_ck (fun hk8 => ?_)
      exact r_lv [3, 4, 5, 6, 2, 1, 0] rfl (hlp38 _ x1 x2 x3 (s0 + s1) (x5 + 1) (x6 + 1) hx1 hx2 hx3 hk6 hk7 hk8)
  · refine r_iconst h dX1_node_121 ?_
    refine r_iadd h dX1_node_122 ?_
    refine r_istore (lv' := [(5, iv (x5 + 0)), (4, iv (s0 + s1)), (0, .ref (zm_h G)), (1, iv x1), (2, iv x2), (3, iv x3), (6, iv x6)]) h dX1_node_123 (hN _ (by decide)) rfl ?_
    refine r_iinc (lv' := [(6, iv (x6 + 1)), (5, iv (x5 + 0)), (4, iv (s0 + s1)), (0, .ref (zm_h G)), (1, iv x1), (2, iv x2), (3, iv x3)]) h 6 dX1_node_125 rfl (hN _ (by decide)) rfl ?_
    refine r_goto h 38 dX1_node_128 rfl ?_
    refine r_ck (fun hk9 => ?_)
    refine r_ck (fun hk10 => ?_)
    refine r_ck (fun hk11 => ?_)
    exact r_lv [3, 4, 5, 6, 2, 1, 0] rfl (hlp38 _ x1 x2 x3 (s0 + s1) (x5 + 0) (x6 + 1) hx1 hx2 hx3 hk9 hk10 hk11)
def m_node_89 (lp38 : MEM → Int → Int → Int → Int → Int → Int → Option zm_O) (σ : MEM) (x1 x2 x3 x5 x6 s0 : Int) : Option zm_O := m_node_90 lp38 σ x1 x2 x3 x5 x6 s0 0
theorem w_node_89 {C : zv_Cx zm_O} {G : zm_G} (h : zv_Ok C cX1_node RX1) (hc : zm_C C G 7 (Option.some FieldType.int) 1 2 48) (lp38 : MEM → Int → Int → Int → Int → Int → Int → Option zm_O) (hlp38 : ∀ (σ : MEM) (x1 x2 x3 x4 x5 x6 : Int), inR x1 → inR x2 → inR x3 → inR x4 → inR x5 → inR x6 → VV C (lp38 σ x1 x2 x3 x4 x5 x6) σ [(0, .ref (zm_h G)), (1, iv x1), (2, iv x2), (3, iv x3), (4, iv x4), (5, iv x5), (6, iv x6)] [] 38) (σ : MEM) (x1 x2 x3 x5 x6 s0 : Int) (hx1 : inR x1) (hx2 : inR x2) (hx3 : inR x3) (hx5 : inR x5) (hx6 : inR x6) (hs0 : inR s0) : VV C (m_node_89 lp38 σ x1 x2 x3 x5 x6 s0) σ [(0, .ref (zm_h G)), (1, iv x1), (2, iv x2), (3, iv x3), (5, iv x5), (6, iv x6)] [iv s0] 89 := by
  have hN : ∀ i, i < 7 → i < zv_n C := fun i q => by rw [hc.2.2.1]; exact q
  unfold m_node_89
  refine r_iconst h dX1_node_89 ?_
  exact r_lv [0, 1, 2, 3, 4, 5] rfl (w_node_90 h hc lp38 hlp38 _ x1 x2 x3 x5 x6 s0 0 hx1 hx2 hx3 hx5 hx6 hs0 (by decide))
def m_node_38 : Nat → MEM → Int → Int → Int → Int → Int → Int → Option zm_O
  | 0, _, _, _, _, _, _, _ => none
  | n + 1, σ, x1, x2, x3, x4, x5, x6 => ck (0 ≤ (σ (-1) 7) ∧ (σ (-1) 7) < 2) (ck (inR ((600 * (σ (-1) 7)) + (σ 12 (σ (-1) 7)))) (if ((600 * (σ (-1) 7)) + (σ 12 (σ (-1) 7))) ≤ x6 then (if x2 = 0 then (ck (0 ≤ x3 ∧ x3 < 1200) (some ((σ 13 x3), σ))) else if x2 = 1 then (ck (0 ≤ x3 ∧ x3 < 1200) (some ((σ 14 x3), σ))) else if x2 = 2 then (ck (0 ≤ x3 ∧ x3 < 1200) (some ((σ 16 x3), σ))) else if x2 = 3 then (bd (m_stringOf σ x1) (fun r12 σ13 => some (r12, σ13))) else if x2 = 4 then (some (x4, σ)) else if x2 = 5 then (some (x5, σ)) else (if x2 = 6 then (ck (0 ≤ x3 ∧ x3 < 1200) (if (σ 19 x3) = 0 then (some (0, σ)) else (some (1, σ)))) else (some ((-9), σ)))) else (ck (0 ≤ x6 ∧ x6 < 1200) (if (σ 14 x6) = x1 then (ck (0 ≤ x6 ∧ x6 < 1200) (if (σ 13 x6) = 2 then (m_node_90 (m_node_38 n) σ x1 x2 x3 x5 x6 x4 1) else (m_node_89 (m_node_38 n) σ x1 x2 x3 x5 x6 x4))) else (m_node_89 (m_node_38 n) σ x1 x2 x3 x5 x6 x4)))))
theorem w_node_38 {C : zv_Cx zm_O} {G : zm_G} (h : zv_Ok C cX1_node RX1) (hc : zm_C C G 7 (Option.some FieldType.int) 1 2 48) : ∀ (n : Nat) (σ : MEM) (x1 x2 x3 x4 x5 x6 : Int), inR x1 → inR x2 → inR x3 → inR x4 → inR x5 → inR x6 → VV C (m_node_38 n σ x1 x2 x3 x4 x5 x6) σ [(0, .ref (zm_h G)), (1, iv x1), (2, iv x2), (3, iv x3), (4, iv x4), (5, iv x5), (6, iv x6)] [] 38 := by
  have hN : ∀ i, i < 7 → i < zv_n C := fun i q => by rw [hc.2.2.1]; exact q
  intro n
  induction n with
  | zero => intros; exact r_none
  | succ n ih =>
    intro σ x1 x2 x3 x4 x5 x6 hx1 hx2 hx3 hx4 hx5 hx6
    rw [m_node_38]
    refine r_iload h 6 dX1_node_38 rfl ?_
    refine r_sipush h dX1_node_40 (by decide) ?_
    refine r_aload_n h 0 dX1_node_43 rfl rfl ?_
    refine zm_getI h hc 7 7 (by decide) rfl rfl q1487 rfl dX1_node_44 (fun hr1 => ?_)
    refine r_imul h dX1_node_47 ?_
    refine r_aload_n h 0 dX1_node_48 rfl rfl ?_
    refine zm_getA h hc 12 (by decide) rfl q1492 rfl dX1_node_49 ?_
    refine r_aload_n h 0 dX1_node_52 rfl rfl ?_
    refine zm_getI h hc 7 7 (by decide) rfl rfl q1487 rfl dX1_node_53 (fun hr2 => ?_)
    refine zm_ldI h hc 12 12 2 (by decide) rfl rfl rfl (by decide) dX1_node_56 (fun _ hr3 => ?_)
    refine r_iadd h dX1_node_57 ?_
    refine r_ck (fun hk4 => ?_)
    refine r_icmp_ge h hx6 hk4 131 dX1_node_58 rfl ?_ ?_
    · refine r_iload_n h 2 dX1_node_131 rfl rfl ?_
      refine r_if (fun he5 => ?_) (fun he5 => ?_)
      · refine r_tsIn h 0 172 hx2 he5 dX1_node_132 (by decide) (by decide) rfl rfl ?_
        refine r_aload_n h 0 dX1_node_172 rfl rfl ?_
        refine zm_getA h hc 13 (by decide) rfl q1493 rfl dX1_node_173 ?_
        refine r_iload_n h 3 dX1_node_176 rfl rfl ?_
        refine zm_ldI h hc 13 13 1200 (by decide) rfl rfl rfl (by decide) dX1_node_177 (fun _ hr6 => ?_)
        exact zm_iret h hc rfl hr6 dX1_node_178
      refine r_if (fun he7 => ?_) (fun he7 => ?_)
      · refine r_tsIn h 1 179 hx2 he7 dX1_node_132 (by decide) (by decide) rfl rfl ?_
        refine r_aload_n h 0 dX1_node_179 rfl rfl ?_
        refine zm_getA h hc 14 (by decide) rfl q1494 rfl dX1_node_180 ?_
        refine r_iload_n h 3 dX1_node_183 rfl rfl ?_
        refine zm_ldI h hc 14 14 1200 (by decide) rfl rfl rfl (by decide) dX1_node_184 (fun _ hr8 => ?_)
        exact zm_iret h hc rfl hr8 dX1_node_185
      refine r_if (fun he9 => ?_) (fun he9 => ?_)
      · refine r_tsIn h 2 186 hx2 he9 dX1_node_132 (by decide) (by decide) rfl rfl ?_
        refine r_aload_n h 0 dX1_node_186 rfl rfl ?_
        refine zm_getA h hc 16 (by decide) rfl q1496 rfl dX1_node_187 ?_
        refine r_iload_n h 3 dX1_node_190 rfl rfl ?_
        refine zm_ldI h hc 16 16 1200 (by decide) rfl rfl rfl (by decide) dX1_node_191 (fun _ hr10 => ?_)
        exact zm_iret h hc rfl hr10 dX1_node_192
      refine r_if (fun he11 => ?_) (fun he11 => ?_)
      · refine r_tsIn h 3 193 hx2 he11 dX1_node_132 (by decide) (by decide) rfl rfl ?_
        refine r_aload_n h 0 dX1_node_193 rfl rfl ?_
        refine r_iload_n h 1 dX1_node_194 rfl rfl ?_
        refine zm_cVi h hc (n := 1) (As := [iv x1]) (fun o1 e1 => w_stringOf hc.1 _ x1 hx1 o1 e1) q2109 q2111 qs119 q136 q2112 (by decide +kernel) ⟨by decide, by decide⟩ rfl (Nat.le_of_ble_eq_true rfl) rfl dX1_node_195 (fun r12 σ13 hr14 => ?_)
        exact zm_iret h hc rfl hr14 dX1_node_198
      refine r_if (fun he15 => ?_) (fun he15 => ?_)
      · refine r_tsIn h 4 199 hx2 he15 dX1_node_132 (by decide) (by decide) rfl rfl ?_
        refine r_iload h 4 dX1_node_199 rfl ?_
        exact zm_iret h hc rfl hx4 dX1_node_201
      refine r_if (fun he16 => ?_) (fun he16 => ?_)
      · refine r_tsIn h 5 202 hx2 he16 dX1_node_132 (by decide) (by decide) rfl rfl ?_
        refine r_iload h 5 dX1_node_202 rfl ?_
        exact zm_iret h hc rfl hx5 dX1_node_204
      refine r_tsOut h 205 hx2 (by omega) dX1_node_132 rfl ?_
      refine r_iload_n h 2 dX1_node_205 rfl rfl ?_
      refine r_bipush h dX1_node_206 (by decide) ?_
      refine r_icmp_ne h hx2 (by decide) 228 dX1_node_208 rfl ?_ ?_
      · refine r_aload_n h 0 dX1_node_211 rfl rfl ?_
        refine zm_getA h hc 19 (by decide) rfl q1499 rfl dX1_node_212 ?_
        refine r_iload_n h 3 dX1_node_215 rfl rfl ?_
        refine zm_ldZ h hc 19 19 1200 (by decide) rfl rfl rfl (by decide) dX1_node_216 (fun _ hr17 => ?_)
        refine r_if_eq h hr17.r 224 dX1_node_217 rfl ?_ ?_
        · refine r_iconst h dX1_node_224 ?_
          refine r_goto h 230 dX1_node_225 rfl ?_
          exact zm_iret h hc rfl (by decide) dX1_node_230
        · refine r_iconst h dX1_node_220 ?_
          refine r_goto h 230 dX1_node_221 rfl ?_
          exact zm_iret h hc rfl (by decide) dX1_node_230
      · refine r_bipush h dX1_node_228 (by decide) ?_
        exact zm_iret h hc rfl (by decide) dX1_node_230
    · refine r_iload h 4 dX1_node_61 rfl ?_
      refine r_aload_n h 0 dX1_node_63 rfl rfl ?_
      refine zm_getA h hc 14 (by decide) rfl q1494 rfl dX1_node_64 ?_
      refine r_iload h 6 dX1_node_67 rfl ?_
      refine zm_ldI h hc 14 14 1200 (by decide) rfl rfl rfl (by decide) dX1_node_69 (fun _ hr18 => ?_)
      refine r_iload_n h 1 dX1_node_70 rfl rfl ?_
      refine r_icmp_ne h hr18 hx1 89 dX1_node_71 rfl ?_ ?_
      · refine r_aload_n h 0 dX1_node_74 rfl rfl ?_
        refine zm_getA h hc 13 (by decide) rfl q1493 rfl dX1_node_75 ?_
        refine r_iload h 6 dX1_node_78 rfl ?_
        refine zm_ldI h hc 13 13 1200 (by decide) rfl rfl rfl (by decide) dX1_node_80 (fun _ hr19 => ?_)
        refine r_iconst h dX1_node_81 ?_
        refine r_icmp_ne h hr19 (by decide) 89 dX1_node_82 rfl ?_ ?_
        · refine r_iconst h dX1_node_85 ?_
          refine r_goto h 90 dX1_node_86 rfl ?_
          exact r_lv [0, 1, 2, 3, 5, 6] rfl (w_node_90 h hc (m_node_38 n) ih _ x1 x2 x3 x5 x6 x4 1 hx1 hx2 hx3 hx5 hx6 hx4 (by decide))
        · exact r_lv [0, 1, 2, 3, 5, 6] rfl (w_node_89 h hc (m_node_38 n) ih _ x1 x2 x3 x5 x6 x4 hx1 hx2 hx3 hx5 hx6 hx4)
      · exact r_lv [0, 1, 2, 3, 5, 6] rfl (w_node_89 h hc (m_node_38 n) ih _ x1 x2 x3 x5 x6 x4 hx1 hx2 hx3 hx5 hx6 hx4)
def m_node (σ : MEM) (a0 a1 : Int) : Option zm_O := bd (m_isNode σ a0) (fun r1 σ2 => if r1 = 0 then (some ((-9), σ2)) else (ck (inR ((600 * (σ2 (-1) 7)) + a0)) (ck (inR (600 * (σ2 (-1) 7))) (m_node_38 zF σ2 a0 a1 ((600 * (σ2 (-1) 7)) + a0) 0 0 (600 * (σ2 (-1) 7))))))
theorem w_node {G : zm_G} (hD : zm_D G) (σ : MEM) (a0 a1 : Int) (ha0 : inR a0) (ha1 : inR a1) (o : zm_O) (hd : m_node σ a0 a1 = some o) : zm_Met G yX1_node cX1_node 7 (Option.some FieldType.int) 1 2 48 σ [.ref (zm_h G), iv a0, iv a1] o := by
  refine zm_intro hD hd (by decide) rfl (Nat.le_of_ble_eq_true rfl) rfl (fun C h hc => ?_)
  have hN : ∀ i, i < 7 → i < zv_n C := fun i q => by rw [hc.2.2.1]; exact q
  unfold m_node
  refine r_aload_n h 0 dX1_node_0 rfl rfl ?_
  refine r_iload_n h 1 dX1_node_1 rfl rfl ?_
  refine zm_cVz h hc (n := 1) (As := [iv a0]) (fun o1 e1 => w_isNode hc.1 _ a0 ha0 o1 e1) q2175 q2177 qs130 q136 q2178 (by decide +kernel) ⟨by decide, by decide⟩ rfl (Nat.le_of_ble_eq_true rfl) rfl dX1_node_2 (fun r1 σ2 hr3 => ?_)
  refine r_if_ne h hr3.r 11 dX1_node_5 rfl ?_ ?_
  · refine r_bipush h dX1_node_8 (by decide) ?_
    exact zm_iret h hc rfl (by decide) dX1_node_10
  · refine r_sipush h dX1_node_11 (by decide) ?_
    refine r_aload_n h 0 dX1_node_14 rfl rfl ?_
    refine zm_getI h hc 7 7 (by decide) rfl rfl q1487 rfl dX1_node_15 (fun hr4 => ?_)
    refine r_imul h dX1_node_18 ?_
    refine r_iload_n h 1 dX1_node_19 rfl rfl ?_
    refine r_iadd h dX1_node_20 ?_
    refine r_istore_n (lv' := [(3, iv ((600 * (σ2 (-1) 7)) + a0)), (0, .ref (zm_h G)), (1, iv a0), (2, iv a1)]) h dX1_node_21 rfl (hN _ (by decide)) rfl ?_
    refine r_iconst h dX1_node_22 ?_
    refine r_istore (lv' := [(4, iv 0), (3, iv ((600 * (σ2 (-1) 7)) + a0)), (0, .ref (zm_h G)), (1, iv a0), (2, iv a1)]) h dX1_node_23 (hN _ (by decide)) rfl ?_
    refine r_iconst h dX1_node_25 ?_
    refine r_istore (lv' := [(5, iv 0), (4, iv 0), (3, iv ((600 * (σ2 (-1) 7)) + a0)), (0, .ref (zm_h G)), (1, iv a0), (2, iv a1)]) h dX1_node_26 (hN _ (by decide)) rfl ?_
    refine r_sipush h dX1_node_28 (by decide) ?_
    refine r_aload_n h 3 dX1_node_31 rfl rfl ?_
    refine zm_getI h hc 7 7 (by decide) rfl rfl q1487 rfl dX1_node_32 (fun hr5 => ?_)
    refine r_imul h dX1_node_35 ?_
    refine r_istore (lv' := [(6, iv (600 * (σ2 (-1) 7))), (5, iv 0), (4, iv 0), (3, iv ((600 * (σ2 (-1) 7)) + a0)), (0, .ref (zm_h G)), (1, iv a0), (2, iv a1)]) h dX1_node_36 (hN _ (by decide)) rfl ?_
    refine r_ck (fun hk6 => ?_)
    refine r_ck (fun hk7 => ?_)
    exact r_lv [4, 5, 6, 3, 2, 1, 0] rfl (w_node_38 h hc zF _ a0 a1 ((600 * (σ2 (-1) 7)) + a0) 0 0 (600 * (σ2 (-1) 7)) ha0 ha1 hk6 (by decide) (by decide) hk7)
theorem dX1_name_0 : decode cX1_name 0 = .ok (.aload_n 0, 1) := by decide +kernel
theorem dX1_name_1 : decode cX1_name 1 = .ok (.iload_n 1, 1) := by decide +kernel
theorem dX1_name_2 : decode cX1_name 2 = .ok (.invokevirtual 664, 3) := by decide +kernel
theorem dX1_name_5 : decode cX1_name 5 = .ok (.ifCond .eq 59, 3) := by decide +kernel
theorem dX1_name_8 : decode cX1_name 8 = .ok (.iload_n 2, 1) := by decide +kernel
theorem dX1_name_9 : decode cX1_name 9 = .ok (.i2l, 1) := by decide +kernel
theorem dX1_name_10 : decode cX1_name 10 = .ok (.lconst 0, 1) := by decide +kernel
theorem dX1_name_11 : decode cX1_name 11 = .ok (.aload_n 0, 1) := by decide +kernel
theorem dX1_name_12 : decode cX1_name 12 = .ok (.getfield 40, 3) := by decide +kernel
theorem dX1_name_15 : decode cX1_name 15 = .ok (.sipush 600, 3) := by decide +kernel
theorem dX1_name_18 : decode cX1_name 18 = .ok (.aload_n 0, 1) := by decide +kernel
theorem dX1_name_19 : decode cX1_name 19 = .ok (.getfield 482, 3) := by decide +kernel
theorem dX1_name_22 : decode cX1_name 22 = .ok (.imul, 1) := by decide +kernel
theorem dX1_name_23 : decode cX1_name 23 = .ok (.iload_n 1, 1) := by decide +kernel
theorem dX1_name_24 : decode cX1_name 24 = .ok (.iadd, 1) := by decide +kernel
theorem dX1_name_25 : decode cX1_name 25 = .ok (.iaload, 1) := by decide +kernel
theorem dX1_name_26 : decode cX1_name 26 = .ok (.iconst 1, 1) := by decide +kernel
theorem dX1_name_27 : decode cX1_name 27 = .ok (.isub, 1) := by decide +kernel
theorem dX1_name_28 : decode cX1_name 28 = .ok (.i2l, 1) := by decide +kernel
theorem dX1_name_29 : decode cX1_name 29 = .ok (.invokestatic 256, 3) := by decide +kernel
theorem dX1_name_32 : decode cX1_name 32 = .ok (.ifCond .eq 32, 3) := by decide +kernel
theorem dX1_name_35 : decode cX1_name 35 = .ok (.aload_n 0, 1) := by decide +kernel
theorem dX1_name_36 : decode cX1_name 36 = .ok (.getfield 24, 3) := by decide +kernel
theorem dX1_name_39 : decode cX1_name 39 = .ok (.aload_n 0, 1) := by decide +kernel
theorem dX1_name_40 : decode cX1_name 40 = .ok (.getfield 37, 3) := by decide +kernel
theorem dX1_name_43 : decode cX1_name 43 = .ok (.sipush 600, 3) := by decide +kernel
theorem dX1_name_46 : decode cX1_name 46 = .ok (.aload_n 0, 1) := by decide +kernel
theorem dX1_name_47 : decode cX1_name 47 = .ok (.getfield 482, 3) := by decide +kernel
theorem dX1_name_50 : decode cX1_name 50 = .ok (.imul, 1) := by decide +kernel
theorem dX1_name_51 : decode cX1_name 51 = .ok (.iload_n 1, 1) := by decide +kernel
theorem dX1_name_52 : decode cX1_name 52 = .ok (.iadd, 1) := by decide +kernel
theorem dX1_name_53 : decode cX1_name 53 = .ok (.iaload, 1) := by decide +kernel
theorem dX1_name_54 : decode cX1_name 54 = .ok (.iload_n 2, 1) := by decide +kernel
theorem dX1_name_55 : decode cX1_name 55 = .ok (.iadd, 1) := by decide +kernel
theorem dX1_name_56 : decode cX1_name 56 = .ok (.baload, 1) := by decide +kernel
theorem dX1_name_57 : decode cX1_name 57 = .ok (.sipush 255, 3) := by decide +kernel
theorem dX1_name_60 : decode cX1_name 60 = .ok (.iand, 1) := by decide +kernel
theorem dX1_name_61 : decode cX1_name 61 = .ok (.goto 4, 3) := by decide +kernel
theorem dX1_name_64 : decode cX1_name 64 = .ok (.iconst (-1), 1) := by decide +kernel
theorem dX1_name_65 : decode cX1_name 65 = .ok (.ireturn, 1) := by decide +kernel
def m_name (σ : MEM) (a0 a1 : Int) : Option zm_O := bd (m_isNode σ a0) (fun r1 σ2 => if r1 = 0 then (some ((-1), σ2)) else (ck (0 ≤ ((600 * (σ2 (-1) 7)) + a0) ∧ ((600 * (σ2 (-1) 7)) + a0) < 1200) (ck (inR ((σ2 16 ((600 * (σ2 (-1) 7)) + a0)) - 1)) (bd (m_in σ2 a1 0 ((σ2 16 ((600 * (σ2 (-1) 7)) + a0)) - 1)) (fun r7 σ8 => if r7 = 0 then (some ((-1), σ8)) else (ck (0 ≤ ((600 * (σ8 (-1) 7)) + a0) ∧ ((600 * (σ8 (-1) 7)) + a0) < 1200) (ck (0 ≤ ((σ8 15 ((600 * (σ8 (-1) 7)) + a0)) + a1) ∧ ((σ8 15 ((600 * (σ8 (-1) 7)) + a0)) + a1) < 12000) (some ((i_and (σ8 11 ((σ8 15 ((600 * (σ8 (-1) 7)) + a0)) + a1)) 255), σ8)))))))))
theorem w_name {G : zm_G} (hD : zm_D G) (σ : MEM) (a0 a1 : Int) (ha0 : inR a0) (ha1 : inR a1) (o : zm_O) (hd : m_name σ a0 a1 = some o) : zm_Met G yX1_name cX1_name 3 (Option.some FieldType.int) 1 2 46 σ [.ref (zm_h G), iv a0, iv a1] o := by
  refine zm_intro hD hd (by decide) rfl (Nat.le_of_ble_eq_true rfl) rfl (fun C h hc => ?_)
  have hN : ∀ i, i < 3 → i < zv_n C := fun i q => by rw [hc.2.2.1]; exact q
  unfold m_name
  refine r_aload_n h 0 dX1_name_0 rfl rfl ?_
  refine r_iload_n h 1 dX1_name_1 rfl rfl ?_
  refine zm_cVz h hc (n := 1) (As := [iv a0]) (fun o1 e1 => w_isNode hc.1 _ a0 ha0 o1 e1) q2175 q2177 qs130 q136 q2178 (by decide +kernel) ⟨by decide, by decide⟩ rfl (Nat.le_of_ble_eq_true rfl) rfl dX1_name_2 (fun r1 σ2 hr3 => ?_)
  refine r_if_eq h hr3.r 64 dX1_name_5 rfl ?_ ?_
  · refine r_iconst h dX1_name_64 ?_
    exact zm_iret h hc rfl (by decide) dX1_name_65
  · refine r_iload_n h 2 dX1_name_8 rfl rfl ?_
    refine r_i2l h ha1 dX1_name_9 ?_
    refine r_lconst (x := 0) h dX1_name_10 (by decide) ?_
    refine r_aload_n h 0 dX1_name_11 rfl rfl ?_
    refine zm_getA h hc 16 (by decide) rfl q1496 rfl dX1_name_12 ?_
    refine r_sipush h dX1_name_15 (by decide) ?_
    refine r_aload_n h 0 dX1_name_18 rfl rfl ?_
    refine zm_getI h hc 7 7 (by decide) rfl rfl q1487 rfl dX1_name_19 (fun hr4 => ?_)
    refine r_imul h dX1_name_22 ?_
    refine r_iload_n h 1 dX1_name_23 rfl rfl ?_
    refine r_iadd h dX1_name_24 ?_
    refine zm_ldI h hc 16 16 1200 (by decide) rfl rfl rfl (by decide) dX1_name_25 (fun _ hr5 => ?_)
    refine r_iconst h dX1_name_26 ?_
    refine r_isub h dX1_name_27 ?_
    refine r_ck (fun hk6 => ?_)
    refine r_i2l h hk6 dX1_name_28 ?_
    refine zm_cSz h hc (n := 3) (As := [jv a1, jv 0, jv ((σ2 16 ((600 * (σ2 (-1) 7)) + a0)) - 1)]) (fun o1 e1 => w_in hc.1 _ a1 0 ((σ2 16 ((600 * (σ2 (-1) 7)) + a0)) - 1) ha1.l (by decide) hk6.l o1 e1) q1790 q1791 q136 q1792 (by decide +kernel) ⟨by decide, by decide⟩ rfl (Nat.le_of_ble_eq_true rfl) rfl dX1_name_29 (fun r7 σ8 hr9 => ?_)
    refine r_if_eq h hr9.r 64 dX1_name_32 rfl ?_ ?_
    · refine r_iconst h dX1_name_64 ?_
      exact zm_iret h hc rfl (by decide) dX1_name_65
    · refine r_aload_n h 0 dX1_name_35 rfl rfl ?_
      refine zm_getA h hc 11 (by decide) rfl q1491 rfl dX1_name_36 ?_
      refine r_aload_n h 0 dX1_name_39 rfl rfl ?_
      refine zm_getA h hc 15 (by decide) rfl q1495 rfl dX1_name_40 ?_
      refine r_sipush h dX1_name_43 (by decide) ?_
      refine r_aload_n h 0 dX1_name_46 rfl rfl ?_
      refine zm_getI h hc 7 7 (by decide) rfl rfl q1487 rfl dX1_name_47 (fun hr10 => ?_)
      refine r_imul h dX1_name_50 ?_
      refine r_iload_n h 1 dX1_name_51 rfl rfl ?_
      refine r_iadd h dX1_name_52 ?_
      refine zm_ldI h hc 15 15 1200 (by decide) rfl rfl rfl (by decide) dX1_name_53 (fun _ hr11 => ?_)
      refine r_iload_n h 2 dX1_name_54 rfl rfl ?_
      refine r_iadd h dX1_name_55 ?_
      refine zm_ldB h hc 11 11 12000 (by decide) rfl rfl rfl (by decide) dX1_name_56 (fun _ hr12 => ?_)
      refine r_sipush h dX1_name_57 (by decide) ?_
      refine r_iand h dX1_name_60 ?_
      refine r_goto h 65 dX1_name_61 rfl ?_
      exact zm_iret h hc rfl (inR_t _) dX1_name_65
theorem dX1_string_0 : decode cX1_string 0 = .ok (.aload_n 0, 1) := by decide +kernel
theorem dX1_string_1 : decode cX1_string 1 = .ok (.iload_n 1, 1) := by decide +kernel
theorem dX1_string_2 : decode cX1_string 2 = .ok (.invokevirtual 664, 3) := by decide +kernel
theorem dX1_string_5 : decode cX1_string 5 = .ok (.ifCond .eq 12, 3) := by decide +kernel
theorem dX1_string_8 : decode cX1_string 8 = .ok (.aload_n 0, 1) := by decide +kernel
theorem dX1_string_9 : decode cX1_string 9 = .ok (.iload_n 1, 1) := by decide +kernel
theorem dX1_string_10 : decode cX1_string 10 = .ok (.iload_n 2, 1) := by decide +kernel
theorem dX1_string_11 : decode cX1_string 11 = .ok (.invokevirtual 594, 3) := by decide +kernel
theorem dX1_string_14 : decode cX1_string 14 = .ok (.goto 4, 3) := by decide +kernel
theorem dX1_string_17 : decode cX1_string 17 = .ok (.iconst (-1), 1) := by decide +kernel
theorem dX1_string_18 : decode cX1_string 18 = .ok (.ireturn, 1) := by decide +kernel
def m_string (σ : MEM) (a0 a1 : Int) : Option zm_O := bd (m_isNode σ a0) (fun r1 σ2 => if r1 = 0 then (some ((-1), σ2)) else (bd (m_stringAt σ2 a0 a1) (fun r4 σ5 => some (r4, σ5))))
theorem w_string {G : zm_G} (hD : zm_D G) (σ : MEM) (a0 a1 : Int) (ha0 : inR a0) (ha1 : inR a1) (o : zm_O) (hd : m_string σ a0 a1 = some o) : zm_Met G yX1_string cX1_string 3 (Option.some FieldType.int) 1 2 50 σ [.ref (zm_h G), iv a0, iv a1] o := by
  refine zm_intro hD hd (by decide) rfl (Nat.le_of_ble_eq_true rfl) rfl (fun C h hc => ?_)
  have hN : ∀ i, i < 3 → i < zv_n C := fun i q => by rw [hc.2.2.1]; exact q
  unfold m_string
  refine r_aload_n h 0 dX1_string_0 rfl rfl ?_
  refine r_iload_n h 1 dX1_string_1 rfl rfl ?_
  refine zm_cVz h hc (n := 1) (As := [iv a0]) (fun o1 e1 => w_isNode hc.1 _ a0 ha0 o1 e1) q2175 q2177 qs130 q136 q2178 (by decide +kernel) ⟨by decide, by decide⟩ rfl (Nat.le_of_ble_eq_true rfl) rfl dX1_string_2 (fun r1 σ2 hr3 => ?_)
  refine r_if_eq h hr3.r 17 dX1_string_5 rfl ?_ ?_
  · refine r_iconst h dX1_string_17 ?_
    exact zm_iret h hc rfl (by decide) dX1_string_18
  · refine r_aload_n h 0 dX1_string_8 rfl rfl ?_
    refine r_iload_n h 1 dX1_string_9 rfl rfl ?_
    refine r_iload_n h 2 dX1_string_10 rfl rfl ?_
    refine zm_cVi h hc (n := 2) (As := [iv a0, iv a1]) (fun o1 e1 => w_stringAt hc.1 _ a0 a1 ha0 ha1 o1 e1) q2113 q2115 qs120 q136 q2116 (by decide +kernel) ⟨by decide, by decide⟩ rfl (Nat.le_of_ble_eq_true rfl) rfl dX1_string_11 (fun r4 σ5 hr6 => ?_)
    refine r_goto h 18 dX1_string_14 rfl ?_
    exact zm_iret h hc rfl hr6 dX1_string_18
theorem dX1_findings_0 : decode cX1_findings 0 = .ok (.aload_n 0, 1) := by decide +kernel
theorem dX1_findings_1 : decode cX1_findings 1 = .ok (.getfield 498, 3) := by decide +kernel
theorem dX1_findings_4 : decode cX1_findings 4 = .ok (.ifCond .eq 22, 3) := by decide +kernel
theorem dX1_findings_7 : decode cX1_findings 7 = .ok (.aload_n 0, 1) := by decide +kernel
theorem dX1_findings_8 : decode cX1_findings 8 = .ok (.getfield 20, 3) := by decide +kernel
theorem dX1_findings_11 : decode cX1_findings 11 = .ok (.aload_n 0, 1) := by decide +kernel
theorem dX1_findings_12 : decode cX1_findings 12 = .ok (.getfield 482, 3) := by decide +kernel
theorem dX1_findings_15 : decode cX1_findings 15 = .ok (.baload, 1) := by decide +kernel
theorem dX1_findings_16 : decode cX1_findings 16 = .ok (.ifCond .eq 10, 3) := by decide +kernel
theorem dX1_findings_19 : decode cX1_findings 19 = .ok (.aload_n 0, 1) := by decide +kernel
theorem dX1_findings_20 : decode cX1_findings 20 = .ok (.getfield 510, 3) := by decide +kernel
theorem dX1_findings_23 : decode cX1_findings 23 = .ok (.goto 4, 3) := by decide +kernel
theorem dX1_findings_26 : decode cX1_findings 26 = .ok (.iconst (-1), 1) := by decide +kernel
theorem dX1_findings_27 : decode cX1_findings 27 = .ok (.ireturn, 1) := by decide +kernel
def m_findings (σ : MEM) : Option zm_O := if (σ (-1) 9) = 0 then (some ((-1), σ)) else (ck (0 ≤ (σ (-1) 7) ∧ (σ (-1) 7) < 2) (if (σ 10 (σ (-1) 7)) = 0 then (some ((-1), σ)) else (some ((σ (-1) 65), σ))))
theorem w_findings {G : zm_G} (hD : zm_D G) (σ : MEM) (o : zm_O) (hd : m_findings σ  = some o) : zm_Met G yX1_findings cX1_findings 1 (Option.some FieldType.int) 1 0 0 σ [.ref (zm_h G)] o := by
  refine zm_intro hD hd (by decide) rfl (Nat.le_of_ble_eq_true rfl) rfl (fun C h hc => ?_)
  have hN : ∀ i, i < 1 → i < zv_n C := fun i q => by rw [hc.2.2.1]; exact q
  unfold m_findings
  refine r_aload_n h 0 dX1_findings_0 rfl rfl ?_
  refine zm_getZ h hc 9 9 (by decide) rfl rfl q1489 rfl dX1_findings_1 (fun hr1 => ?_)
  refine r_if_eq h hr1.r 26 dX1_findings_4 rfl ?_ ?_
  · refine r_iconst h dX1_findings_26 ?_
    exact zm_iret h hc rfl (by decide) dX1_findings_27
  · refine r_aload_n h 0 dX1_findings_7 rfl rfl ?_
    refine zm_getA h hc 10 (by decide) rfl q1490 rfl dX1_findings_8 ?_
    refine r_aload_n h 0 dX1_findings_11 rfl rfl ?_
    refine zm_getI h hc 7 7 (by decide) rfl rfl q1487 rfl dX1_findings_12 (fun hr2 => ?_)
    refine zm_ldZ h hc 10 10 2 (by decide) rfl rfl rfl (by decide) dX1_findings_15 (fun _ hr3 => ?_)
    refine r_if_eq h hr3.r 26 dX1_findings_16 rfl ?_ ?_
    · refine r_iconst h dX1_findings_26 ?_
      exact zm_iret h hc rfl (by decide) dX1_findings_27
    · refine r_aload_n h 0 dX1_findings_19 rfl rfl ?_
      refine zm_getI h hc 65 65 (by decide) rfl rfl q1544 rfl dX1_findings_20 (fun hr4 => ?_)
      refine r_goto h 27 dX1_findings_23 rfl ?_
      exact zm_iret h hc rfl hr4 dX1_findings_27
theorem dX1_finding_0 : decode cX1_finding 0 = .ok (.aload_n 0, 1) := by decide +kernel
theorem dX1_finding_1 : decode cX1_finding 1 = .ok (.invokevirtual 667, 3) := by decide +kernel
theorem dX1_finding_4 : decode cX1_finding 4 = .ok (.iload_n 1, 1) := by decide +kernel
theorem dX1_finding_5 : decode cX1_finding 5 = .ok (.if_icmp .le 7, 3) := by decide +kernel
theorem dX1_finding_8 : decode cX1_finding 8 = .ok (.iload_n 1, 1) := by decide +kernel
theorem dX1_finding_9 : decode cX1_finding 9 = .ok (.ifCond .ge 6, 3) := by decide +kernel
theorem dX1_finding_12 : decode cX1_finding 12 = .ok (.bipush (-9), 2) := by decide +kernel
theorem dX1_finding_14 : decode cX1_finding 14 = .ok (.ireturn, 1) := by decide +kernel
theorem dX1_finding_15 : decode cX1_finding 15 = .ok (.iload_n 2, 1) := by decide +kernel
theorem dX1_finding_16 : decode cX1_finding 16 = .ok (.ifCond .ne 12, 3) := by decide +kernel
theorem dX1_finding_19 : decode cX1_finding 19 = .ok (.aload_n 0, 1) := by decide +kernel
theorem dX1_finding_20 : decode cX1_finding 20 = .ok (.getfield 164, 3) := by decide +kernel
theorem dX1_finding_23 : decode cX1_finding 23 = .ok (.iload_n 1, 1) := by decide +kernel
theorem dX1_finding_24 : decode cX1_finding 24 = .ok (.iaload, 1) := by decide +kernel
theorem dX1_finding_25 : decode cX1_finding 25 = .ok (.goto 19, 3) := by decide +kernel
theorem dX1_finding_28 : decode cX1_finding 28 = .ok (.iload_n 2, 1) := by decide +kernel
theorem dX1_finding_29 : decode cX1_finding 29 = .ok (.iconst 1, 1) := by decide +kernel
theorem dX1_finding_30 : decode cX1_finding 30 = .ok (.if_icmp .ne 12, 3) := by decide +kernel
theorem dX1_finding_33 : decode cX1_finding 33 = .ok (.aload_n 0, 1) := by decide +kernel
theorem dX1_finding_34 : decode cX1_finding 34 = .ok (.getfield 167, 3) := by decide +kernel
theorem dX1_finding_37 : decode cX1_finding 37 = .ok (.iload_n 1, 1) := by decide +kernel
theorem dX1_finding_38 : decode cX1_finding 38 = .ok (.iaload, 1) := by decide +kernel
theorem dX1_finding_39 : decode cX1_finding 39 = .ok (.goto 5, 3) := by decide +kernel
theorem dX1_finding_42 : decode cX1_finding 42 = .ok (.bipush (-9), 2) := by decide +kernel
theorem dX1_finding_44 : decode cX1_finding 44 = .ok (.ireturn, 1) := by decide +kernel
def m_finding (σ : MEM) (a0 a1 : Int) : Option zm_O := bd (m_findings σ) (fun r1 σ2 => if r1 ≤ a0 then (some ((-9), σ2)) else (if 0 ≤ a0 then (if a1 = 0 then (ck (0 ≤ a0 ∧ a0 < 8000) (some ((σ2 66 a0), σ2))) else (if a1 = 1 then (ck (0 ≤ a0 ∧ a0 < 8000) (some ((σ2 67 a0), σ2))) else (some ((-9), σ2)))) else (some ((-9), σ2))))
theorem w_finding {G : zm_G} (hD : zm_D G) (σ : MEM) (a0 a1 : Int) (ha0 : inR a0) (ha1 : inR a1) (o : zm_O) (hd : m_finding σ a0 a1 = some o) : zm_Met G yX1_finding cX1_finding 3 (Option.some FieldType.int) 1 1 20 σ [.ref (zm_h G), iv a0, iv a1] o := by
  refine zm_intro hD hd (by decide) rfl (Nat.le_of_ble_eq_true rfl) rfl (fun C h hc => ?_)
  have hN : ∀ i, i < 3 → i < zv_n C := fun i q => by rw [hc.2.2.1]; exact q
  unfold m_finding
  refine r_aload_n h 0 dX1_finding_0 rfl rfl ?_
  refine zm_cVi h hc (n := 0) (As := []) (fun o1 e1 => w_findings hc.1 _ o1 e1) q2195 q2188 q2189 q136 q2190 (by decide +kernel) ⟨by decide, by decide⟩ rfl (Nat.le_of_ble_eq_true rfl) rfl dX1_finding_1 (fun r1 σ2 hr3 => ?_)
  refine r_iload_n h 1 dX1_finding_4 rfl rfl ?_
  refine r_icmp_le h hr3 ha0 12 dX1_finding_5 rfl ?_ ?_
  · refine r_bipush h dX1_finding_12 (by decide) ?_
    exact zm_iret h hc rfl (by decide) dX1_finding_14
  · refine r_iload_n h 1 dX1_finding_8 rfl rfl ?_
    refine r_if_ge h ha0 15 dX1_finding_9 rfl ?_ ?_
    · refine r_iload_n h 2 dX1_finding_15 rfl rfl ?_
      refine r_if_ne h ha1 28 dX1_finding_16 rfl ?_ ?_
      · refine r_aload_n h 0 dX1_finding_19 rfl rfl ?_
        refine zm_getA h hc 66 (by decide) rfl q1545 rfl dX1_finding_20 ?_
        refine r_iload_n h 1 dX1_finding_23 rfl rfl ?_
        refine zm_ldI h hc 66 66 8000 (by decide) rfl rfl rfl (by decide) dX1_finding_24 (fun _ hr4 => ?_)
        refine r_goto h 44 dX1_finding_25 rfl ?_
        exact zm_iret h hc rfl hr4 dX1_finding_44
      · refine r_iload_n h 2 dX1_finding_28 rfl rfl ?_
        refine r_iconst h dX1_finding_29 ?_
        refine r_icmp_ne h ha1 (by decide) 42 dX1_finding_30 rfl ?_ ?_
        · refine r_aload_n h 0 dX1_finding_33 rfl rfl ?_
          refine zm_getA h hc 67 (by decide) rfl q1546 rfl dX1_finding_34 ?_
          refine r_iload_n h 1 dX1_finding_37 rfl rfl ?_
          refine zm_ldI h hc 67 67 8000 (by decide) rfl rfl rfl (by decide) dX1_finding_38 (fun _ hr5 => ?_)
          refine r_goto h 44 dX1_finding_39 rfl ?_
          exact zm_iret h hc rfl hr5 dX1_finding_44
        · refine r_bipush h dX1_finding_42 (by decide) ?_
          exact zm_iret h hc rfl (by decide) dX1_finding_44
    · refine r_bipush h dX1_finding_12 (by decide) ?_
      exact zm_iret h hc rfl (by decide) dX1_finding_14
theorem dX1_line_0 : decode cX1_line 0 = .ok (.iload_n 1, 1) := by decide +kernel
theorem dX1_line_1 : decode cX1_line 1 = .ok (.i2l, 1) := by decide +kernel
theorem dX1_line_2 : decode cX1_line 2 = .ok (.lconst 0, 1) := by decide +kernel
theorem dX1_line_3 : decode cX1_line 3 = .ok (.aload_n 0, 1) := by decide +kernel
theorem dX1_line_4 : decode cX1_line 4 = .ok (.getfield 501, 3) := by decide +kernel
theorem dX1_line_7 : decode cX1_line 7 = .ok (.iconst 1, 1) := by decide +kernel
theorem dX1_line_8 : decode cX1_line 8 = .ok (.isub, 1) := by decide +kernel
theorem dX1_line_9 : decode cX1_line 9 = .ok (.i2l, 1) := by decide +kernel
theorem dX1_line_10 : decode cX1_line 10 = .ok (.invokestatic 256, 3) := by decide +kernel
theorem dX1_line_13 : decode cX1_line 13 = .ok (.ifCond .ne 6, 3) := by decide +kernel
theorem dX1_line_16 : decode cX1_line 16 = .ok (.bipush (-9), 2) := by decide +kernel
theorem dX1_line_18 : decode cX1_line 18 = .ok (.ireturn, 1) := by decide +kernel
theorem dX1_line_19 : decode cX1_line 19 = .ok (.iload_n 2, 1) := by decide +kernel
theorem dX1_line_20 : decode cX1_line 20 = .ok (.ifCond .ne 12, 3) := by decide +kernel
theorem dX1_line_23 : decode cX1_line 23 = .ok (.aload_n 0, 1) := by decide +kernel
theorem dX1_line_24 : decode cX1_line 24 = .ok (.getfield 222, 3) := by decide +kernel
theorem dX1_line_27 : decode cX1_line 27 = .ok (.iload_n 1, 1) := by decide +kernel
theorem dX1_line_28 : decode cX1_line 28 = .ok (.iaload, 1) := by decide +kernel
theorem dX1_line_29 : decode cX1_line 29 = .ok (.goto 47, 3) := by decide +kernel
theorem dX1_line_32 : decode cX1_line 32 = .ok (.iload_n 2, 1) := by decide +kernel
theorem dX1_line_33 : decode cX1_line 33 = .ok (.iconst 1, 1) := by decide +kernel
theorem dX1_line_34 : decode cX1_line 34 = .ok (.if_icmp .ne 12, 3) := by decide +kernel
theorem dX1_line_37 : decode cX1_line 37 = .ok (.aload_n 0, 1) := by decide +kernel
theorem dX1_line_38 : decode cX1_line 38 = .ok (.getfield 219, 3) := by decide +kernel
theorem dX1_line_41 : decode cX1_line 41 = .ok (.iload_n 1, 1) := by decide +kernel
theorem dX1_line_42 : decode cX1_line 42 = .ok (.iaload, 1) := by decide +kernel
theorem dX1_line_43 : decode cX1_line 43 = .ok (.goto 33, 3) := by decide +kernel
theorem dX1_line_46 : decode cX1_line 46 = .ok (.iload_n 2, 1) := by decide +kernel
theorem dX1_line_47 : decode cX1_line 47 = .ok (.iconst 2, 1) := by decide +kernel
theorem dX1_line_48 : decode cX1_line 48 = .ok (.if_icmp .ne 12, 3) := by decide +kernel
theorem dX1_line_51 : decode cX1_line 51 = .ok (.aload_n 0, 1) := by decide +kernel
theorem dX1_line_52 : decode cX1_line 52 = .ok (.getfield 225, 3) := by decide +kernel
theorem dX1_line_55 : decode cX1_line 55 = .ok (.iload_n 1, 1) := by decide +kernel
theorem dX1_line_56 : decode cX1_line 56 = .ok (.iaload, 1) := by decide +kernel
theorem dX1_line_57 : decode cX1_line 57 = .ok (.goto 19, 3) := by decide +kernel
theorem dX1_line_60 : decode cX1_line 60 = .ok (.iload_n 2, 1) := by decide +kernel
theorem dX1_line_61 : decode cX1_line 61 = .ok (.iconst 3, 1) := by decide +kernel
theorem dX1_line_62 : decode cX1_line 62 = .ok (.if_icmp .ne 12, 3) := by decide +kernel
theorem dX1_line_65 : decode cX1_line 65 = .ok (.aload_n 0, 1) := by decide +kernel
theorem dX1_line_66 : decode cX1_line 66 = .ok (.getfield 228, 3) := by decide +kernel
theorem dX1_line_69 : decode cX1_line 69 = .ok (.iload_n 1, 1) := by decide +kernel
theorem dX1_line_70 : decode cX1_line 70 = .ok (.iaload, 1) := by decide +kernel
theorem dX1_line_71 : decode cX1_line 71 = .ok (.goto 5, 3) := by decide +kernel
theorem dX1_line_74 : decode cX1_line 74 = .ok (.bipush (-9), 2) := by decide +kernel
theorem dX1_line_76 : decode cX1_line 76 = .ok (.ireturn, 1) := by decide +kernel
def m_line (σ : MEM) (a0 a1 : Int) : Option zm_O := ck (inR ((σ (-1) 86) - 1)) (bd (m_in σ a0 0 ((σ (-1) 86) - 1)) (fun r3 σ4 => if r3 = 0 then (some ((-9), σ4)) else (if a1 = 0 then (ck (0 ≤ a0 ∧ a0 < 4000) (some ((σ4 90 a0), σ4))) else (if a1 = 1 then (ck (0 ≤ a0 ∧ a0 < 4000) (some ((σ4 89 a0), σ4))) else (if a1 = 2 then (ck (0 ≤ a0 ∧ a0 < 4000) (some ((σ4 91 a0), σ4))) else (if a1 = 3 then (ck (0 ≤ a0 ∧ a0 < 4000) (some ((σ4 92 a0), σ4))) else (some ((-9), σ4))))))))
theorem w_line {G : zm_G} (hD : zm_D G) (σ : MEM) (a0 a1 : Int) (ha0 : inR a0) (ha1 : inR a1) (o : zm_O) (hd : m_line σ a0 a1 = some o) : zm_Met G yX1_line cX1_line 3 (Option.some FieldType.int) 1 1 25 σ [.ref (zm_h G), iv a0, iv a1] o := by
  refine zm_intro hD hd (by decide) rfl (Nat.le_of_ble_eq_true rfl) rfl (fun C h hc => ?_)
  have hN : ∀ i, i < 3 → i < zv_n C := fun i q => by rw [hc.2.2.1]; exact q
  unfold m_line
  refine r_iload_n h 1 dX1_line_0 rfl rfl ?_
  refine r_i2l h ha0 dX1_line_1 ?_
  refine r_lconst (x := 0) h dX1_line_2 (by decide) ?_
  refine r_aload_n h 0 dX1_line_3 rfl rfl ?_
  refine zm_getI h hc 86 86 (by decide) rfl rfl q1565 rfl dX1_line_4 (fun hr1 => ?_)
  refine r_iconst h dX1_line_7 ?_
  refine r_isub h dX1_line_8 ?_
  refine r_ck (fun hk2 => ?_)
  refine r_i2l h hk2 dX1_line_9 ?_
  refine zm_cSz h hc (n := 3) (As := [jv a0, jv 0, jv ((σ (-1) 86) - 1)]) (fun o1 e1 => w_in hc.1 _ a0 0 ((σ (-1) 86) - 1) ha0.l (by decide) hk2.l o1 e1) q1790 q1791 q136 q1792 (by decide +kernel) ⟨by decide, by decide⟩ rfl (Nat.le_of_ble_eq_true rfl) rfl dX1_line_10 (fun r3 σ4 hr5 => ?_)
  refine r_if_ne h hr5.r 19 dX1_line_13 rfl ?_ ?_
  · refine r_bipush h dX1_line_16 (by decide) ?_
    exact zm_iret h hc rfl (by decide) dX1_line_18
  · refine r_iload_n h 2 dX1_line_19 rfl rfl ?_
    refine r_if_ne h ha1 32 dX1_line_20 rfl ?_ ?_
    · refine r_aload_n h 0 dX1_line_23 rfl rfl ?_
      refine zm_getA h hc 90 (by decide) rfl q1569 rfl dX1_line_24 ?_
      refine r_iload_n h 1 dX1_line_27 rfl rfl ?_
      refine zm_ldI h hc 90 90 4000 (by decide) rfl rfl rfl (by decide) dX1_line_28 (fun _ hr6 => ?_)
      refine r_goto h 76 dX1_line_29 rfl ?_
      exact zm_iret h hc rfl hr6 dX1_line_76
    · refine r_iload_n h 2 dX1_line_32 rfl rfl ?_
      refine r_iconst h dX1_line_33 ?_
      refine r_icmp_ne h ha1 (by decide) 46 dX1_line_34 rfl ?_ ?_
      · refine r_aload_n h 0 dX1_line_37 rfl rfl ?_
        refine zm_getA h hc 89 (by decide) rfl q1568 rfl dX1_line_38 ?_
        refine r_iload_n h 1 dX1_line_41 rfl rfl ?_
        refine zm_ldI h hc 89 89 4000 (by decide) rfl rfl rfl (by decide) dX1_line_42 (fun _ hr7 => ?_)
        refine r_goto h 76 dX1_line_43 rfl ?_
        exact zm_iret h hc rfl hr7 dX1_line_76
      · refine r_iload_n h 2 dX1_line_46 rfl rfl ?_
        refine r_iconst h dX1_line_47 ?_
        refine r_icmp_ne h ha1 (by decide) 60 dX1_line_48 rfl ?_ ?_
        · refine r_aload_n h 0 dX1_line_51 rfl rfl ?_
          refine zm_getA h hc 91 (by decide) rfl q1570 rfl dX1_line_52 ?_
          refine r_iload_n h 1 dX1_line_55 rfl rfl ?_
          refine zm_ldI h hc 91 91 4000 (by decide) rfl rfl rfl (by decide) dX1_line_56 (fun _ hr8 => ?_)
          refine r_goto h 76 dX1_line_57 rfl ?_
          exact zm_iret h hc rfl hr8 dX1_line_76
        · refine r_iload_n h 2 dX1_line_60 rfl rfl ?_
          refine r_iconst h dX1_line_61 ?_
          refine r_icmp_ne h ha1 (by decide) 74 dX1_line_62 rfl ?_ ?_
          · refine r_aload_n h 0 dX1_line_65 rfl rfl ?_
            refine zm_getA h hc 92 (by decide) rfl q1571 rfl dX1_line_66 ?_
            refine r_iload_n h 1 dX1_line_69 rfl rfl ?_
            refine zm_ldI h hc 92 92 4000 (by decide) rfl rfl rfl (by decide) dX1_line_70 (fun _ hr9 => ?_)
            refine r_goto h 76 dX1_line_71 rfl ?_
            exact zm_iret h hc rfl hr9 dX1_line_76
          · refine r_bipush h dX1_line_74 (by decide) ?_
            exact zm_iret h hc rfl (by decide) dX1_line_76
theorem dX1_at_0 : decode cX1_at 0 = .ok (.iload_n 1, 1) := by decide +kernel
theorem dX1_at_1 : decode cX1_at 1 = .ok (.i2l, 1) := by decide +kernel
theorem dX1_at_2 : decode cX1_at 2 = .ok (.lconst 0, 1) := by decide +kernel
theorem dX1_at_3 : decode cX1_at 3 = .ok (.aload_n 0, 1) := by decide +kernel
theorem dX1_at_4 : decode cX1_at 4 = .ok (.getfield 501, 3) := by decide +kernel
theorem dX1_at_7 : decode cX1_at 7 = .ok (.iconst 1, 1) := by decide +kernel
theorem dX1_at_8 : decode cX1_at 8 = .ok (.isub, 1) := by decide +kernel
theorem dX1_at_9 : decode cX1_at 9 = .ok (.i2l, 1) := by decide +kernel
theorem dX1_at_10 : decode cX1_at 10 = .ok (.invokestatic 256, 3) := by decide +kernel
theorem dX1_at_13 : decode cX1_at 13 = .ok (.ifCond .eq 39, 3) := by decide +kernel
theorem dX1_at_16 : decode cX1_at 16 = .ok (.iload_n 2, 1) := by decide +kernel
theorem dX1_at_17 : decode cX1_at 17 = .ok (.i2l, 1) := by decide +kernel
theorem dX1_at_18 : decode cX1_at 18 = .ok (.lconst 0, 1) := by decide +kernel
theorem dX1_at_19 : decode cX1_at 19 = .ok (.aload_n 0, 1) := by decide +kernel
theorem dX1_at_20 : decode cX1_at 20 = .ok (.getfield 219, 3) := by decide +kernel
theorem dX1_at_23 : decode cX1_at 23 = .ok (.iload_n 1, 1) := by decide +kernel
theorem dX1_at_24 : decode cX1_at 24 = .ok (.iaload, 1) := by decide +kernel
theorem dX1_at_25 : decode cX1_at 25 = .ok (.iconst 1, 1) := by decide +kernel
theorem dX1_at_26 : decode cX1_at 26 = .ok (.isub, 1) := by decide +kernel
theorem dX1_at_27 : decode cX1_at 27 = .ok (.i2l, 1) := by decide +kernel
theorem dX1_at_28 : decode cX1_at 28 = .ok (.invokestatic 256, 3) := by decide +kernel
theorem dX1_at_31 : decode cX1_at 31 = .ok (.ifCond .eq 21, 3) := by decide +kernel
theorem dX1_at_34 : decode cX1_at 34 = .ok (.aload_n 0, 1) := by decide +kernel
theorem dX1_at_35 : decode cX1_at 35 = .ok (.getfield 216, 3) := by decide +kernel
theorem dX1_at_38 : decode cX1_at 38 = .ok (.bipush 60, 2) := by decide +kernel
theorem dX1_at_40 : decode cX1_at 40 = .ok (.iload_n 1, 1) := by decide +kernel
theorem dX1_at_41 : decode cX1_at 41 = .ok (.imul, 1) := by decide +kernel
theorem dX1_at_42 : decode cX1_at 42 = .ok (.iload_n 2, 1) := by decide +kernel
theorem dX1_at_43 : decode cX1_at 43 = .ok (.iadd, 1) := by decide +kernel
theorem dX1_at_44 : decode cX1_at 44 = .ok (.baload, 1) := by decide +kernel
theorem dX1_at_45 : decode cX1_at 45 = .ok (.sipush 255, 3) := by decide +kernel
theorem dX1_at_48 : decode cX1_at 48 = .ok (.iand, 1) := by decide +kernel
theorem dX1_at_49 : decode cX1_at 49 = .ok (.goto 4, 3) := by decide +kernel
theorem dX1_at_52 : decode cX1_at 52 = .ok (.iconst (-1), 1) := by decide +kernel
theorem dX1_at_53 : decode cX1_at 53 = .ok (.ireturn, 1) := by decide +kernel
def m_at (σ : MEM) (a0 a1 : Int) : Option zm_O := ck (inR ((σ (-1) 86) - 1)) (bd (m_in σ a0 0 ((σ (-1) 86) - 1)) (fun r3 σ4 => if r3 = 0 then (some ((-1), σ4)) else (ck (0 ≤ a0 ∧ a0 < 4000) (ck (inR ((σ4 89 a0) - 1)) (bd (m_in σ4 a1 0 ((σ4 89 a0) - 1)) (fun r8 σ9 => if r8 = 0 then (some ((-1), σ9)) else (ck (0 ≤ ((60 * a0) + a1) ∧ ((60 * a0) + a1) < 240000) (some ((i_and (σ9 88 ((60 * a0) + a1)) 255), σ9)))))))))
theorem w_at {G : zm_G} (hD : zm_D G) (σ : MEM) (a0 a1 : Int) (ha0 : inR a0) (ha1 : inR a1) (o : zm_O) (hd : m_at σ a0 a1 = some o) : zm_Met G yX1_at cX1_at 3 (Option.some FieldType.int) 1 1 25 σ [.ref (zm_h G), iv a0, iv a1] o := by
  refine zm_intro hD hd (by decide) rfl (Nat.le_of_ble_eq_true rfl) rfl (fun C h hc => ?_)
  have hN : ∀ i, i < 3 → i < zv_n C := fun i q => by rw [hc.2.2.1]; exact q
  unfold m_at
  refine r_iload_n h 1 dX1_at_0 rfl rfl ?_
  refine r_i2l h ha0 dX1_at_1 ?_
  refine r_lconst (x := 0) h dX1_at_2 (by decide) ?_
  refine r_aload_n h 0 dX1_at_3 rfl rfl ?_
  refine zm_getI h hc 86 86 (by decide) rfl rfl q1565 rfl dX1_at_4 (fun hr1 => ?_)
  refine r_iconst h dX1_at_7 ?_
  refine r_isub h dX1_at_8 ?_
  refine r_ck (fun hk2 => ?_)
  refine r_i2l h hk2 dX1_at_9 ?_
  refine zm_cSz h hc (n := 3) (As := [jv a0, jv 0, jv ((σ (-1) 86) - 1)]) (fun o1 e1 => w_in hc.1 _ a0 0 ((σ (-1) 86) - 1) ha0.l (by decide) hk2.l o1 e1) q1790 q1791 q136 q1792 (by decide +kernel) ⟨by decide, by decide⟩ rfl (Nat.le_of_ble_eq_true rfl) rfl dX1_at_10 (fun r3 σ4 hr5 => ?_)
  refine r_if_eq h hr5.r 52 dX1_at_13 rfl ?_ ?_
  · refine r_iconst h dX1_at_52 ?_
    exact zm_iret h hc rfl (by decide) dX1_at_53
  · refine r_iload_n h 2 dX1_at_16 rfl rfl ?_
    refine r_i2l h ha1 dX1_at_17 ?_
    refine r_lconst (x := 0) h dX1_at_18 (by decide) ?_
    refine r_aload_n h 0 dX1_at_19 rfl rfl ?_
    refine zm_getA h hc 89 (by decide) rfl q1568 rfl dX1_at_20 ?_
    refine r_iload_n h 1 dX1_at_23 rfl rfl ?_
    refine zm_ldI h hc 89 89 4000 (by decide) rfl rfl rfl (by decide) dX1_at_24 (fun _ hr6 => ?_)
    refine r_iconst h dX1_at_25 ?_
    refine r_isub h dX1_at_26 ?_
    refine r_ck (fun hk7 => ?_)
    refine r_i2l h hk7 dX1_at_27 ?_
    refine zm_cSz h hc (n := 3) (As := [jv a1, jv 0, jv ((σ4 89 a0) - 1)]) (fun o1 e1 => w_in hc.1 _ a1 0 ((σ4 89 a0) - 1) ha1.l (by decide) hk7.l o1 e1) q1790 q1791 q136 q1792 (by decide +kernel) ⟨by decide, by decide⟩ rfl (Nat.le_of_ble_eq_true rfl) rfl dX1_at_28 (fun r8 σ9 hr10 => ?_)
    refine r_if_eq h hr10.r 52 dX1_at_31 rfl ?_ ?_
    · refine r_iconst h dX1_at_52 ?_
      exact zm_iret h hc rfl (by decide) dX1_at_53
    · refine r_aload_n h 0 dX1_at_34 rfl rfl ?_
      refine zm_getA h hc 88 (by decide) rfl q1567 rfl dX1_at_35 ?_
      refine r_bipush h dX1_at_38 (by decide) ?_
      refine r_iload_n h 1 dX1_at_40 rfl rfl ?_
      refine r_imul h dX1_at_41 ?_
      refine r_iload_n h 2 dX1_at_42 rfl rfl ?_
      refine r_iadd h dX1_at_43 ?_
      refine zm_ldB h hc 88 88 240000 (by decide) rfl rfl rfl (by decide) dX1_at_44 (fun _ hr11 => ?_)
      refine r_sipush h dX1_at_45 (by decide) ?_
      refine r_iand h dX1_at_48 ?_
      refine r_goto h 53 dX1_at_49 rfl ?_
      exact zm_iret h hc rfl (inR_t _) dX1_at_53
theorem dX1_count_0 : decode cX1_count 0 = .ok (.iload_n 1, 1) := by decide +kernel
theorem dX1_count_1 : decode cX1_count 1 = .ok (.tableswitch 153 0 6 #[43, 64, 85, 106, 111, 127, 132], 43) := by decide +kernel
theorem dX1_count_44 : decode cX1_count 44 = .ok (.aload_n 0, 1) := by decide +kernel
theorem dX1_count_45 : decode cX1_count 45 = .ok (.getfield 498, 3) := by decide +kernel
theorem dX1_count_48 : decode cX1_count 48 = .ok (.ifCond .eq 15, 3) := by decide +kernel
theorem dX1_count_51 : decode cX1_count 51 = .ok (.aload_n 0, 1) := by decide +kernel
theorem dX1_count_52 : decode cX1_count 52 = .ok (.getfield 27, 3) := by decide +kernel
theorem dX1_count_55 : decode cX1_count 55 = .ok (.aload_n 0, 1) := by decide +kernel
theorem dX1_count_56 : decode cX1_count 56 = .ok (.getfield 482, 3) := by decide +kernel
theorem dX1_count_59 : decode cX1_count 59 = .ok (.iaload, 1) := by decide +kernel
theorem dX1_count_60 : decode cX1_count 60 = .ok (.goto 4, 3) := by decide +kernel
theorem dX1_count_63 : decode cX1_count 63 = .ok (.iconst 0, 1) := by decide +kernel
theorem dX1_count_64 : decode cX1_count 64 = .ok (.ireturn, 1) := by decide +kernel
theorem dX1_count_65 : decode cX1_count 65 = .ok (.aload_n 0, 1) := by decide +kernel
theorem dX1_count_66 : decode cX1_count 66 = .ok (.getfield 498, 3) := by decide +kernel
theorem dX1_count_69 : decode cX1_count 69 = .ok (.ifCond .eq 15, 3) := by decide +kernel
theorem dX1_count_72 : decode cX1_count 72 = .ok (.aload_n 0, 1) := by decide +kernel
theorem dX1_count_73 : decode cX1_count 73 = .ok (.getfield 70, 3) := by decide +kernel
theorem dX1_count_76 : decode cX1_count 76 = .ok (.aload_n 0, 1) := by decide +kernel
theorem dX1_count_77 : decode cX1_count 77 = .ok (.getfield 482, 3) := by decide +kernel
theorem dX1_count_80 : decode cX1_count 80 = .ok (.iaload, 1) := by decide +kernel
theorem dX1_count_81 : decode cX1_count 81 = .ok (.goto 4, 3) := by decide +kernel
theorem dX1_count_84 : decode cX1_count 84 = .ok (.iconst 0, 1) := by decide +kernel
theorem dX1_count_85 : decode cX1_count 85 = .ok (.ireturn, 1) := by decide +kernel
theorem dX1_count_86 : decode cX1_count 86 = .ok (.aload_n 0, 1) := by decide +kernel
theorem dX1_count_87 : decode cX1_count 87 = .ok (.getfield 498, 3) := by decide +kernel
theorem dX1_count_90 : decode cX1_count 90 = .ok (.ifCond .eq 15, 3) := by decide +kernel
theorem dX1_count_93 : decode cX1_count 93 = .ok (.aload_n 0, 1) := by decide +kernel
theorem dX1_count_94 : decode cX1_count 94 = .ok (.getfield 104, 3) := by decide +kernel
theorem dX1_count_97 : decode cX1_count 97 = .ok (.aload_n 0, 1) := by decide +kernel
theorem dX1_count_98 : decode cX1_count 98 = .ok (.getfield 482, 3) := by decide +kernel
theorem dX1_count_101 : decode cX1_count 101 = .ok (.iaload, 1) := by decide +kernel
theorem dX1_count_102 : decode cX1_count 102 = .ok (.goto 4, 3) := by decide +kernel
theorem dX1_count_105 : decode cX1_count 105 = .ok (.iconst 0, 1) := by decide +kernel
theorem dX1_count_106 : decode cX1_count 106 = .ok (.ireturn, 1) := by decide +kernel
theorem dX1_count_107 : decode cX1_count 107 = .ok (.aload_n 0, 1) := by decide +kernel
theorem dX1_count_108 : decode cX1_count 108 = .ok (.getfield 501, 3) := by decide +kernel
theorem dX1_count_111 : decode cX1_count 111 = .ok (.ireturn, 1) := by decide +kernel
theorem dX1_count_112 : decode cX1_count 112 = .ok (.aload_n 0, 1) := by decide +kernel
theorem dX1_count_113 : decode cX1_count 113 = .ok (.getfield 501, 3) := by decide +kernel
theorem dX1_count_116 : decode cX1_count 116 = .ok (.ifCond .ne 7, 3) := by decide +kernel
theorem dX1_count_119 : decode cX1_count 119 = .ok (.iconst 0, 1) := by decide +kernel
theorem dX1_count_120 : decode cX1_count 120 = .ok (.goto 7, 3) := by decide +kernel
theorem dX1_count_123 : decode cX1_count 123 = .ok (.aload_n 0, 1) := by decide +kernel
theorem dX1_count_124 : decode cX1_count 124 = .ok (.getfield 661, 3) := by decide +kernel
theorem dX1_count_127 : decode cX1_count 127 = .ok (.ireturn, 1) := by decide +kernel
theorem dX1_count_128 : decode cX1_count 128 = .ok (.aload_n 0, 1) := by decide +kernel
theorem dX1_count_129 : decode cX1_count 129 = .ok (.getfield 476, 3) := by decide +kernel
theorem dX1_count_132 : decode cX1_count 132 = .ok (.ireturn, 1) := by decide +kernel
theorem dX1_count_133 : decode cX1_count 133 = .ok (.aload_n 0, 1) := by decide +kernel
theorem dX1_count_134 : decode cX1_count 134 = .ok (.getfield 498, 3) := by decide +kernel
theorem dX1_count_137 : decode cX1_count 137 = .ok (.ifCond .eq 15, 3) := by decide +kernel
theorem dX1_count_140 : decode cX1_count 140 = .ok (.aload_n 0, 1) := by decide +kernel
theorem dX1_count_141 : decode cX1_count 141 = .ok (.getfield 61, 3) := by decide +kernel
theorem dX1_count_144 : decode cX1_count 144 = .ok (.aload_n 0, 1) := by decide +kernel
theorem dX1_count_145 : decode cX1_count 145 = .ok (.getfield 482, 3) := by decide +kernel
theorem dX1_count_148 : decode cX1_count 148 = .ok (.iaload, 1) := by decide +kernel
theorem dX1_count_149 : decode cX1_count 149 = .ok (.goto 4, 3) := by decide +kernel
theorem dX1_count_152 : decode cX1_count 152 = .ok (.iconst 0, 1) := by decide +kernel
theorem dX1_count_153 : decode cX1_count 153 = .ok (.ireturn, 1) := by decide +kernel
theorem dX1_count_154 : decode cX1_count 154 = .ok (.bipush (-9), 2) := by decide +kernel
theorem dX1_count_156 : decode cX1_count 156 = .ok (.ireturn, 1) := by decide +kernel
def m_count (σ : MEM) (a0 : Int) : Option zm_O := if a0 = 0 then (if (σ (-1) 9) = 0 then (some (0, σ)) else (ck (0 ≤ (σ (-1) 7) ∧ (σ (-1) 7) < 2) (some ((σ 12 (σ (-1) 7)), σ)))) else if a0 = 1 then (if (σ (-1) 9) = 0 then (some (0, σ)) else (ck (0 ≤ (σ (-1) 7) ∧ (σ (-1) 7) < 2) (some ((σ 26 (σ (-1) 7)), σ)))) else if a0 = 2 then (if (σ (-1) 9) = 0 then (some (0, σ)) else (ck (0 ≤ (σ (-1) 7) ∧ (σ (-1) 7) < 2) (some ((σ 37 (σ (-1) 7)), σ)))) else if a0 = 3 then (some ((σ (-1) 86), σ)) else if a0 = 4 then (if (σ (-1) 86) = 0 then (some (0, σ)) else (some ((σ (-1) 87), σ))) else if a0 = 5 then (some ((σ (-1) 1), σ)) else if a0 = 6 then (if (σ (-1) 9) = 0 then (some (0, σ)) else (ck (0 ≤ (σ (-1) 7) ∧ (σ (-1) 7) < 2) (some ((σ 23 (σ (-1) 7)), σ)))) else (some ((-9), σ))
theorem w_count {G : zm_G} (hD : zm_D G) (σ : MEM) (a0 : Int) (ha0 : inR a0) (o : zm_O) (hd : m_count σ a0 = some o) : zm_Met G yX1_count cX1_count 2 (Option.some FieldType.int) 1 0 0 σ [.ref (zm_h G), iv a0] o := by
  refine zm_intro hD hd (by decide) rfl (Nat.le_of_ble_eq_true rfl) rfl (fun C h hc => ?_)
  have hN : ∀ i, i < 2 → i < zv_n C := fun i q => by rw [hc.2.2.1]; exact q
  unfold m_count
  refine r_iload_n h 1 dX1_count_0 rfl rfl ?_
  refine r_if (fun he1 => ?_) (fun he1 => ?_)
  · refine r_tsIn h 0 44 ha0 he1 dX1_count_1 (by decide) (by decide) rfl rfl ?_
    refine r_aload_n h 0 dX1_count_44 rfl rfl ?_
    refine zm_getZ h hc 9 9 (by decide) rfl rfl q1489 rfl dX1_count_45 (fun hr2 => ?_)
    refine r_if_eq h hr2.r 63 dX1_count_48 rfl ?_ ?_
    · refine r_iconst h dX1_count_63 ?_
      exact zm_iret h hc rfl (by decide) dX1_count_64
    · refine r_aload_n h 0 dX1_count_51 rfl rfl ?_
      refine zm_getA h hc 12 (by decide) rfl q1492 rfl dX1_count_52 ?_
      refine r_aload_n h 0 dX1_count_55 rfl rfl ?_
      refine zm_getI h hc 7 7 (by decide) rfl rfl q1487 rfl dX1_count_56 (fun hr3 => ?_)
      refine zm_ldI h hc 12 12 2 (by decide) rfl rfl rfl (by decide) dX1_count_59 (fun _ hr4 => ?_)
      refine r_goto h 64 dX1_count_60 rfl ?_
      exact zm_iret h hc rfl hr4 dX1_count_64
  refine r_if (fun he5 => ?_) (fun he5 => ?_)
  · refine r_tsIn h 1 65 ha0 he5 dX1_count_1 (by decide) (by decide) rfl rfl ?_
    refine r_aload_n h 0 dX1_count_65 rfl rfl ?_
    refine zm_getZ h hc 9 9 (by decide) rfl rfl q1489 rfl dX1_count_66 (fun hr6 => ?_)
    refine r_if_eq h hr6.r 84 dX1_count_69 rfl ?_ ?_
    · refine r_iconst h dX1_count_84 ?_
      exact zm_iret h hc rfl (by decide) dX1_count_85
    · refine r_aload_n h 0 dX1_count_72 rfl rfl ?_
      refine zm_getA h hc 26 (by decide) rfl q1506 rfl dX1_count_73 ?_
      refine r_aload_n h 0 dX1_count_76 rfl rfl ?_
      refine zm_getI h hc 7 7 (by decide) rfl rfl q1487 rfl dX1_count_77 (fun hr7 => ?_)
      refine zm_ldI h hc 26 26 2 (by decide) rfl rfl rfl (by decide) dX1_count_80 (fun _ hr8 => ?_)
      refine r_goto h 85 dX1_count_81 rfl ?_
      exact zm_iret h hc rfl hr8 dX1_count_85
  refine r_if (fun he9 => ?_) (fun he9 => ?_)
  · refine r_tsIn h 2 86 ha0 he9 dX1_count_1 (by decide) (by decide) rfl rfl ?_
    refine r_aload_n h 0 dX1_count_86 rfl rfl ?_
    refine zm_getZ h hc 9 9 (by decide) rfl rfl q1489 rfl dX1_count_87 (fun hr10 => ?_)
    refine r_if_eq h hr10.r 105 dX1_count_90 rfl ?_ ?_
    · refine r_iconst h dX1_count_105 ?_
      exact zm_iret h hc rfl (by decide) dX1_count_106
    · refine r_aload_n h 0 dX1_count_93 rfl rfl ?_
      refine zm_getA h hc 37 (by decide) rfl q1517 rfl dX1_count_94 ?_
      refine r_aload_n h 0 dX1_count_97 rfl rfl ?_
      refine zm_getI h hc 7 7 (by decide) rfl rfl q1487 rfl dX1_count_98 (fun hr11 => ?_)
      refine zm_ldI h hc 37 37 2 (by decide) rfl rfl rfl (by decide) dX1_count_101 (fun _ hr12 => ?_)
      refine r_goto h 106 dX1_count_102 rfl ?_
      exact zm_iret h hc rfl hr12 dX1_count_106
  refine r_if (fun he13 => ?_) (fun he13 => ?_)
  · refine r_tsIn h 3 107 ha0 he13 dX1_count_1 (by decide) (by decide) rfl rfl ?_
    refine r_aload_n h 0 dX1_count_107 rfl rfl ?_
    refine zm_getI h hc 86 86 (by decide) rfl rfl q1565 rfl dX1_count_108 (fun hr14 => ?_)
    exact zm_iret h hc rfl hr14 dX1_count_111
  refine r_if (fun he15 => ?_) (fun he15 => ?_)
  · refine r_tsIn h 4 112 ha0 he15 dX1_count_1 (by decide) (by decide) rfl rfl ?_
    refine r_aload_n h 0 dX1_count_112 rfl rfl ?_
    refine zm_getI h hc 86 86 (by decide) rfl rfl q1565 rfl dX1_count_113 (fun hr16 => ?_)
    refine r_if_ne h hr16 123 dX1_count_116 rfl ?_ ?_
    · refine r_iconst h dX1_count_119 ?_
      refine r_goto h 127 dX1_count_120 rfl ?_
      exact zm_iret h hc rfl (by decide) dX1_count_127
    · refine r_aload_n h 0 dX1_count_123 rfl rfl ?_
      refine zm_getI h hc 87 87 (by decide) rfl rfl q1566 rfl dX1_count_124 (fun hr17 => ?_)
      exact zm_iret h hc rfl hr17 dX1_count_127
  refine r_if (fun he18 => ?_) (fun he18 => ?_)
  · refine r_tsIn h 5 128 ha0 he18 dX1_count_1 (by decide) (by decide) rfl rfl ?_
    refine r_aload_n h 0 dX1_count_128 rfl rfl ?_
    refine zm_getI h hc 1 1 (by decide) rfl rfl q1481 rfl dX1_count_129 (fun hr19 => ?_)
    exact zm_iret h hc rfl hr19 dX1_count_132
  refine r_if (fun he20 => ?_) (fun he20 => ?_)
  · refine r_tsIn h 6 133 ha0 he20 dX1_count_1 (by decide) (by decide) rfl rfl ?_
    refine r_aload_n h 0 dX1_count_133 rfl rfl ?_
    refine zm_getZ h hc 9 9 (by decide) rfl rfl q1489 rfl dX1_count_134 (fun hr21 => ?_)
    refine r_if_eq h hr21.r 152 dX1_count_137 rfl ?_ ?_
    · refine r_iconst h dX1_count_152 ?_
      exact zm_iret h hc rfl (by decide) dX1_count_153
    · refine r_aload_n h 0 dX1_count_140 rfl rfl ?_
      refine zm_getA h hc 23 (by decide) rfl q1503 rfl dX1_count_141 ?_
      refine r_aload_n h 0 dX1_count_144 rfl rfl ?_
      refine zm_getI h hc 7 7 (by decide) rfl rfl q1487 rfl dX1_count_145 (fun hr22 => ?_)
      refine zm_ldI h hc 23 23 2 (by decide) rfl rfl rfl (by decide) dX1_count_148 (fun _ hr23 => ?_)
      refine r_goto h 153 dX1_count_149 rfl ?_
      exact zm_iret h hc rfl hr23 dX1_count_153
  refine r_tsOut h 154 ha0 (by omega) dX1_count_1 rfl ?_
  refine r_bipush h dX1_count_154 (by decide) ?_
  exact zm_iret h hc rfl (by decide) dX1_count_156
