set_option maxRecDepth 100000
/-! methods of the Model: decode rows, denotations m_.., walks w_.. (written by wip/gen/gen.py) -/
theorem dX1_isName_0 : decode cX1_isName 0 = .ok (.iload_n 2, 1) := by decide +kernel
theorem dX1_isName_1 : decode cX1_isName 1 = .ok (.i2l, 1) := by decide +kernel
theorem dX1_isName_2 : decode cX1_isName 2 = .ok (.lconst 1, 1) := by decide +kernel
theorem dX1_isName_3 : decode cX1_isName 3 = .ok (.ldc2_w 528, 3) := by decide +kernel
theorem dX1_isName_6 : decode cX1_isName 6 = .ok (.invokestatic 256, 3) := by decide +kernel
theorem dX1_isName_9 : decode cX1_isName 9 = .ok (.ifCond .eq 19, 3) := by decide +kernel
theorem dX1_isName_12 : decode cX1_isName 12 = .ok (.aload_n 0, 1) := by decide +kernel
theorem dX1_isName_13 : decode cX1_isName 13 = .ok (.getfield 55, 3) := by decide +kernel
theorem dX1_isName_16 : decode cX1_isName 16 = .ok (.iload_n 1, 1) := by decide +kernel
theorem dX1_isName_17 : decode cX1_isName 17 = .ok (.baload, 1) := by decide +kernel
theorem dX1_isName_18 : decode cX1_isName 18 = .ok (.invokestatic 268, 3) := by decide +kernel
theorem dX1_isName_21 : decode cX1_isName 21 = .ok (.ifCond .eq 7, 3) := by decide +kernel
theorem dX1_isName_24 : decode cX1_isName 24 = .ok (.iconst 1, 1) := by decide +kernel
theorem dX1_isName_25 : decode cX1_isName 25 = .ok (.goto 4, 3) := by decide +kernel
theorem dX1_isName_28 : decode cX1_isName 28 = .ok (.iconst 0, 1) := by decide +kernel
theorem dX1_isName_29 : decode cX1_isName 29 = .ok (.istore_n 3, 1) := by decide +kernel
theorem dX1_isName_30 : decode cX1_isName 30 = .ok (.iconst 1, 1) := by decide +kernel
theorem dX1_isName_31 : decode cX1_isName 31 = .ok (.istore 4, 2) := by decide +kernel
theorem dX1_isName_33 : decode cX1_isName 33 = .ok (.iload 4, 2) := by decide +kernel
theorem dX1_isName_35 : decode cX1_isName 35 = .ok (.iload_n 2, 1) := by decide +kernel
theorem dX1_isName_36 : decode cX1_isName 36 = .ok (.if_icmp .ge 26, 3) := by decide +kernel
theorem dX1_isName_39 : decode cX1_isName 39 = .ok (.iload_n 3, 1) := by decide +kernel
theorem dX1_isName_40 : decode cX1_isName 40 = .ok (.ifCond .eq 22, 3) := by decide +kernel
theorem dX1_isName_43 : decode cX1_isName 43 = .ok (.aload_n 0, 1) := by decide +kernel
theorem dX1_isName_44 : decode cX1_isName 44 = .ok (.getfield 55, 3) := by decide +kernel
theorem dX1_isName_47 : decode cX1_isName 47 = .ok (.iload_n 1, 1) := by decide +kernel
theorem dX1_isName_48 : decode cX1_isName 48 = .ok (.iload 4, 2) := by decide +kernel
theorem dX1_isName_50 : decode cX1_isName 50 = .ok (.iadd, 1) := by decide +kernel
theorem dX1_isName_51 : decode cX1_isName 51 = .ok (.baload, 1) := by decide +kernel
theorem dX1_isName_52 : decode cX1_isName 52 = .ok (.invokestatic 303, 3) := by decide +kernel
theorem dX1_isName_55 : decode cX1_isName 55 = .ok (.istore_n 3, 1) := by decide +kernel
theorem dX1_isName_56 : decode cX1_isName 56 = .ok (.iinc 4 1, 3) := by decide +kernel
theorem dX1_isName_59 : decode cX1_isName 59 = .ok (.goto (-26), 3) := by decide +kernel
theorem dX1_isName_62 : decode cX1_isName 62 = .ok (.iload_n 3, 1) := by decide +kernel
theorem dX1_isName_63 : decode cX1_isName 63 = .ok (.ireturn, 1) := by decide +kernel
def m_isName_33 : Nat → MEM → Int → Int → Int → Int → Option zm_O
  | 0, _, _, _, _, _ => none
  | n + 1, σ, x1, x2, x3, x4 => if x2 ≤ x4 then (some (x3, σ)) else (if x3 = 0 then (some (x3, σ)) else (ck (0 ≤ (x1 + x4) ∧ (x1 + x4) < 4000) (bd (m_isNext σ (σ 21 (x1 + x4))) (fun r2 σ3 => ck (inR (x4 + 1)) (m_isName_33 n σ3 x1 x2 r2 (x4 + 1))))))
theorem w_isName_33 {C : zv_Cx zm_O} {G : zm_G} (h : zv_Ok C cX1_isName RX1) (hc : zm_C C G 5 (Option.some FieldType.boolean) 3 3 65) : ∀ (n : Nat) (σ : MEM) (x1 x2 x3 x4 : Int), inR x1 → inR x2 → isB x3 → inR x4 → VV C (m_isName_33 n σ x1 x2 x3 x4) σ [(0, .ref (zm_h G)), (1, iv x1), (2, iv x2), (3, iv x3), (4, iv x4)] [] 33 := by
  have hN : ∀ i, i < 5 → i < zv_n C := fun i q => by rw [hc.2.2.1]; exact q
  intro n
  induction n with
  | zero => intros; exact r_none
  | succ n ih =>
    intro σ x1 x2 x3 x4 hx1 hx2 hx3 hx4
    rw [m_isName_33]
    refine r_iload h 4 dX1_isName_33 rfl ?_
    refine r_iload_n h 2 dX1_isName_35 rfl rfl ?_
    refine r_icmp_ge h hx4 hx2 62 dX1_isName_36 rfl ?_ ?_
    · refine r_iload_n h 3 dX1_isName_62 rfl rfl ?_
      exact zm_zret h hc rfl hx3 dX1_isName_63
    · refine r_iload_n h 3 dX1_isName_39 rfl rfl ?_
      refine r_if_eq h hx3.r 62 dX1_isName_40 rfl ?_ ?_
      · refine r_iload_n h 3 dX1_isName_62 rfl rfl ?_
        exact zm_zret h hc rfl hx3 dX1_isName_63
      · refine r_aload_n h 0 dX1_isName_43 rfl rfl ?_
        refine zm_getA h hc 21 (by decide) rfl q1501 rfl dX1_isName_44 ?_
        refine r_iload_n h 1 dX1_isName_47 rfl rfl ?_
        refine r_iload h 4 dX1_isName_48 rfl ?_
        refine r_iadd h dX1_isName_50 ?_
        refine zm_ldB h hc 21 21 4000 (by decide) rfl rfl rfl (by decide) dX1_isName_51 (fun _ hr1 => ?_)
        refine zm_cSz h hc (n := 1) (As := [iv (σ 21 (x1 + x4))]) (fun o1 e1 => w_isNext hc.1 _ (σ 21 (x1 + x4)) hr1.r o1 e1) q1869 q1870 q136 q1871 (by decide +kernel) ⟨by decide, by decide⟩ rfl (Nat.le_of_ble_eq_true rfl) rfl dX1_isName_52 (fun r2 σ3 hr4 => ?_)
        refine r_istore_n (lv' := [(3, iv r2), (0, .ref (zm_h G)), (1, iv x1), (2, iv x2), (4, iv x4)]) h dX1_isName_55 rfl (hN _ (by decide)) rfl ?_
        refine r_iinc (lv' := [(4, iv (x4 + 1)), (3, iv r2), (0, .ref (zm_h G)), (1, iv x1), (2, iv x2)]) h 4 dX1_isName_56 rfl (hN _ (by decide)) rfl ?_
        refine r_goto h 33 dX1_isName_59 rfl ?_
        refine r_ck (fun hk5 => ?_)
        exact r_lv [2, 3, 4, 1, 0] rfl (ih _ x1 x2 r2 (x4 + 1) hx1 hx2 hr4 hk5)
def m_isName (σ : MEM) (a0 a1 : Int) : Option zm_O := bd (m_in σ a1 1 20) (fun r1 σ2 => if r1 = 0 then (m_isName_33 zF σ2 a0 a1 0 1) else (ck (0 ≤ a0 ∧ a0 < 4000) (bd (m_isFirst σ2 (σ2 21 a0)) (fun r5 σ6 => if r5 = 0 then (m_isName_33 zF σ6 a0 a1 0 1) else (m_isName_33 zF σ6 a0 a1 1 1)))))
theorem w_isName {G : zm_G} (hD : zm_D G) (σ : MEM) (a0 a1 : Int) (ha0 : inR a0) (ha1 : inR a1) (o : zm_O) (hd : m_isName σ a0 a1 = some o) : zm_Met G yX1_isName cX1_isName 5 (Option.some FieldType.boolean) 3 3 65 σ [.ref (zm_h G), iv a0, iv a1] o := by
  refine zm_intro hD hd (by decide) rfl (Nat.le_of_ble_eq_true rfl) rfl (fun C h hc => ?_)
  have hN : ∀ i, i < 5 → i < zv_n C := fun i q => by rw [hc.2.2.1]; exact q
  unfold m_isName
  refine r_iload_n h 2 dX1_isName_0 rfl rfl ?_
  refine r_i2l h ha1 dX1_isName_1 ?_
  refine r_lconst (x := 1) h dX1_isName_2 (by decide) ?_
  refine r_ldc2 (x := 20) h q2031 (by decide) dX1_isName_3 ?_
  refine zm_cSz h hc (n := 3) (As := [jv a1, jv 1, jv 20]) (fun o1 e1 => w_in hc.1 _ a1 1 20 ha1.l (by decide) (by decide) o1 e1) q1790 q1791 q136 q1792 (by decide +kernel) ⟨by decide, by decide⟩ rfl (Nat.le_of_ble_eq_true rfl) rfl dX1_isName_6 (fun r1 σ2 hr3 => ?_)
  refine r_if_eq h hr3.r 28 dX1_isName_9 rfl ?_ ?_
  · refine r_iconst h dX1_isName_28 ?_
    refine r_istore_n (lv' := [(3, iv 0), (0, .ref (zm_h G)), (1, iv a0), (2, iv a1)]) h dX1_isName_29 rfl (hN _ (by decide)) rfl ?_
    refine r_iconst h dX1_isName_30 ?_
    refine r_istore (lv' := [(4, iv 1), (3, iv 0), (0, .ref (zm_h G)), (1, iv a0), (2, iv a1)]) h dX1_isName_31 (hN _ (by decide)) rfl ?_
    exact r_lv [2, 3, 4, 1, 0] rfl (w_isName_33 h hc zF _ a0 a1 0 1 ha0 ha1 (by decide) (by decide))
  · refine r_aload_n h 0 dX1_isName_12 rfl rfl ?_
    refine zm_getA h hc 21 (by decide) rfl q1501 rfl dX1_isName_13 ?_
    refine r_iload_n h 1 dX1_isName_16 rfl rfl ?_
    refine zm_ldB h hc 21 21 4000 (by decide) rfl rfl rfl (by decide) dX1_isName_17 (fun _ hr4 => ?_)
    refine zm_cSz h hc (n := 1) (As := [iv (σ2 21 a0)]) (fun o1 e1 => w_isFirst hc.1 _ (σ2 21 a0) hr4.r o1 e1) q1862 q1863 q136 q1864 (by decide +kernel) ⟨by decide, by decide⟩ rfl (Nat.le_of_ble_eq_true rfl) rfl dX1_isName_18 (fun r5 σ6 hr7 => ?_)
    refine r_if_eq h hr7.r 28 dX1_isName_21 rfl ?_ ?_
    · refine r_iconst h dX1_isName_28 ?_
      refine r_istore_n (lv' := [(3, iv 0), (0, .ref (zm_h G)), (1, iv a0), (2, iv a1)]) h dX1_isName_29 rfl (hN _ (by decide)) rfl ?_
      refine r_iconst h dX1_isName_30 ?_
      refine r_istore (lv' := [(4, iv 1), (3, iv 0), (0, .ref (zm_h G)), (1, iv a0), (2, iv a1)]) h dX1_isName_31 (hN _ (by decide)) rfl ?_
      exact r_lv [2, 3, 4, 1, 0] rfl (w_isName_33 h hc zF _ a0 a1 0 1 ha0 ha1 (by decide) (by decide))
    · refine r_iconst h dX1_isName_24 ?_
      refine r_goto h 29 dX1_isName_25 rfl ?_
      refine r_istore_n (lv' := [(3, iv 1), (0, .ref (zm_h G)), (1, iv a0), (2, iv a1)]) h dX1_isName_29 rfl (hN _ (by decide)) rfl ?_
      refine r_iconst h dX1_isName_30 ?_
      refine r_istore (lv' := [(4, iv 1), (3, iv 1), (0, .ref (zm_h G)), (1, iv a0), (2, iv a1)]) h dX1_isName_31 (hN _ (by decide)) rfl ?_
      exact r_lv [2, 3, 4, 1, 0] rfl (w_isName_33 h hc zF _ a0 a1 1 1 ha0 ha1 (by decide) (by decide))
theorem dX1_isOf_0 : decode cX1_isOf 0 = .ok (.aload_n 0, 1) := by decide +kernel
theorem dX1_isOf_1 : decode cX1_isOf 1 = .ok (.getfield 119, 3) := by decide +kernel
theorem dX1_isOf_4 : decode cX1_isOf 4 = .ok (.iload_n 1, 1) := by decide +kernel
theorem dX1_isOf_5 : decode cX1_isOf 5 = .ok (.iaload, 1) := by decide +kernel
theorem dX1_isOf_6 : decode cX1_isOf 6 = .ok (.ifCond .ne 5, 3) := by decide +kernel
theorem dX1_isOf_9 : decode cX1_isOf 9 = .ok (.iconst 1, 1) := by decide +kernel
theorem dX1_isOf_10 : decode cX1_isOf 10 = .ok (.ireturn, 1) := by decide +kernel
theorem dX1_isOf_11 : decode cX1_isOf 11 = .ok (.aload_n 0, 1) := by decide +kernel
theorem dX1_isOf_12 : decode cX1_isOf 12 = .ok (.getfield 119, 3) := by decide +kernel
theorem dX1_isOf_15 : decode cX1_isOf 15 = .ok (.iload_n 1, 1) := by decide +kernel
theorem dX1_isOf_16 : decode cX1_isOf 16 = .ok (.iaload, 1) := by decide +kernel
theorem dX1_isOf_17 : decode cX1_isOf 17 = .ok (.iconst 1, 1) := by decide +kernel
theorem dX1_isOf_18 : decode cX1_isOf 18 = .ok (.if_icmp .ne 10, 3) := by decide +kernel
theorem dX1_isOf_21 : decode cX1_isOf 21 = .ok (.aload_n 0, 1) := by decide +kernel
theorem dX1_isOf_22 : decode cX1_isOf 22 = .ok (.iload_n 2, 1) := by decide +kernel
theorem dX1_isOf_23 : decode cX1_isOf 23 = .ok (.iload_n 3, 1) := by decide +kernel
theorem dX1_isOf_24 : decode cX1_isOf 24 = .ok (.invokevirtual 530, 3) := by decide +kernel
theorem dX1_isOf_27 : decode cX1_isOf 27 = .ok (.ireturn, 1) := by decide +kernel
theorem dX1_isOf_28 : decode cX1_isOf 28 = .ok (.bipush 8, 2) := by decide +kernel
theorem dX1_isOf_30 : decode cX1_isOf 30 = .ok (.iload_n 1, 1) := by decide +kernel
theorem dX1_isOf_31 : decode cX1_isOf 31 = .ok (.imul, 1) := by decide +kernel
theorem dX1_isOf_32 : decode cX1_isOf 32 = .ok (.istore 4, 2) := by decide +kernel
theorem dX1_isOf_34 : decode cX1_isOf 34 = .ok (.iload 4, 2) := by decide +kernel
theorem dX1_isOf_36 : decode cX1_isOf 36 = .ok (.bipush 8, 2) := by decide +kernel
theorem dX1_isOf_38 : decode cX1_isOf 38 = .ok (.iload_n 1, 1) := by decide +kernel
theorem dX1_isOf_39 : decode cX1_isOf 39 = .ok (.imul, 1) := by decide +kernel
theorem dX1_isOf_40 : decode cX1_isOf 40 = .ok (.aload_n 0, 1) := by decide +kernel
theorem dX1_isOf_41 : decode cX1_isOf 41 = .ok (.getfield 131, 3) := by decide +kernel
theorem dX1_isOf_44 : decode cX1_isOf 44 = .ok (.iload_n 1, 1) := by decide +kernel
theorem dX1_isOf_45 : decode cX1_isOf 45 = .ok (.iaload, 1) := by decide +kernel
theorem dX1_isOf_46 : decode cX1_isOf 46 = .ok (.iadd, 1) := by decide +kernel
theorem dX1_isOf_47 : decode cX1_isOf 47 = .ok (.if_icmp .ge 88, 3) := by decide +kernel
theorem dX1_isOf_50 : decode cX1_isOf 50 = .ok (.aload_n 0, 1) := by decide +kernel
theorem dX1_isOf_51 : decode cX1_isOf 51 = .ok (.getfield 137, 3) := by decide +kernel
theorem dX1_isOf_54 : decode cX1_isOf 54 = .ok (.iload 4, 2) := by decide +kernel
theorem dX1_isOf_56 : decode cX1_isOf 56 = .ok (.iaload, 1) := by decide +kernel
theorem dX1_isOf_57 : decode cX1_isOf 57 = .ok (.iload_n 3, 1) := by decide +kernel
theorem dX1_isOf_58 : decode cX1_isOf 58 = .ok (.if_icmp .ne 7, 3) := by decide +kernel
theorem dX1_isOf_61 : decode cX1_isOf 61 = .ok (.iconst 1, 1) := by decide +kernel
theorem dX1_isOf_62 : decode cX1_isOf 62 = .ok (.goto 4, 3) := by decide +kernel
theorem dX1_isOf_65 : decode cX1_isOf 65 = .ok (.iconst 0, 1) := by decide +kernel
theorem dX1_isOf_66 : decode cX1_isOf 66 = .ok (.istore 5, 2) := by decide +kernel
theorem dX1_isOf_68 : decode cX1_isOf 68 = .ok (.iconst 0, 1) := by decide +kernel
theorem dX1_isOf_69 : decode cX1_isOf 69 = .ok (.istore 6, 2) := by decide +kernel
theorem dX1_isOf_71 : decode cX1_isOf 71 = .ok (.iload 6, 2) := by decide +kernel
theorem dX1_isOf_73 : decode cX1_isOf 73 = .ok (.iload_n 3, 1) := by decide +kernel
theorem dX1_isOf_74 : decode cX1_isOf 74 = .ok (.if_icmp .ge 48, 3) := by decide +kernel
theorem dX1_isOf_77 : decode cX1_isOf 77 = .ok (.iload 5, 2) := by decide +kernel
theorem dX1_isOf_79 : decode cX1_isOf 79 = .ok (.ifCond .eq 43, 3) := by decide +kernel
theorem dX1_isOf_82 : decode cX1_isOf 82 = .ok (.aload_n 0, 1) := by decide +kernel
theorem dX1_isOf_83 : decode cX1_isOf 83 = .ok (.getfield 24, 3) := by decide +kernel
theorem dX1_isOf_86 : decode cX1_isOf 86 = .ok (.aload_n 0, 1) := by decide +kernel
theorem dX1_isOf_87 : decode cX1_isOf 87 = .ok (.getfield 134, 3) := by decide +kernel
theorem dX1_isOf_90 : decode cX1_isOf 90 = .ok (.iload 4, 2) := by decide +kernel
theorem dX1_isOf_92 : decode cX1_isOf 92 = .ok (.iaload, 1) := by decide +kernel
theorem dX1_isOf_93 : decode cX1_isOf 93 = .ok (.iload 6, 2) := by decide +kernel
theorem dX1_isOf_95 : decode cX1_isOf 95 = .ok (.iadd, 1) := by decide +kernel
theorem dX1_isOf_96 : decode cX1_isOf 96 = .ok (.baload, 1) := by decide +kernel
theorem dX1_isOf_97 : decode cX1_isOf 97 = .ok (.aload_n 0, 1) := by decide +kernel
theorem dX1_isOf_98 : decode cX1_isOf 98 = .ok (.getfield 55, 3) := by decide +kernel
theorem dX1_isOf_101 : decode cX1_isOf 101 = .ok (.iload_n 2, 1) := by decide +kernel
theorem dX1_isOf_102 : decode cX1_isOf 102 = .ok (.iload 6, 2) := by decide +kernel
theorem dX1_isOf_104 : decode cX1_isOf 104 = .ok (.iadd, 1) := by decide +kernel
theorem dX1_isOf_105 : decode cX1_isOf 105 = .ok (.baload, 1) := by decide +kernel
theorem dX1_isOf_106 : decode cX1_isOf 106 = .ok (.if_icmp .ne 7, 3) := by decide +kernel
theorem dX1_isOf_109 : decode cX1_isOf 109 = .ok (.iconst 1, 1) := by decide +kernel
theorem dX1_isOf_110 : decode cX1_isOf 110 = .ok (.goto 4, 3) := by decide +kernel
theorem dX1_isOf_113 : decode cX1_isOf 113 = .ok (.iconst 0, 1) := by decide +kernel
theorem dX1_isOf_114 : decode cX1_isOf 114 = .ok (.istore 5, 2) := by decide +kernel
theorem dX1_isOf_116 : decode cX1_isOf 116 = .ok (.iinc 6 1, 3) := by decide +kernel
theorem dX1_isOf_119 : decode cX1_isOf 119 = .ok (.goto (-48), 3) := by decide +kernel
theorem dX1_isOf_122 : decode cX1_isOf 122 = .ok (.iload 5, 2) := by decide +kernel
theorem dX1_isOf_124 : decode cX1_isOf 124 = .ok (.ifCond .eq 5, 3) := by decide +kernel
theorem dX1_isOf_127 : decode cX1_isOf 127 = .ok (.iconst 1, 1) := by decide +kernel
theorem dX1_isOf_128 : decode cX1_isOf 128 = .ok (.ireturn, 1) := by decide +kernel
theorem dX1_isOf_129 : decode cX1_isOf 129 = .ok (.iinc 4 1, 3) := by decide +kernel
theorem dX1_isOf_132 : decode cX1_isOf 132 = .ok (.goto (-98), 3) := by decide +kernel
theorem dX1_isOf_135 : decode cX1_isOf 135 = .ok (.iconst 0, 1) := by decide +kernel
theorem dX1_isOf_136 : decode cX1_isOf 136 = .ok (.ireturn, 1) := by decide +kernel
def m_isOf_122 (lp34 : MEM → Int → Int → Int → Int → Option zm_O) (σ : MEM) (x1 x2 x3 x4 x5 : Int) : Option zm_O := if x5 = 0 then (ck (inR (x4 + 1)) (lp34 σ x1 x2 x3 (x4 + 1))) else (some (1, σ))
theorem w_isOf_122 {C : zv_Cx zm_O} {G : zm_G} (h : zv_Ok C cX1_isOf RX1) (hc : zm_C C G 7 (Option.some FieldType.boolean) 3 4 89) (lp34 : MEM → Int → Int → Int → Int → Option zm_O) (hlp34 : ∀ (σ : MEM) (x1 x2 x3 x4 : Int), inR x1 → inR x2 → inR x3 → inR x4 → VV C (lp34 σ x1 x2 x3 x4) σ [(0, .ref (zm_h G)), (1, iv x1), (2, iv x2), (3, iv x3), (4, iv x4)] [] 34) (σ : MEM) (x1 x2 x3 x4 x5 : Int) (hx1 : inR x1) (hx2 : inR x2) (hx3 : inR x3) (hx4 : inR x4) (hx5 : isB x5) : VV C (m_isOf_122 lp34 σ x1 x2 x3 x4 x5) σ [(0, .ref (zm_h G)), (1, iv x1), (2, iv x2), (3, iv x3), (4, iv x4), (5, iv x5)] [] 122 := by
  have hN : ∀ i, i < 7 → i < zv_n C := fun i q => by rw [hc.2.2.1]; exact q
  unfold m_isOf_122
  refine r_iload h 5 dX1_isOf_122 rfl ?_
  refine r_if_eq h hx5.r 129 dX1_isOf_124 rfl ?_ ?_
  · refine r_iinc (lv' := [(4, iv (x4 + 1)), (0, .ref (zm_h G)), (1, iv x1), (2, iv x2), (3, iv x3), (5, iv x5)]) h 4 dX1_isOf_129 rfl (hN _ (by decide)) rfl ?_
    refine r_goto h 34 dX1_isOf_132 rfl ?_
    refine r_ck (fun hk1 => ?_)
    exact r_lv [1, 2, 3, 4, 0] rfl (hlp34 _ x1 x2 x3 (x4 + 1) hx1 hx2 hx3 hk1)
  · refine r_iconst h dX1_isOf_127 ?_
    exact zm_zret h hc rfl (by decide) dX1_isOf_128
def m_isOf_71 (lp34 : MEM → Int → Int → Int → Int → Option zm_O) : Nat → MEM → Int → Int → Int → Int → Int → Int → Option zm_O
  | 0, _, _, _, _, _, _, _ => none
  | n + 1, σ, x1, x2, x3, x4, x5, x6 => if x3 ≤ x6 then (m_isOf_122 lp34 σ x1 x2 x3 x4 x5) else (if x5 = 0 then (m_isOf_122 lp34 σ x1 x2 x3 x4 x5) else (ck (0 ≤ x4 ∧ x4 < 12800) (ck (0 ≤ ((σ 47 x4) + x6) ∧ ((σ 47 x4) + x6) < 12000) (ck (0 ≤ (x2 + x6) ∧ (x2 + x6) < 4000) (if (σ 11 ((σ 47 x4) + x6)) = (σ 21 (x2 + x6)) then (ck (inR (x6 + 1)) (m_isOf_71 lp34 n σ x1 x2 x3 x4 1 (x6 + 1))) else (ck (inR (x6 + 1)) (m_isOf_71 lp34 n σ x1 x2 x3 x4 0 (x6 + 1))))))))
theorem w_isOf_71 {C : zv_Cx zm_O} {G : zm_G} (h : zv_Ok C cX1_isOf RX1) (hc : zm_C C G 7 (Option.some FieldType.boolean) 3 4 89) (lp34 : MEM → Int → Int → Int → Int → Option zm_O) (hlp34 : ∀ (σ : MEM) (x1 x2 x3 x4 : Int), inR x1 → inR x2 → inR x3 → inR x4 → VV C (lp34 σ x1 x2 x3 x4) σ [(0, .ref (zm_h G)), (1, iv x1), (2, iv x2), (3, iv x3), (4, iv x4)] [] 34) : ∀ (n : Nat) (σ : MEM) (x1 x2 x3 x4 x5 x6 : Int), inR x1 → inR x2 → inR x3 → inR x4 → isB x5 → inR x6 → VV C (m_isOf_71 lp34 n σ x1 x2 x3 x4 x5 x6) σ [(0, .ref (zm_h G)), (1, iv x1), (2, iv x2), (3, iv x3), (4, iv x4), (5, iv x5), (6, iv x6)] [] 71 := by
  have hN : ∀ i, i < 7 → i < zv_n C := fun i q => by rw [hc.2.2.1]; exact q
  intro n
  induction n with
  | zero => intros; exact r_none
  | succ n ih =>
    intro σ x1 x2 x3 x4 x5 x6 hx1 hx2 hx3 hx4 hx5 hx6
    rw [m_isOf_71]
    refine r_iload h 6 dX1_isOf_71 rfl ?_
    refine r_iload_n h 3 dX1_isOf_73 rfl rfl ?_
    refine r_icmp_ge h hx6 hx3 122 dX1_isOf_74 rfl ?_ ?_
    · exact r_lv [0, 1, 2, 3, 4, 5] rfl (w_isOf_122 h hc lp34 hlp34 _ x1 x2 x3 x4 x5 hx1 hx2 hx3 hx4 hx5)
    · refine r_iload h 5 dX1_isOf_77 rfl ?_
      refine r_if_eq h hx5.r 122 dX1_isOf_79 rfl ?_ ?_
      · exact r_lv [0, 1, 2, 3, 4, 5] rfl (w_isOf_122 h hc lp34 hlp34 _ x1 x2 x3 x4 x5 hx1 hx2 hx3 hx4 hx5)
      · refine r_aload_n h 0 dX1_isOf_82 rfl rfl ?_
        refine zm_getA h hc 11 (by decide) rfl q1491 rfl dX1_isOf_83 ?_
        refine r_aload_n h 0 dX1_isOf_86 rfl rfl ?_
        refine zm_getA h hc 47 (by decide) rfl q1527 rfl dX1_isOf_87 ?_
        refine r_iload h 4 dX1_isOf_90 rfl ?_
        refine zm_ldI h hc 47 47 12800 (by decide) rfl rfl rfl (by decide) dX1_isOf_92 (fun _ hr1 => ?_)
        refine r_iload h 6 dX1_isOf_93 rfl ?_
        refine r_iadd h dX1_isOf_95 ?_
        refine zm_ldB h hc 11 11 12000 (by decide) rfl rfl rfl (by decide) dX1_isOf_96 (fun _ hr2 => ?_)
        refine r_aload_n h 0 dX1_isOf_97 rfl rfl ?_
        refine zm_getA h hc 21 (by decide) rfl q1501 rfl dX1_isOf_98 ?_
        refine r_iload_n h 2 dX1_isOf_101 rfl rfl ?_
        refine r_iload h 6 dX1_isOf_102 rfl ?_
        refine r_iadd h dX1_isOf_104 ?_
        refine zm_ldB h hc 21 21 4000 (by decide) rfl rfl rfl (by decide) dX1_isOf_105 (fun _ hr3 => ?_)
        refine r_icmp_ne h hr2.r hr3.r 113 dX1_isOf_106 rfl ?_ ?_
        · refine r_iconst h dX1_isOf_109 ?_
          refine r_goto h 114 dX1_isOf_110 rfl ?_
          refine r_istore (lv' := [(5, iv 1), (0, .ref (zm_h G)), (1, iv x1), (2, iv x2), (3, iv x3), (4, iv x4), (6, iv x6)]) h dX1_isOf_114 (hN _ (by decide)) rfl ?_
          refine r_iinc (lv' := [(6, iv (x6 + 1)), (5, iv 1), (0, .ref (zm_h G)), (1, iv x1), (2, iv x2), (3, iv x3), (4, iv x4)]) h 6 dX1_isOf_116 rfl (hN _ (by decide)) rfl ?_
          refine r_goto h 71 dX1_isOf_119 rfl ?_
          refine r_ck (fun hk4 => ?_)
          exact r_lv [2, 3, 4, 5, 6, 1, 0] rfl (ih _ x1 x2 x3 x4 1 (x6 + 1) hx1 hx2 hx3 hx4 (by decide) hk4)
        · refine r_iconst h dX1_isOf_113 ?_
          refine r_istore (lv' := [(5, iv 0), (0, .ref (zm_h G)), (1, iv x1), (2, iv x2), (3, iv x3), (4, iv x4), (6, iv x6)]) h dX1_isOf_114 (hN _ (by decide)) rfl ?_
          refine r_iinc (lv' := [(6, iv (x6 + 1)), (5, iv 0), (0, .ref (zm_h G)), (1, iv x1), (2, iv x2), (3, iv x3), (4, iv x4)]) h 6 dX1_isOf_116 rfl (hN _ (by decide)) rfl ?_
          refine r_goto h 71 dX1_isOf_119 rfl ?_
          refine r_ck (fun hk5 => ?_)
          exact r_lv [2, 3, 4, 5, 6, 1, 0] rfl (ih _ x1 x2 x3 x4 0 (x6 + 1) hx1 hx2 hx3 hx4 (by decide) hk5)
def m_isOf_34 : Nat → MEM → Int → Int → Int → Int → Option zm_O
  | 0, _, _, _, _, _ => none
  | n + 1, σ, x1, x2, x3, x4 => ck (0 ≤ x1 ∧ x1 < 1600) (ck (inR ((8 * x1) + (σ 46 x1))) (if ((8 * x1) + (σ 46 x1)) ≤ x4 then (some (0, σ)) else (ck (0 ≤ x4 ∧ x4 < 12800) (if (σ 48 x4) = x3 then (m_isOf_71 (m_isOf_34 n) zF σ x1 x2 x3 x4 1 0) else (m_isOf_71 (m_isOf_34 n) zF σ x1 x2 x3 x4 0 0)))))
theorem w_isOf_34 {C : zv_Cx zm_O} {G : zm_G} (h : zv_Ok C cX1_isOf RX1) (hc : zm_C C G 7 (Option.some FieldType.boolean) 3 4 89) : ∀ (n : Nat) (σ : MEM) (x1 x2 x3 x4 : Int), inR x1 → inR x2 → inR x3 → inR x4 → VV C (m_isOf_34 n σ x1 x2 x3 x4) σ [(0, .ref (zm_h G)), (1, iv x1), (2, iv x2), (3, iv x3), (4, iv x4)] [] 34 := by
  have hN : ∀ i, i < 7 → i < zv_n C := fun i q => by rw [hc.2.2.1]; exact q
  intro n
  induction n with
  | zero => intros; exact r_none
  | succ n ih =>
    intro σ x1 x2 x3 x4 hx1 hx2 hx3 hx4
    rw [m_isOf_34]
    refine r_iload h 4 dX1_isOf_34 rfl ?_
    refine r_bipush h dX1_isOf_36 (by decide) ?_
    refine r_iload_n h 1 dX1_isOf_38 rfl rfl ?_
    refine r_imul h dX1_isOf_39 ?_
    refine r_aload_n h 0 dX1_isOf_40 rfl rfl ?_
    refine zm_getA h hc 46 (by decide) rfl q1526 rfl dX1_isOf_41 ?_
    refine r_iload_n h 1 dX1_isOf_44 rfl rfl ?_
    refine zm_ldI h hc 46 46 1600 (by decide) rfl rfl rfl (by decide) dX1_isOf_45 (fun _ hr1 => ?_)
    refine r_iadd h dX1_isOf_46 ?_
    refine r_ck (fun hk2 => ?_)
    refine r_icmp_ge h hx4 hk2 135 dX1_isOf_47 rfl ?_ ?_
    · refine r_iconst h dX1_isOf_135 ?_
      exact zm_zret h hc rfl (by decide) dX1_isOf_136
    · refine r_aload_n h 0 dX1_isOf_50 rfl rfl ?_
      refine zm_getA h hc 48 (by decide) rfl q1528 rfl dX1_isOf_51 ?_
      refine r_iload h 4 dX1_isOf_54 rfl ?_
      refine zm_ldI h hc 48 48 12800 (by decide) rfl rfl rfl (by decide) dX1_isOf_56 (fun _ hr3 => ?_)
      refine r_iload_n h 3 dX1_isOf_57 rfl rfl ?_
      refine r_icmp_ne h hr3 hx3 65 dX1_isOf_58 rfl ?_ ?_
      · refine r_iconst h dX1_isOf_61 ?_
        refine r_goto h 66 dX1_isOf_62 rfl ?_
        refine r_istore (lv' := [(5, iv 1), (0, .ref (zm_h G)), (1, iv x1), (2, iv x2), (3, iv x3), (4, iv x4)]) h dX1_isOf_66 (hN _ (by decide)) rfl ?_
        refine r_iconst h dX1_isOf_68 ?_
        refine r_istore (lv' := [(6, iv 0), (5, iv 1), (0, .ref (zm_h G)), (1, iv x1), (2, iv x2), (3, iv x3), (4, iv x4)]) h dX1_isOf_69 (hN _ (by decide)) rfl ?_
        exact r_lv [2, 3, 4, 5, 6, 1, 0] rfl (w_isOf_71 h hc (m_isOf_34 n) ih zF _ x1 x2 x3 x4 1 0 hx1 hx2 hx3 hx4 (by decide) (by decide))
      · refine r_iconst h dX1_isOf_65 ?_
        refine r_istore (lv' := [(5, iv 0), (0, .ref (zm_h G)), (1, iv x1), (2, iv x2), (3, iv x3), (4, iv x4)]) h dX1_isOf_66 (hN _ (by decide)) rfl ?_
        refine r_iconst h dX1_isOf_68 ?_
        refine r_istore (lv' := [(6, iv 0), (5, iv 0), (0, .ref (zm_h G)), (1, iv x1), (2, iv x2), (3, iv x3), (4, iv x4)]) h dX1_isOf_69 (hN _ (by decide)) rfl ?_
        exact r_lv [2, 3, 4, 5, 6, 1, 0] rfl (w_isOf_71 h hc (m_isOf_34 n) ih zF _ x1 x2 x3 x4 0 0 hx1 hx2 hx3 hx4 (by decide) (by decide))
def m_isOf (σ : MEM) (a0 a1 a2 : Int) : Option zm_O := ck (0 ≤ a0 ∧ a0 < 1600) (if (σ 42 a0) = 0 then (some (1, σ)) else (ck (0 ≤ a0 ∧ a0 < 1600) (if (σ 42 a0) = 1 then (bd (m_isName σ a1 a2) (fun r3 σ4 => some (r3, σ4))) else (ck (inR (8 * a0)) (m_isOf_34 zF σ a0 a1 a2 (8 * a0))))))
theorem w_isOf {G : zm_G} (hD : zm_D G) (σ : MEM) (a0 a1 a2 : Int) (ha0 : inR a0) (ha1 : inR a1) (ha2 : inR a2) (o : zm_O) (hd : m_isOf σ a0 a1 a2 = some o) : zm_Met G yX1_isOf cX1_isOf 7 (Option.some FieldType.boolean) 3 4 89 σ [.ref (zm_h G), iv a0, iv a1, iv a2] o := by
  refine zm_intro hD hd (by decide) rfl (Nat.le_of_ble_eq_true rfl) rfl (fun C h hc => ?_)
  have hN : ∀ i, i < 7 → i < zv_n C := fun i q => by rw [hc.2.2.1]; exact q
  unfold m_isOf
  refine r_aload_n h 0 dX1_isOf_0 rfl rfl ?_
  refine zm_getA h hc 42 (by decide) rfl q1522 rfl dX1_isOf_1 ?_
  refine r_iload_n h 1 dX1_isOf_4 rfl rfl ?_
  refine zm_ldI h hc 42 42 1600 (by decide) rfl rfl rfl (by decide) dX1_isOf_5 (fun _ hr1 => ?_)
  refine r_if_ne h hr1 11 dX1_isOf_6 rfl ?_ ?_
  · refine r_iconst h dX1_isOf_9 ?_
    exact zm_zret h hc rfl (by decide) dX1_isOf_10
  · refine r_aload_n h 0 dX1_isOf_11 rfl rfl ?_
    refine zm_getA h hc 42 (by decide) rfl q1522 rfl dX1_isOf_12 ?_
    refine r_iload_n h 1 dX1_isOf_15 rfl rfl ?_
    refine zm_ldI h hc 42 42 1600 (by decide) rfl rfl rfl (by decide) dX1_isOf_16 (fun _ hr2 => ?_)
    refine r_iconst h dX1_isOf_17 ?_
    refine r_icmp_ne h hr2 (by decide) 28 dX1_isOf_18 rfl ?_ ?_
    · refine r_aload_n h 0 dX1_isOf_21 rfl rfl ?_
      refine r_iload_n h 2 dX1_isOf_22 rfl rfl ?_
      refine r_iload_n h 3 dX1_isOf_23 rfl rfl ?_
      refine zm_cVz h hc (n := 2) (As := [iv a1, iv a2]) (fun o1 e1 => w_isName hc.1 _ a1 a2 ha1 ha2 o1 e1) q2027 q2029 qs101 q136 q2030 (by decide +kernel) ⟨by decide, by decide⟩ rfl (Nat.le_of_ble_eq_true rfl) rfl dX1_isOf_24 (fun r3 σ4 hr5 => ?_)
      exact zm_zret h hc rfl hr5 dX1_isOf_27
    · refine r_bipush h dX1_isOf_28 (by decide) ?_
      refine r_iload_n h 1 dX1_isOf_30 rfl rfl ?_
      refine r_imul h dX1_isOf_31 ?_
      refine r_istore (lv' := [(4, iv (8 * a0)), (0, .ref (zm_h G)), (1, iv a0), (2, iv a1), (3, iv a2)]) h dX1_isOf_32 (hN _ (by decide)) rfl ?_
      refine r_ck (fun hk6 => ?_)
      exact r_lv [1, 2, 3, 4, 0] rfl (w_isOf_34 h hc zF _ a0 a1 a2 (8 * a0) ha0 ha1 ha2 hk6)
theorem dX1_judgeRule_0 : decode cX1_judgeRule 0 = .ok (.sipush 800, 3) := by decide +kernel
theorem dX1_judgeRule_3 : decode cX1_judgeRule 3 = .ok (.aload_n 0, 1) := by decide +kernel
theorem dX1_judgeRule_4 : decode cX1_judgeRule 4 = .ok (.getfield 482, 3) := by decide +kernel
theorem dX1_judgeRule_7 : decode cX1_judgeRule 7 = .ok (.imul, 1) := by decide +kernel
theorem dX1_judgeRule_8 : decode cX1_judgeRule 8 = .ok (.iload_n 1, 1) := by decide +kernel
theorem dX1_judgeRule_9 : decode cX1_judgeRule 9 = .ok (.iadd, 1) := by decide +kernel
theorem dX1_judgeRule_10 : decode cX1_judgeRule 10 = .ok (.istore_n 2, 1) := by decide +kernel
theorem dX1_judgeRule_11 : decode cX1_judgeRule 11 = .ok (.iconst 0, 1) := by decide +kernel
theorem dX1_judgeRule_12 : decode cX1_judgeRule 12 = .ok (.istore_n 3, 1) := by decide +kernel
theorem dX1_judgeRule_13 : decode cX1_judgeRule 13 = .ok (.sipush 800, 3) := by decide +kernel
theorem dX1_judgeRule_16 : decode cX1_judgeRule 16 = .ok (.aload_n 0, 1) := by decide +kernel
theorem dX1_judgeRule_17 : decode cX1_judgeRule 17 = .ok (.getfield 482, 3) := by decide +kernel
theorem dX1_judgeRule_20 : decode cX1_judgeRule 20 = .ok (.imul, 1) := by decide +kernel
theorem dX1_judgeRule_21 : decode cX1_judgeRule 21 = .ok (.istore 4, 2) := by decide +kernel
theorem dX1_judgeRule_23 : decode cX1_judgeRule 23 = .ok (.iload 4, 2) := by decide +kernel
theorem dX1_judgeRule_25 : decode cX1_judgeRule 25 = .ok (.iload_n 2, 1) := by decide +kernel
theorem dX1_judgeRule_26 : decode cX1_judgeRule 26 = .ok (.if_icmp .ge 63, 3) := by decide +kernel
theorem dX1_judgeRule_29 : decode cX1_judgeRule 29 = .ok (.iload_n 3, 1) := by decide +kernel
theorem dX1_judgeRule_30 : decode cX1_judgeRule 30 = .ok (.ifCond .ne 47, 3) := by decide +kernel
theorem dX1_judgeRule_33 : decode cX1_judgeRule 33 = .ok (.aload_n 0, 1) := by decide +kernel
theorem dX1_judgeRule_34 : decode cX1_judgeRule 34 = .ok (.getfield 119, 3) := by decide +kernel
theorem dX1_judgeRule_37 : decode cX1_judgeRule 37 = .ok (.iload 4, 2) := by decide +kernel
theorem dX1_judgeRule_39 : decode cX1_judgeRule 39 = .ok (.iaload, 1) := by decide +kernel
theorem dX1_judgeRule_40 : decode cX1_judgeRule 40 = .ok (.iconst 1, 1) := by decide +kernel
theorem dX1_judgeRule_41 : decode cX1_judgeRule 41 = .ok (.if_icmp .ne 40, 3) := by decide +kernel
theorem dX1_judgeRule_44 : decode cX1_judgeRule 44 = .ok (.aload_n 0, 1) := by decide +kernel
theorem dX1_judgeRule_45 : decode cX1_judgeRule 45 = .ok (.aload_n 0, 1) := by decide +kernel
theorem dX1_judgeRule_46 : decode cX1_judgeRule 46 = .ok (.getfield 107, 3) := by decide +kernel
theorem dX1_judgeRule_49 : decode cX1_judgeRule 49 = .ok (.iload 4, 2) := by decide +kernel
theorem dX1_judgeRule_51 : decode cX1_judgeRule 51 = .ok (.iaload, 1) := by decide +kernel
theorem dX1_judgeRule_52 : decode cX1_judgeRule 52 = .ok (.aload_n 0, 1) := by decide +kernel
theorem dX1_judgeRule_53 : decode cX1_judgeRule 53 = .ok (.getfield 110, 3) := by decide +kernel
theorem dX1_judgeRule_56 : decode cX1_judgeRule 56 = .ok (.iload 4, 2) := by decide +kernel
theorem dX1_judgeRule_58 : decode cX1_judgeRule 58 = .ok (.iaload, 1) := by decide +kernel
theorem dX1_judgeRule_59 : decode cX1_judgeRule 59 = .ok (.aload_n 0, 1) := by decide +kernel
theorem dX1_judgeRule_60 : decode cX1_judgeRule 60 = .ok (.getfield 107, 3) := by decide +kernel
theorem dX1_judgeRule_63 : decode cX1_judgeRule 63 = .ok (.iload_n 2, 1) := by decide +kernel
theorem dX1_judgeRule_64 : decode cX1_judgeRule 64 = .ok (.iaload, 1) := by decide +kernel
theorem dX1_judgeRule_65 : decode cX1_judgeRule 65 = .ok (.aload_n 0, 1) := by decide +kernel
theorem dX1_judgeRule_66 : decode cX1_judgeRule 66 = .ok (.getfield 110, 3) := by decide +kernel
theorem dX1_judgeRule_69 : decode cX1_judgeRule 69 = .ok (.iload_n 2, 1) := by decide +kernel
theorem dX1_judgeRule_70 : decode cX1_judgeRule 70 = .ok (.iaload, 1) := by decide +kernel
theorem dX1_judgeRule_71 : decode cX1_judgeRule 71 = .ok (.invokevirtual 412, 3) := by decide +kernel
theorem dX1_judgeRule_74 : decode cX1_judgeRule 74 = .ok (.ifCond .eq 7, 3) := by decide +kernel
theorem dX1_judgeRule_77 : decode cX1_judgeRule 77 = .ok (.iconst 1, 1) := by decide +kernel
theorem dX1_judgeRule_78 : decode cX1_judgeRule 78 = .ok (.goto 4, 3) := by decide +kernel
theorem dX1_judgeRule_81 : decode cX1_judgeRule 81 = .ok (.iconst 0, 1) := by decide +kernel
theorem dX1_judgeRule_82 : decode cX1_judgeRule 82 = .ok (.istore_n 3, 1) := by decide +kernel
theorem dX1_judgeRule_83 : decode cX1_judgeRule 83 = .ok (.iinc 4 1, 3) := by decide +kernel
theorem dX1_judgeRule_86 : decode cX1_judgeRule 86 = .ok (.goto (-63), 3) := by decide +kernel
theorem dX1_judgeRule_89 : decode cX1_judgeRule 89 = .ok (.aload_n 0, 1) := by decide +kernel
theorem dX1_judgeRule_90 : decode cX1_judgeRule 90 = .ok (.getfield 119, 3) := by decide +kernel
theorem dX1_judgeRule_93 : decode cX1_judgeRule 93 = .ok (.iload_n 2, 1) := by decide +kernel
theorem dX1_judgeRule_94 : decode cX1_judgeRule 94 = .ok (.iaload, 1) := by decide +kernel
theorem dX1_judgeRule_95 : decode cX1_judgeRule 95 = .ok (.iconst 1, 1) := by decide +kernel
theorem dX1_judgeRule_96 : decode cX1_judgeRule 96 = .ok (.if_icmp .ne 23, 3) := by decide +kernel
theorem dX1_judgeRule_99 : decode cX1_judgeRule 99 = .ok (.iload_n 3, 1) := by decide +kernel
theorem dX1_judgeRule_100 : decode cX1_judgeRule 100 = .ok (.ifCond .ne 13, 3) := by decide +kernel
theorem dX1_judgeRule_103 : decode cX1_judgeRule 103 = .ok (.aload_n 0, 1) := by decide +kernel
theorem dX1_judgeRule_104 : decode cX1_judgeRule 104 = .ok (.getfield 122, 3) := by decide +kernel
theorem dX1_judgeRule_107 : decode cX1_judgeRule 107 = .ok (.iload_n 2, 1) := by decide +kernel
theorem dX1_judgeRule_108 : decode cX1_judgeRule 108 = .ok (.iaload, 1) := by decide +kernel
theorem dX1_judgeRule_109 : decode cX1_judgeRule 109 = .ok (.iconst 2, 1) := by decide +kernel
theorem dX1_judgeRule_110 : decode cX1_judgeRule 110 = .ok (.if_icmp .lt 9, 3) := by decide +kernel
theorem dX1_judgeRule_113 : decode cX1_judgeRule 113 = .ok (.aload_n 0, 1) := by decide +kernel
theorem dX1_judgeRule_114 : decode cX1_judgeRule 114 = .ok (.iconst 4, 1) := by decide +kernel
theorem dX1_judgeRule_115 : decode cX1_judgeRule 115 = .ok (.iload_n 1, 1) := by decide +kernel
theorem dX1_judgeRule_116 : decode cX1_judgeRule 116 = .ok (.invokevirtual 519, 3) := by decide +kernel
theorem dX1_judgeRule_119 : decode cX1_judgeRule 119 = .ok (.aload_n 0, 1) := by decide +kernel
theorem dX1_judgeRule_120 : decode cX1_judgeRule 120 = .ok (.getfield 122, 3) := by decide +kernel
theorem dX1_judgeRule_123 : decode cX1_judgeRule 123 = .ok (.iload_n 2, 1) := by decide +kernel
theorem dX1_judgeRule_124 : decode cX1_judgeRule 124 = .ok (.iaload, 1) := by decide +kernel
theorem dX1_judgeRule_125 : decode cX1_judgeRule 125 = .ok (.iconst 2, 1) := by decide +kernel
theorem dX1_judgeRule_126 : decode cX1_judgeRule 126 = .ok (.if_icmp .lt 29, 3) := by decide +kernel
theorem dX1_judgeRule_129 : decode cX1_judgeRule 129 = .ok (.aload_n 0, 1) := by decide +kernel
theorem dX1_judgeRule_130 : decode cX1_judgeRule 130 = .ok (.iload_n 2, 1) := by decide +kernel
theorem dX1_judgeRule_131 : decode cX1_judgeRule 131 = .ok (.aload_n 0, 1) := by decide +kernel
theorem dX1_judgeRule_132 : decode cX1_judgeRule 132 = .ok (.getfield 125, 3) := by decide +kernel
theorem dX1_judgeRule_135 : decode cX1_judgeRule 135 = .ok (.iload_n 2, 1) := by decide +kernel
theorem dX1_judgeRule_136 : decode cX1_judgeRule 136 = .ok (.iaload, 1) := by decide +kernel
theorem dX1_judgeRule_137 : decode cX1_judgeRule 137 = .ok (.aload_n 0, 1) := by decide +kernel
theorem dX1_judgeRule_138 : decode cX1_judgeRule 138 = .ok (.getfield 128, 3) := by decide +kernel
theorem dX1_judgeRule_141 : decode cX1_judgeRule 141 = .ok (.iload_n 2, 1) := by decide +kernel
theorem dX1_judgeRule_142 : decode cX1_judgeRule 142 = .ok (.iaload, 1) := by decide +kernel
theorem dX1_judgeRule_143 : decode cX1_judgeRule 143 = .ok (.invokevirtual 534, 3) := by decide +kernel
theorem dX1_judgeRule_146 : decode cX1_judgeRule 146 = .ok (.ifCond .ne 9, 3) := by decide +kernel
theorem dX1_judgeRule_149 : decode cX1_judgeRule 149 = .ok (.aload_n 0, 1) := by decide +kernel
theorem dX1_judgeRule_150 : decode cX1_judgeRule 150 = .ok (.iconst 5, 1) := by decide +kernel
theorem dX1_judgeRule_151 : decode cX1_judgeRule 151 = .ok (.iload_n 1, 1) := by decide +kernel
theorem dX1_judgeRule_152 : decode cX1_judgeRule 152 = .ok (.invokevirtual 519, 3) := by decide +kernel
theorem dX1_judgeRule_155 : decode cX1_judgeRule 155 = .ok (.return_, 1) := by decide +kernel
def m_judgeRule_119 (σ : MEM) (x1 x2 : Int) : Option zm_O := ck (0 ≤ x2 ∧ x2 < 1600) (if (σ 43 x2) < 2 then (some (0, σ)) else (ck (0 ≤ x2 ∧ x2 < 1600) (ck (0 ≤ x2 ∧ x2 < 1600) (bd (m_isOf σ x2 (σ 44 x2) (σ 45 x2)) (fun r4 σ5 => if r4 = 0 then (bd (m_tellFinding σ5 5 x1) (fun _ σ7 => some (0, σ7))) else (some (0, σ5)))))))
theorem w_judgeRule_119 {C : zv_Cx zm_O} {G : zm_G} (h : zv_Ok C cX1_judgeRule RX1) (hc : zm_C C G 5 (Option.none : Option FieldType) 0 5 115) (σ : MEM) (x1 x2 : Int) (hx1 : inR x1) (hx2 : inR x2) : VV C (m_judgeRule_119 σ x1 x2) σ [(0, .ref (zm_h G)), (1, iv x1), (2, iv x2)] [] 119 := by
  have hN : ∀ i, i < 5 → i < zv_n C := fun i q => by rw [hc.2.2.1]; exact q
  unfold m_judgeRule_119
  refine r_aload_n h 0 dX1_judgeRule_119 rfl rfl ?_
  refine zm_getA h hc 43 (by decide) rfl q1523 rfl dX1_judgeRule_120 ?_
  refine r_iload_n h 2 dX1_judgeRule_123 rfl rfl ?_
  refine zm_ldI h hc 43 43 1600 (by decide) rfl rfl rfl (by decide) dX1_judgeRule_124 (fun _ hr1 => ?_)
  refine r_iconst h dX1_judgeRule_125 ?_
  refine r_icmp_lt h hr1 (by decide) 155 dX1_judgeRule_126 rfl ?_ ?_
  · exact zm_vret h hc rfl dX1_judgeRule_155
  · refine r_aload_n h 0 dX1_judgeRule_129 rfl rfl ?_
    refine r_iload_n h 2 dX1_judgeRule_130 rfl rfl ?_
    refine r_aload_n h 0 dX1_judgeRule_131 rfl rfl ?_
    refine zm_getA h hc 44 (by decide) rfl q1524 rfl dX1_judgeRule_132 ?_
    refine r_iload_n h 2 dX1_judgeRule_135 rfl rfl ?_
    refine zm_ldI h hc 44 44 1600 (by decide) rfl rfl rfl (by decide) dX1_judgeRule_136 (fun _ hr2 => ?_)
    refine r_aload_n h 0 dX1_judgeRule_137 rfl rfl ?_
    refine zm_getA h hc 45 (by decide) rfl q1525 rfl dX1_judgeRule_138 ?_
    refine r_iload_n h 2 dX1_judgeRule_141 rfl rfl ?_
    refine zm_ldI h hc 45 45 1600 (by decide) rfl rfl rfl (by decide) dX1_judgeRule_142 (fun _ hr3 => ?_)
    refine zm_cVz h hc (n := 3) (As := [iv x2, iv (σ 44 x2), iv (σ 45 x2)]) (fun o1 e1 => w_isOf hc.1 _ x2 (σ 44 x2) (σ 45 x2) hx2 hr2 hr3 o1 e1) q2023 q2025 qs100 q136 q2026 (by decide +kernel) ⟨by decide, by decide⟩ rfl (Nat.le_of_ble_eq_true rfl) rfl dX1_judgeRule_143 (fun r4 σ5 hr6 => ?_)
    refine r_if_ne h hr6.r 155 dX1_judgeRule_146 rfl ?_ ?_
    · refine r_aload_n h 0 dX1_judgeRule_149 rfl rfl ?_
      refine r_iconst h dX1_judgeRule_150 ?_
      refine r_iload_n h 1 dX1_judgeRule_151 rfl rfl ?_
      refine zm_cVv h hc (n := 2) (As := [iv 5, iv x1]) (fun o1 e1 => w_tellFinding hc.1 _ 5 x1 (by decide) hx1 o1 e1) q2006 q2008 qs96 q136 q2009 (by decide +kernel) ⟨by decide, by decide⟩ rfl (Nat.le_of_ble_eq_true rfl) rfl dX1_judgeRule_152 (fun σ7  => ?_)
      exact zm_vret h hc rfl dX1_judgeRule_155
    · exact zm_vret h hc rfl dX1_judgeRule_155
def m_judgeRule_113 (σ : MEM) (x1 x2 : Int) : Option zm_O := bd (m_tellFinding σ 4 x1) (fun _ σ1 => m_judgeRule_119 σ1 x1 x2)
theorem w_judgeRule_113 {C : zv_Cx zm_O} {G : zm_G} (h : zv_Ok C cX1_judgeRule RX1) (hc : zm_C C G 5 (Option.none : Option FieldType) 0 5 115) (σ : MEM) (x1 x2 : Int) (hx1 : inR x1) (hx2 : inR x2) : VV C (m_judgeRule_113 σ x1 x2) σ [(0, .ref (zm_h G)), (1, iv x1), (2, iv x2)] [] 113 := by
  have hN : ∀ i, i < 5 → i < zv_n C := fun i q => by rw [hc.2.2.1]; exact q
  unfold m_judgeRule_113
  refine r_aload_n h 0 dX1_judgeRule_113 rfl rfl ?_
  refine r_iconst h dX1_judgeRule_114 ?_
  refine r_iload_n h 1 dX1_judgeRule_115 rfl rfl ?_
  refine zm_cVv h hc (n := 2) (As := [iv 4, iv x1]) (fun o1 e1 => w_tellFinding hc.1 _ 4 x1 (by decide) hx1 o1 e1) q2006 q2008 qs96 q136 q2009 (by decide +kernel) ⟨by decide, by decide⟩ rfl (Nat.le_of_ble_eq_true rfl) rfl dX1_judgeRule_116 (fun σ1  => ?_)
  exact r_lv [0, 1, 2] rfl (w_judgeRule_119 h hc _ x1 x2 hx1 hx2)
def m_judgeRule_23 : Nat → MEM → Int → Int → Int → Int → Option zm_O
  | 0, _, _, _, _, _ => none
  | n + 1, σ, x1, x2, x3, x4 => if x2 ≤ x4 then (ck (0 ≤ x2 ∧ x2 < 1600) (if (σ 42 x2) = 1 then (if x3 = 0 then (ck (0 ≤ x2 ∧ x2 < 1600) (if (σ 43 x2) < 2 then (m_judgeRule_119 σ x1 x2) else (m_judgeRule_113 σ x1 x2))) else (m_judgeRule_113 σ x1 x2)) else (m_judgeRule_119 σ x1 x2))) else (if x3 = 0 then (ck (0 ≤ x4 ∧ x4 < 1600) (if (σ 42 x4) = 1 then (ck (0 ≤ x4 ∧ x4 < 1600) (ck (0 ≤ x4 ∧ x4 < 1600) (ck (0 ≤ x2 ∧ x2 < 1600) (ck (0 ≤ x2 ∧ x2 < 1600) (bd (m_isSame σ (σ 38 x4) (σ 39 x4) (σ 38 x2) (σ 39 x2)) (fun r8 σ9 => if r8 = 0 then (ck (inR (x4 + 1)) (m_judgeRule_23 n σ9 x1 x2 0 (x4 + 1))) else (ck (inR (x4 + 1)) (m_judgeRule_23 n σ9 x1 x2 1 (x4 + 1))))))))) else (ck (inR (x4 + 1)) (m_judgeRule_23 n σ x1 x2 0 (x4 + 1))))) else (ck (inR (x4 + 1)) (m_judgeRule_23 n σ x1 x2 1 (x4 + 1))))
theorem w_judgeRule_23 {C : zv_Cx zm_O} {G : zm_G} (h : zv_Ok C cX1_judgeRule RX1) (hc : zm_C C G 5 (Option.none : Option FieldType) 0 5 115) : ∀ (n : Nat) (σ : MEM) (x1 x2 x3 x4 : Int), inR x1 → inR x2 → isB x3 → inR x4 → VV C (m_judgeRule_23 n σ x1 x2 x3 x4) σ [(0, .ref (zm_h G)), (1, iv x1), (2, iv x2), (3, iv x3), (4, iv x4)] [] 23 := by
  have hN : ∀ i, i < 5 → i < zv_n C := fun i q => by rw [hc.2.2.1]; exact q
  intro n
  induction n with
  | zero => intros; exact r_none
  | succ n ih =>
    intro σ x1 x2 x3 x4 hx1 hx2 hx3 hx4
    rw [m_judgeRule_23]
    refine r_iload h 4 dX1_judgeRule_23 rfl ?_
    refine r_iload_n h 2 dX1_judgeRule_25 rfl rfl ?_
    refine r_icmp_ge h hx4 hx2 89 dX1_judgeRule_26 rfl ?_ ?_
    · refine r_aload_n h 0 dX1_judgeRule_89 rfl rfl ?_
      refine zm_getA h hc 42 (by decide) rfl q1522 rfl dX1_judgeRule_90 ?_
      refine r_iload_n h 2 dX1_judgeRule_93 rfl rfl ?_
      refine zm_ldI h hc 42 42 1600 (by decide) rfl rfl rfl (by decide) dX1_judgeRule_94 (fun _ hr1 => ?_)
      refine r_iconst h dX1_judgeRule_95 ?_
      refine r_icmp_ne h hr1 (by decide) 119 dX1_judgeRule_96 rfl ?_ ?_
      · refine r_iload_n h 3 dX1_judgeRule_99 rfl rfl ?_
        refine r_if_ne h hx3.r 113 dX1_judgeRule_100 rfl ?_ ?_
        · refine r_aload_n h 0 dX1_judgeRule_103 rfl rfl ?_
          refine zm_getA h hc 43 (by decide) rfl q1523 rfl dX1_judgeRule_104 ?_
          refine r_iload_n h 2 dX1_judgeRule_107 rfl rfl ?_
          refine zm_ldI h hc 43 43 1600 (by decide) rfl rfl rfl (by decide) dX1_judgeRule_108 (fun _ hr2 => ?_)
          refine r_iconst h dX1_judgeRule_109 ?_
          refine r_icmp_lt h hr2 (by decide) 119 dX1_judgeRule_110 rfl ?_ ?_
          · exact r_lv [0, 1, 2] rfl (w_judgeRule_119 h hc _ x1 x2 hx1 hx2)
          · exact r_lv [0, 1, 2] rfl (w_judgeRule_113 h hc _ x1 x2 hx1 hx2)
        · exact r_lv [0, 1, 2] rfl (w_judgeRule_113 h hc _ x1 x2 hx1 hx2)
      · exact r_lv [0, 1, 2] rfl (w_judgeRule_119 h hc _ x1 x2 hx1 hx2)
    · refine r_iload_n h 3 dX1_judgeRule_29 rfl rfl ?_
      refine r_if_ne h hx3.r 77 dX1_judgeRule_30 rfl ?_ ?_
      · refine r_aload_n h 0 dX1_judgeRule_33 rfl rfl ?_
        refine zm_getA h hc 42 (by decide) rfl q1522 rfl dX1_judgeRule_34 ?_
        refine r_iload h 4 dX1_judgeRule_37 rfl ?_
        refine zm_ldI h hc 42 42 1600 (by decide) rfl rfl rfl (by decide) dX1_judgeRule_39 (fun _ hr3 => ?_)
        refine r_iconst h dX1_judgeRule_40 ?_
        refine r_icmp_ne h hr3 (by decide) 81 dX1_judgeRule_41 rfl ?_ ?_
        · refine r_aload_n h 0 dX1_judgeRule_44 rfl rfl ?_
          refine r_aload_n h 0 dX1_judgeRule_45 rfl rfl ?_
          refine zm_getA h hc 38 (by decide) rfl q1518 rfl dX1_judgeRule_46 ?_
          refine r_iload h 4 dX1_judgeRule_49 rfl ?_
          refine zm_ldI h hc 38 38 1600 (by decide) rfl rfl rfl (by decide) dX1_judgeRule_51 (fun _ hr4 => ?_)
          refine r_aload_n h 0 dX1_judgeRule_52 rfl rfl ?_
          refine zm_getA h hc 39 (by decide) rfl q1519 rfl dX1_judgeRule_53 ?_
          refine r_iload h 4 dX1_judgeRule_56 rfl ?_
          refine zm_ldI h hc 39 39 1600 (by decide) rfl rfl rfl (by decide) dX1_judgeRule_58 (fun _ hr5 => ?_)
          refine r_aload_n h 0 dX1_judgeRule_59 rfl rfl ?_
          refine zm_getA h hc 38 (by decide) rfl q1518 rfl dX1_judgeRule_60 ?_
          refine r_iload_n h 2 dX1_judgeRule_63 rfl rfl ?_
          refine zm_ldI h hc 38 38 1600 (by decide) rfl rfl rfl (by decide) dX1_judgeRule_64 (fun _ hr6 => ?_)
          refine r_aload_n h 0 dX1_judgeRule_65 rfl rfl ?_
          refine zm_getA h hc 39 (by decide) rfl q1519 rfl dX1_judgeRule_66 ?_
          refine r_iload_n h 2 dX1_judgeRule_69 rfl rfl ?_
          refine zm_ldI h hc 39 39 1600 (by decide) rfl rfl rfl (by decide) dX1_judgeRule_70 (fun _ hr7 => ?_)
          refine zm_cVz h hc (n := 4) (As := [iv (σ 38 x4), iv (σ 39 x4), iv (σ 38 x2), iv (σ 39 x2)]) (fun o1 e1 => w_isSame hc.1 _ (σ 38 x4) (σ 39 x4) (σ 38 x2) (σ 39 x2) hr4 hr5 hr6 hr7 o1 e1) q1924 q1926 qs79 q136 q1927 (by decide +kernel) ⟨by decide, by decide⟩ rfl (Nat.le_of_ble_eq_true rfl) rfl dX1_judgeRule_71 (fun r8 σ9 hr10 => ?_)
          refine r_if_eq h hr10.r 81 dX1_judgeRule_74 rfl ?_ ?_
          · refine r_iconst h dX1_judgeRule_81 ?_
            refine r_istore_n (lv' := [(3, iv 0), (0, .ref (zm_h G)), (1, iv x1), (2, iv x2), (4, iv x4)]) h dX1_judgeRule_82 rfl (hN _ (by decide)) rfl ?_
            refine r_iinc (lv' := [(4, iv (x4 + 1)), (3, iv 0), (0, .ref (zm_h G)), (1, iv x1), (2, iv x2)]) h 4 dX1_judgeRule_83 rfl (hN _ (by decide)) rfl ?_
            refine r_goto h 23 dX1_judgeRule_86 rfl ?_
            refine r_ck (fun hk11 => ?_)
            exact r_lv [2, 3, 4, 1, 0] rfl (ih _ x1 x2 0 (x4 + 1) hx1 hx2 (by decide) hk11)
          · refine r_iconst h dX1_judgeRule_77 ?_
            refine r_goto h 82 dX1_judgeRule_78 rfl ?_
            refine r_istore_n (lv' := [(3, iv 1), (0, .ref (zm_h G)), (1, iv x1), (2, iv x2), (4, iv x4)]) h dX1_judgeRule_82 rfl (hN _ (by decide)) rfl ?_
            refine r_iinc (lv' := [(4, iv (x4 + 1)), (3, iv 1), (0, .ref (zm_h G)), (1, iv x1), (2, iv x2)]) h 4 dX1_judgeRule_83 rfl (hN _ (by decide)) rfl ?_
            refine r_goto h 23 dX1_judgeRule_86 rfl ?_
            refine r_ck (fun hk12 => ?_)
            exact r_lv [2, 3, 4, 1, 0] rfl (ih _ x1 x2 1 (x4 + 1) hx1 hx2 (by decide) hk12)
        · refine r_iconst h dX1_judgeRule_81 ?_
          refine r_istore_n (lv' := [(3, iv 0), (0, .ref (zm_h G)), (1, iv x1), (2, iv x2), (4, iv x4)]) h dX1_judgeRule_82 rfl (hN _ (by decide)) rfl ?_
          refine r_iinc (lv' := [(4, iv (x4 + 1)), (3, iv 0), (0, .ref (zm_h G)), (1, iv x1), (2, iv x2)]) h 4 dX1_judgeRule_83 rfl (hN _ (by decide)) rfl ?_
          refine r_goto h 23 dX1_judgeRule_86 rfl ?_
          refine r_ck (fun hk13 => ?_)
          exact r_lv [2, 3, 4, 1, 0] rfl (ih _ x1 x2 0 (x4 + 1) hx1 hx2 (by decide) hk13)
      · refine r_iconst h dX1_judgeRule_77 ?_
        refine r_goto h 82 dX1_judgeRule_78 rfl ?_
        refine r_istore_n (lv' := [(3, iv 1), (0, .ref (zm_h G)), (1, iv x1), (2, iv x2), (4, iv x4)]) h dX1_judgeRule_82 rfl (hN _ (by decide)) rfl ?_
        refine r_iinc (lv' := [(4, iv (x4 + 1)), (3, iv 1), (0, .ref (zm_h G)), (1, iv x1), (2, iv x2)]) h 4 dX1_judgeRule_83 rfl (hN _ (by decide)) rfl ?_
        refine r_goto h 23 dX1_judgeRule_86 rfl ?_
        refine r_ck (fun hk14 => ?_)
        exact r_lv [2, 3, 4, 1, 0] rfl (ih _ x1 x2 1 (x4 + 1) hx1 hx2 (by decide) hk14)
def m_judgeRule (σ : MEM) (a0 : Int) : Option zm_O := ck (inR ((800 * (σ (-1) 7)) + a0)) (ck (inR (800 * (σ (-1) 7))) (m_judgeRule_23 zF σ a0 ((800 * (σ (-1) 7)) + a0) 0 (800 * (σ (-1) 7))))
theorem w_judgeRule {G : zm_G} (hD : zm_D G) (σ : MEM) (a0 : Int) (ha0 : inR a0) (o : zm_O) (hd : m_judgeRule σ a0 = some o) : zm_Met G yX1_judgeRule cX1_judgeRule 5 (Option.none : Option FieldType) 0 5 115 σ [.ref (zm_h G), iv a0] o := by
  refine zm_intro hD hd (by decide) rfl (Nat.le_of_ble_eq_true rfl) rfl (fun C h hc => ?_)
  have hN : ∀ i, i < 5 → i < zv_n C := fun i q => by rw [hc.2.2.1]; exact q
  unfold m_judgeRule
  refine r_sipush h dX1_judgeRule_0 (by decide) ?_
  refine r_aload_n h 0 dX1_judgeRule_3 rfl rfl ?_
  refine zm_getI h hc 7 7 (by decide) rfl rfl q1487 rfl dX1_judgeRule_4 (fun hr1 => ?_)
  refine r_imul h dX1_judgeRule_7 ?_
  refine r_iload_n h 1 dX1_judgeRule_8 rfl rfl ?_
  refine r_iadd h dX1_judgeRule_9 ?_
  refine r_istore_n (lv' := [(2, iv ((800 * (σ (-1) 7)) + a0)), (0, .ref (zm_h G)), (1, iv a0)]) h dX1_judgeRule_10 rfl (hN _ (by decide)) rfl ?_
  refine r_iconst h dX1_judgeRule_11 ?_
  refine r_istore_n (lv' := [(3, iv 0), (2, iv ((800 * (σ (-1) 7)) + a0)), (0, .ref (zm_h G)), (1, iv a0)]) h dX1_judgeRule_12 rfl (hN _ (by decide)) rfl ?_
  refine r_sipush h dX1_judgeRule_13 (by decide) ?_
  refine r_aload_n h 2 dX1_judgeRule_16 rfl rfl ?_
  refine zm_getI h hc 7 7 (by decide) rfl rfl q1487 rfl dX1_judgeRule_17 (fun hr2 => ?_)
  refine r_imul h dX1_judgeRule_20 ?_
  refine r_istore (lv' := [(4, iv (800 * (σ (-1) 7))), (3, iv 0), (2, iv ((800 * (σ (-1) 7)) + a0)), (0, .ref (zm_h G)), (1, iv a0)]) h dX1_judgeRule_21 (hN _ (by decide)) rfl ?_
  refine r_ck (fun hk3 => ?_)
  refine r_ck (fun hk4 => ?_)
  exact r_lv [3, 4, 2, 1, 0] rfl (w_judgeRule_23 h hc zF _ a0 ((800 * (σ (-1) 7)) + a0) 0 (800 * (σ (-1) 7)) ha0 hk3 (by decide) hk4)
theorem dX1_named_0 : decode cX1_named 0 = .ok (.lconst 0, 1) := by decide +kernel
theorem dX1_named_1 : decode cX1_named 1 = .ok (.lstore 5, 2) := by decide +kernel
theorem dX1_named_3 : decode cX1_named 3 = .ok (.iconst 0, 1) := by decide +kernel
theorem dX1_named_4 : decode cX1_named 4 = .ok (.istore 7, 2) := by decide +kernel
theorem dX1_named_6 : decode cX1_named 6 = .ok (.iload 7, 2) := by decide +kernel
theorem dX1_named_8 : decode cX1_named 8 = .ok (.aload_n 0, 1) := by decide +kernel
theorem dX1_named_9 : decode cX1_named 9 = .ok (.getfield 82, 3) := by decide +kernel
theorem dX1_named_12 : decode cX1_named 12 = .ok (.iload_n 1, 1) := by decide +kernel
theorem dX1_named_13 : decode cX1_named 13 = .ok (.iaload, 1) := by decide +kernel
theorem dX1_named_14 : decode cX1_named 14 = .ok (.if_icmp .ge 100, 3) := by decide +kernel
theorem dX1_named_17 : decode cX1_named 17 = .ok (.aload_n 0, 1) := by decide +kernel
theorem dX1_named_18 : decode cX1_named 18 = .ok (.aload_n 0, 1) := by decide +kernel
theorem dX1_named_19 : decode cX1_named 19 = .ok (.getfield 85, 3) := by decide +kernel
theorem dX1_named_22 : decode cX1_named 22 = .ok (.bipush 40, 2) := by decide +kernel
theorem dX1_named_24 : decode cX1_named 24 = .ok (.iload_n 1, 1) := by decide +kernel
theorem dX1_named_25 : decode cX1_named 25 = .ok (.imul, 1) := by decide +kernel
theorem dX1_named_26 : decode cX1_named 26 = .ok (.iload 7, 2) := by decide +kernel
theorem dX1_named_28 : decode cX1_named 28 = .ok (.iadd, 1) := by decide +kernel
theorem dX1_named_29 : decode cX1_named 29 = .ok (.iaload, 1) := by decide +kernel
theorem dX1_named_30 : decode cX1_named 30 = .ok (.aload_n 0, 1) := by decide +kernel
theorem dX1_named_31 : decode cX1_named 31 = .ok (.getfield 88, 3) := by decide +kernel
theorem dX1_named_34 : decode cX1_named 34 = .ok (.bipush 40, 2) := by decide +kernel
theorem dX1_named_36 : decode cX1_named 36 = .ok (.iload_n 1, 1) := by decide +kernel
theorem dX1_named_37 : decode cX1_named 37 = .ok (.imul, 1) := by decide +kernel
theorem dX1_named_38 : decode cX1_named 38 = .ok (.iload 7, 2) := by decide +kernel
theorem dX1_named_40 : decode cX1_named 40 = .ok (.iadd, 1) := by decide +kernel
theorem dX1_named_41 : decode cX1_named 41 = .ok (.iaload, 1) := by decide +kernel
theorem dX1_named_42 : decode cX1_named 42 = .ok (.aload_n 0, 1) := by decide +kernel
theorem dX1_named_43 : decode cX1_named 43 = .ok (.getfield 37, 3) := by decide +kernel
theorem dX1_named_46 : decode cX1_named 46 = .ok (.sipush 600, 3) := by decide +kernel
theorem dX1_named_49 : decode cX1_named 49 = .ok (.aload_n 0, 1) := by decide +kernel
theorem dX1_named_50 : decode cX1_named 50 = .ok (.getfield 482, 3) := by decide +kernel
theorem dX1_named_53 : decode cX1_named 53 = .ok (.imul, 1) := by decide +kernel
theorem dX1_named_54 : decode cX1_named 54 = .ok (.iload 4, 2) := by decide +kernel
theorem dX1_named_56 : decode cX1_named 56 = .ok (.iadd, 1) := by decide +kernel
theorem dX1_named_57 : decode cX1_named 57 = .ok (.iaload, 1) := by decide +kernel
theorem dX1_named_58 : decode cX1_named 58 = .ok (.aload_n 0, 1) := by decide +kernel
theorem dX1_named_59 : decode cX1_named 59 = .ok (.getfield 40, 3) := by decide +kernel
theorem dX1_named_62 : decode cX1_named 62 = .ok (.sipush 600, 3) := by decide +kernel
theorem dX1_named_65 : decode cX1_named 65 = .ok (.aload_n 0, 1) := by decide +kernel
theorem dX1_named_66 : decode cX1_named 66 = .ok (.getfield 482, 3) := by decide +kernel
theorem dX1_named_69 : decode cX1_named 69 = .ok (.imul, 1) := by decide +kernel
theorem dX1_named_70 : decode cX1_named 70 = .ok (.iload 4, 2) := by decide +kernel
theorem dX1_named_72 : decode cX1_named 72 = .ok (.iadd, 1) := by decide +kernel
theorem dX1_named_73 : decode cX1_named 73 = .ok (.iaload, 1) := by decide +kernel
theorem dX1_named_74 : decode cX1_named 74 = .ok (.invokevirtual 412, 3) := by decide +kernel
theorem dX1_named_77 : decode cX1_named 77 = .ok (.istore 8, 2) := by decide +kernel
theorem dX1_named_79 : decode cX1_named 79 = .ok (.lload 5, 2) := by decide +kernel
theorem dX1_named_81 : decode cX1_named 81 = .ok (.iload 8, 2) := by decide +kernel
theorem dX1_named_83 : decode cX1_named 83 = .ok (.ifCond .eq 21, 3) := by decide +kernel
theorem dX1_named_86 : decode cX1_named 86 = .ok (.lload_n 2, 1) := by decide +kernel
theorem dX1_named_87 : decode cX1_named 87 = .ok (.iload 7, 2) := by decide +kernel
theorem dX1_named_89 : decode cX1_named 89 = .ok (.lshr, 1) := by decide +kernel
theorem dX1_named_90 : decode cX1_named 90 = .ok (.lconst 1, 1) := by decide +kernel
theorem dX1_named_91 : decode cX1_named 91 = .ok (.land, 1) := by decide +kernel
theorem dX1_named_92 : decode cX1_named 92 = .ok (.lconst 1, 1) := by decide +kernel
theorem dX1_named_93 : decode cX1_named 93 = .ok (.lcmp, 1) := by decide +kernel
theorem dX1_named_94 : decode cX1_named 94 = .ok (.ifCond .ne 10, 3) := by decide +kernel
theorem dX1_named_97 : decode cX1_named 97 = .ok (.lconst 1, 1) := by decide +kernel
theorem dX1_named_98 : decode cX1_named 98 = .ok (.iload 7, 2) := by decide +kernel
theorem dX1_named_100 : decode cX1_named 100 = .ok (.lshl, 1) := by decide +kernel
theorem dX1_named_101 : decode cX1_named 101 = .ok (.goto 4, 3) := by decide +kernel
theorem dX1_named_104 : decode cX1_named 104 = .ok (.lconst 0, 1) := by decide +kernel
theorem dX1_named_105 : decode cX1_named 105 = .ok (.lor, 1) := by decide +kernel
theorem dX1_named_106 : decode cX1_named 106 = .ok (.lstore 5, 2) := by decide +kernel
theorem dX1_named_108 : decode cX1_named 108 = .ok (.iinc 7 1, 3) := by decide +kernel
theorem dX1_named_111 : decode cX1_named 111 = .ok (.goto (-105), 3) := by decide +kernel
theorem dX1_named_114 : decode cX1_named 114 = .ok (.lload 5, 2) := by decide +kernel
theorem dX1_named_116 : decode cX1_named 116 = .ok (.lreturn, 1) := by decide +kernel
def m_named_6 : Nat → MEM → Int → Int → Int → Int → Int → Option zm_O
  | 0, _, _, _, _, _, _ => none
  | n + 1, σ, x1, x2, x4, x5, x7 => ck (0 ≤ x1 ∧ x1 < 60) (if (σ 30 x1) ≤ x7 then (some (x5, σ)) else (ck (0 ≤ ((40 * x1) + x7) ∧ ((40 * x1) + x7) < 2400) (ck (0 ≤ ((40 * x1) + x7) ∧ ((40 * x1) + x7) < 2400) (ck (0 ≤ ((600 * (σ (-1) 7)) + x4) ∧ ((600 * (σ (-1) 7)) + x4) < 1200) (ck (0 ≤ ((600 * (σ (-1) 7)) + x4) ∧ ((600 * (σ (-1) 7)) + x4) < 1200) (bd (m_isSame σ (σ 31 ((40 * x1) + x7)) (σ 32 ((40 * x1) + x7)) (σ 15 ((600 * (σ (-1) 7)) + x4)) (σ 16 ((600 * (σ (-1) 7)) + x4))) (fun r8 σ9 => if r8 = 0 then (ck (inR (x7 + 1)) (m_named_6 n σ9 x1 x2 x4 (j_or x5 0) (x7 + 1))) else (if (j_cmp (j_and (j_shr x2 x7) 1) 1) = 0 then (ck (inR (x7 + 1)) (m_named_6 n σ9 x1 x2 x4 (j_or x5 (j_shl 1 x7)) (x7 + 1))) else (ck (inR (x7 + 1)) (m_named_6 n σ9 x1 x2 x4 (j_or x5 0) (x7 + 1)))))))))))
theorem w_named_6 {C : zv_Cx zm_O} {G : zm_G} (h : zv_Ok C cX1_named RX1) (hc : zm_C C G 9 (Option.some FieldType.long) 2 1 26) : ∀ (n : Nat) (σ : MEM) (x1 x2 x4 x5 x7 : Int), inR x1 → inL x2 → inR x4 → inL x5 → inR x7 → VV C (m_named_6 n σ x1 x2 x4 x5 x7) σ [(0, .ref (zm_h G)), (1, iv x1), (2, jv x2), (4, iv x4), (5, jv x5), (7, iv x7)] [] 6 := by
  have hN : ∀ i, i < 9 → i < zv_n C := fun i q => by rw [hc.2.2.1]; exact q
  intro n
  induction n with
  | zero => intros; exact r_none
  | succ n ih =>
    intro σ x1 x2 x4 x5 x7 hx1 hx2 hx4 hx5 hx7
    rw [m_named_6]
    refine r_iload h 5 dX1_named_6 rfl ?_
    refine r_aload_n h 0 dX1_named_8 rfl rfl ?_
    refine zm_getA h hc 30 (by decide) rfl q1510 rfl dX1_named_9 ?_
    refine r_iload_n h 1 dX1_named_12 rfl rfl ?_
    refine zm_ldI h hc 30 30 60 (by decide) rfl rfl rfl (by decide) dX1_named_13 (fun _ hr1 => ?_)
    refine r_icmp_ge h hx7 hr1 114 dX1_named_14 rfl ?_ ?_
    · refine r_lload h 4 dX1_named_114 rfl ?_
      exact zm_jret h hc rfl hx5 dX1_named_116
    · refine r_aload_n h 0 dX1_named_17 rfl rfl ?_
      refine r_aload_n h 0 dX1_named_18 rfl rfl ?_
      refine zm_getA h hc 31 (by decide) rfl q1511 rfl dX1_named_19 ?_
      refine r_bipush h dX1_named_22 (by decide) ?_
      refine r_iload_n h 1 dX1_named_24 rfl rfl ?_
      refine r_imul h dX1_named_25 ?_
      refine r_iload h 5 dX1_named_26 rfl ?_
      refine r_iadd h dX1_named_28 ?_
      refine zm_ldI h hc 31 31 2400 (by decide) rfl rfl rfl (by decide) dX1_named_29 (fun _ hr2 => ?_)
      refine r_aload_n h 0 dX1_named_30 rfl rfl ?_
      refine zm_getA h hc 32 (by decide) rfl q1512 rfl dX1_named_31 ?_
      refine r_bipush h dX1_named_34 (by decide) ?_
      refine r_iload_n h 1 dX1_named_36 rfl rfl ?_
      refine r_imul h dX1_named_37 ?_
      refine r_iload h 5 dX1_named_38 rfl ?_
      refine r_iadd h dX1_named_40 ?_
      refine zm_ldI h hc 32 32 2400 (by decide) rfl rfl rfl (by decide) dX1_named_41 (fun _ hr3 => ?_)
      refine r_aload_n h 0 dX1_named_42 rfl rfl ?_
      refine zm_getA h hc 15 (by decide) rfl q1495 rfl dX1_named_43 ?_
      refine r_sipush h dX1_named_46 (by decide) ?_
      refine r_aload_n h 0 dX1_named_49 rfl rfl ?_
      refine zm_getI h hc 7 7 (by decide) rfl rfl q1487 rfl dX1_named_50 (fun hr4 => ?_)
      refine r_imul h dX1_named_53 ?_
      refine r_iload h 3 dX1_named_54 rfl ?_
      refine r_iadd h dX1_named_56 ?_
      refine zm_ldI h hc 15 15 1200 (by decide) rfl rfl rfl (by decide) dX1_named_57 (fun _ hr5 => ?_)
      refine r_aload_n h 0 dX1_named_58 rfl rfl ?_
      refine zm_getA h hc 16 (by decide) rfl q1496 rfl dX1_named_59 ?_
      refine r_sipush h dX1_named_62 (by decide) ?_
      refine r_aload_n h 0 dX1_named_65 rfl rfl ?_
      refine zm_getI h hc 7 7 (by decide) rfl rfl q1487 rfl dX1_named_66 (fun hr6 => ?_)
      refine r_imul h dX1_named_69 ?_
      refine r_iload h 3 dX1_named_70 rfl ?_
      refine r_iadd h dX1_named_72 ?_
      refine zm_ldI h hc 16 16 1200 (by decide) rfl rfl rfl (by decide) dX1_named_73 (fun _ hr7 => ?_)
      refine zm_cVz h hc (n := 4) (As := [iv (σ 31 ((40 * x1) + x7)), iv (σ 32 ((40 * x1) + x7)), iv (σ 15 ((600 * (σ (-1) 7)) + x4)), iv (σ 16 ((600 * (σ (-1) 7)) + x4))]) (fun o1 e1 => w_isSame hc.1 _ (σ 31 ((40 * x1) + x7)) (σ 32 ((40 * x1) + x7)) (σ 15 ((600 * (σ (-1) 7)) + x4)) (σ 16 ((600 * (σ (-1) 7)) + x4)) hr2 hr3 hr5 hr7 o1 e1) q1924 q1926 qs79 q136 q1927 (by decide +kernel) ⟨by decide, by decide⟩ rfl (Nat.le_of_ble_eq_true rfl) rfl dX1_named_74 (fun r8 σ9 hr10 => ?_)
      refine r_istore (lv' := [(8, iv r8), (0, .ref (zm_h G)), (1, iv x1), (2, jv x2), (4, iv x4), (5, jv x5), (7, iv x7)]) h dX1_named_77 (hN _ (by decide)) rfl ?_
      refine r_lload h 5 dX1_named_79 rfl ?_
      refine r_iload h 0 dX1_named_81 rfl ?_
      refine r_if_eq h hr10.r 104 dX1_named_83 rfl ?_ ?_
      · refine r_lconst (x := 0) h dX1_named_104 (by decide) ?_
        refine r_lor h dX1_named_105 ?_
        refine r_lstore (lv' := [(5, jv (j_or x5 0)), (8, iv r8), (0, .ref (zm_h G)), (1, iv x1), (2, jv x2), (4, iv x4), (7, iv x7)]) h dX1_named_106 (hN _ (by decide)) rfl ?_
        refine r_iinc (lv' := [(7, iv (x7 + 1)), (5, jv (j_or x5 0)), (8, iv r8), (0, .ref (zm_h G)), (1, iv x1), (2, jv x2), (4, iv x4)]) h 6 dX1_named_108 rfl (hN _ (by decide)) rfl ?_
        refine r_goto h 6 dX1_named_111 rfl ?_
        refine r_ck (fun hk11 => ?_)
        exact r_lv [3, 4, 5, 6, 1, 0] rfl (ih _ x1 x2 x4 (j_or x5 0) (x7 + 1) hx1 hx2 hx4 (inL_t _) hk11)
      · refine r_lload_n h 3 dX1_named_86 rfl rfl ?_
        refine r_iload h 6 dX1_named_87 rfl ?_
        refine r_lshr h dX1_named_89 ?_
        refine r_lconst (x := 1) h dX1_named_90 (by decide) ?_
        refine r_land h dX1_named_91 ?_
        refine r_lconst (x := 1) h dX1_named_92 (by decide) ?_
        refine r_lcmp h (inL_t _) (by decide) dX1_named_93 ?_
        refine r_if_ne h (j_cmp_r _ _) 104 dX1_named_94 rfl ?_ ?_
        · refine r_lconst (x := 1) h dX1_named_97 (by decide) ?_
          refine r_iload h 6 dX1_named_98 rfl ?_
          refine r_lshl h dX1_named_100 ?_
          refine r_goto h 105 dX1_named_101 rfl ?_
          refine r_lor h dX1_named_105 ?_
          refine r_lstore (lv' := [(5, jv (j_or x5 (j_shl 1 x7))), (8, iv r8), (0, .ref (zm_h G)), (1, iv x1), (2, jv x2), (4, iv x4), (7, iv x7)]) h dX1_named_106 (hN _ (by decide)) rfl ?_
          refine r_iinc (lv' := [(7, iv (x7 + 1)), (5, jv (j_or x5 (j_shl 1 x7))), (8, iv r8), (0, .ref (zm_h G)), (1, iv x1), (2, jv x2), (4, iv x4)]) h 6 dX1_named_108 rfl (hN _ (by decide)) rfl ?_
          refine r_goto h 6 dX1_named_111 rfl ?_
          refine r_ck (fun hk12 => ?_)
          exact r_lv [3, 4, 5, 6, 1, 0] rfl (ih _ x1 x2 x4 (j_or x5 (j_shl 1 x7)) (x7 + 1) hx1 hx2 hx4 (inL_t _) hk12)
        · refine r_lconst (x := 0) h dX1_named_104 (by decide) ?_
          refine r_lor h dX1_named_105 ?_
          refine r_lstore (lv' := [(5, jv (j_or x5 0)), (8, iv r8), (0, .ref (zm_h G)), (1, iv x1), (2, jv x2), (4, iv x4), (7, iv x7)]) h dX1_named_106 (hN _ (by decide)) rfl ?_
          refine r_iinc (lv' := [(7, iv (x7 + 1)), (5, jv (j_or x5 0)), (8, iv r8), (0, .ref (zm_h G)), (1, iv x1), (2, jv x2), (4, iv x4)]) h 6 dX1_named_108 rfl (hN _ (by decide)) rfl ?_
          refine r_goto h 6 dX1_named_111 rfl ?_
          refine r_ck (fun hk13 => ?_)
          exact r_lv [3, 4, 5, 6, 1, 0] rfl (ih _ x1 x2 x4 (j_or x5 0) (x7 + 1) hx1 hx2 hx4 (inL_t _) hk13)
def m_named (σ : MEM) (a0 a1 a2 : Int) : Option zm_O := m_named_6 zF σ a0 a1 a2 0 0
theorem w_named {G : zm_G} (hD : zm_D G) (σ : MEM) (a0 a1 a2 : Int) (ha0 : inR a0) (ha1 : inL a1) (ha2 : inR a2) (o : zm_O) (hd : m_named σ a0 a1 a2 = some o) : zm_Met G yX1_named cX1_named 9 (Option.some FieldType.long) 2 1 26 σ [.ref (zm_h G), iv a0, jv a1, iv a2] o := by
  refine zm_intro hD hd (by decide) rfl (Nat.le_of_ble_eq_true rfl) rfl (fun C h hc => ?_)
  have hN : ∀ i, i < 9 → i < zv_n C := fun i q => by rw [hc.2.2.1]; exact q
  unfold m_named
  refine r_lconst (x := 0) h dX1_named_0 (by decide) ?_
  refine r_lstore (lv' := [(5, jv 0), (0, .ref (zm_h G)), (1, iv a0), (2, jv a1), (4, iv a2)]) h dX1_named_1 (hN _ (by decide)) rfl ?_
  refine r_iconst h dX1_named_3 ?_
  refine r_istore (lv' := [(7, iv 0), (5, jv 0), (0, .ref (zm_h G)), (1, iv a0), (2, jv a1), (4, iv a2)]) h dX1_named_4 (hN _ (by decide)) rfl ?_
  exact r_lv [2, 3, 4, 5, 1, 0] rfl (w_named_6 h hc zF _ a0 a1 a2 0 0 ha0 ha1 ha2 (by decide) (by decide))
theorem dX1_fits_0 : decode cX1_fits 0 = .ok (.sipush 600, 3) := by decide +kernel
theorem dX1_fits_3 : decode cX1_fits 3 = .ok (.aload_n 0, 1) := by decide +kernel
theorem dX1_fits_4 : decode cX1_fits 4 = .ok (.getfield 482, 3) := by decide +kernel
theorem dX1_fits_7 : decode cX1_fits 7 = .ok (.imul, 1) := by decide +kernel
theorem dX1_fits_8 : decode cX1_fits 8 = .ok (.istore_n 3, 1) := by decide +kernel
theorem dX1_fits_9 : decode cX1_fits 9 = .ok (.aload_n 0, 1) := by decide +kernel
theorem dX1_fits_10 : decode cX1_fits 10 = .ok (.getfield 91, 3) := by decide +kernel
theorem dX1_fits_13 : decode cX1_fits 13 = .ok (.iload_n 2, 1) := by decide +kernel
theorem dX1_fits_14 : decode cX1_fits 14 = .ok (.laload, 1) := by decide +kernel
theorem dX1_fits_15 : decode cX1_fits 15 = .ok (.lstore 4, 2) := by decide +kernel
theorem dX1_fits_17 : decode cX1_fits 17 = .ok (.aload_n 0, 1) := by decide +kernel
theorem dX1_fits_18 : decode cX1_fits 18 = .ok (.getfield 98, 3) := by decide +kernel
theorem dX1_fits_21 : decode cX1_fits 21 = .ok (.iload_n 2, 1) := by decide +kernel
theorem dX1_fits_22 : decode cX1_fits 22 = .ok (.baload, 1) := by decide +kernel
theorem dX1_fits_23 : decode cX1_fits 23 = .ok (.istore 6, 2) := by decide +kernel
theorem dX1_fits_25 : decode cX1_fits 25 = .ok (.iload_n 1, 1) := by decide +kernel
theorem dX1_fits_26 : decode cX1_fits 26 = .ok (.iconst 1, 1) := by decide +kernel
theorem dX1_fits_27 : decode cX1_fits 27 = .ok (.iadd, 1) := by decide +kernel
theorem dX1_fits_28 : decode cX1_fits 28 = .ok (.istore 7, 2) := by decide +kernel
theorem dX1_fits_30 : decode cX1_fits 30 = .ok (.iload 7, 2) := by decide +kernel
theorem dX1_fits_32 : decode cX1_fits 32 = .ok (.aload_n 0, 1) := by decide +kernel
theorem dX1_fits_33 : decode cX1_fits 33 = .ok (.getfield 27, 3) := by decide +kernel
theorem dX1_fits_36 : decode cX1_fits 36 = .ok (.aload_n 0, 1) := by decide +kernel
theorem dX1_fits_37 : decode cX1_fits 37 = .ok (.getfield 482, 3) := by decide +kernel
theorem dX1_fits_40 : decode cX1_fits 40 = .ok (.iaload, 1) := by decide +kernel
theorem dX1_fits_41 : decode cX1_fits 41 = .ok (.if_icmp .ge 280, 3) := by decide +kernel
theorem dX1_fits_44 : decode cX1_fits 44 = .ok (.aload_n 0, 1) := by decide +kernel
theorem dX1_fits_45 : decode cX1_fits 45 = .ok (.getfield 34, 3) := by decide +kernel
theorem dX1_fits_48 : decode cX1_fits 48 = .ok (.iload_n 3, 1) := by decide +kernel
theorem dX1_fits_49 : decode cX1_fits 49 = .ok (.iload 7, 2) := by decide +kernel
theorem dX1_fits_51 : decode cX1_fits 51 = .ok (.iadd, 1) := by decide +kernel
theorem dX1_fits_52 : decode cX1_fits 52 = .ok (.iaload, 1) := by decide +kernel
theorem dX1_fits_53 : decode cX1_fits 53 = .ok (.iload_n 1, 1) := by decide +kernel
theorem dX1_fits_54 : decode cX1_fits 54 = .ok (.if_icmp .ne 261, 3) := by decide +kernel
theorem dX1_fits_57 : decode cX1_fits 57 = .ok (.aload_n 0, 1) := by decide +kernel
theorem dX1_fits_58 : decode cX1_fits 58 = .ok (.getfield 31, 3) := by decide +kernel
theorem dX1_fits_61 : decode cX1_fits 61 = .ok (.iload_n 3, 1) := by decide +kernel
theorem dX1_fits_62 : decode cX1_fits 62 = .ok (.iload 7, 2) := by decide +kernel
theorem dX1_fits_64 : decode cX1_fits 64 = .ok (.iadd, 1) := by decide +kernel
theorem dX1_fits_65 : decode cX1_fits 65 = .ok (.iaload, 1) := by decide +kernel
theorem dX1_fits_66 : decode cX1_fits 66 = .ok (.iconst 2, 1) := by decide +kernel
theorem dX1_fits_67 : decode cX1_fits 67 = .ok (.if_icmp .ne 6, 3) := by decide +kernel
theorem dX1_fits_70 : decode cX1_fits 70 = .ok (.goto 245, 3) := by decide +kernel
theorem dX1_fits_73 : decode cX1_fits 73 = .ok (.aload_n 0, 1) := by decide +kernel
theorem dX1_fits_74 : decode cX1_fits 74 = .ok (.getfield 31, 3) := by decide +kernel
theorem dX1_fits_77 : decode cX1_fits 77 = .ok (.iload_n 3, 1) := by decide +kernel
theorem dX1_fits_78 : decode cX1_fits 78 = .ok (.iload 7, 2) := by decide +kernel
theorem dX1_fits_80 : decode cX1_fits 80 = .ok (.iadd, 1) := by decide +kernel
theorem dX1_fits_81 : decode cX1_fits 81 = .ok (.iaload, 1) := by decide +kernel
theorem dX1_fits_82 : decode cX1_fits 82 = .ok (.iconst 3, 1) := by decide +kernel
theorem dX1_fits_83 : decode cX1_fits 83 = .ok (.if_icmp .ne 7, 3) := by decide +kernel
theorem dX1_fits_86 : decode cX1_fits 86 = .ok (.iconst 1, 1) := by decide +kernel
theorem dX1_fits_87 : decode cX1_fits 87 = .ok (.goto 4, 3) := by decide +kernel
theorem dX1_fits_90 : decode cX1_fits 90 = .ok (.iconst 0, 1) := by decide +kernel
theorem dX1_fits_91 : decode cX1_fits 91 = .ok (.istore 8, 2) := by decide +kernel
theorem dX1_fits_93 : decode cX1_fits 93 = .ok (.aload_n 0, 1) := by decide +kernel
theorem dX1_fits_94 : decode cX1_fits 94 = .ok (.getfield 79, 3) := by decide +kernel
theorem dX1_fits_97 : decode cX1_fits 97 = .ok (.iload_n 2, 1) := by decide +kernel
theorem dX1_fits_98 : decode cX1_fits 98 = .ok (.iaload, 1) := by decide +kernel
theorem dX1_fits_99 : decode cX1_fits 99 = .ok (.ifCond .eq 43, 3) := by decide +kernel
theorem dX1_fits_102 : decode cX1_fits 102 = .ok (.aload_n 0, 1) := by decide +kernel
theorem dX1_fits_103 : decode cX1_fits 103 = .ok (.getfield 79, 3) := by decide +kernel
theorem dX1_fits_106 : decode cX1_fits 106 = .ok (.iload_n 2, 1) := by decide +kernel
theorem dX1_fits_107 : decode cX1_fits 107 = .ok (.iaload, 1) := by decide +kernel
theorem dX1_fits_108 : decode cX1_fits 108 = .ok (.iconst 1, 1) := by decide +kernel
theorem dX1_fits_109 : decode cX1_fits 109 = .ok (.if_icmp .ne 35, 3) := by decide +kernel
theorem dX1_fits_112 : decode cX1_fits 112 = .ok (.iload 8, 2) := by decide +kernel
theorem dX1_fits_114 : decode cX1_fits 114 = .ok (.ifCond .ne 30, 3) := by decide +kernel
theorem dX1_fits_117 : decode cX1_fits 117 = .ok (.aload_n 0, 1) := by decide +kernel
theorem dX1_fits_118 : decode cX1_fits 118 = .ok (.aload_n 0, 1) := by decide +kernel
theorem dX1_fits_119 : decode cX1_fits 119 = .ok (.getfield 37, 3) := by decide +kernel
theorem dX1_fits_122 : decode cX1_fits 122 = .ok (.iload_n 3, 1) := by decide +kernel
theorem dX1_fits_123 : decode cX1_fits 123 = .ok (.iload 7, 2) := by decide +kernel
theorem dX1_fits_125 : decode cX1_fits 125 = .ok (.iadd, 1) := by decide +kernel
theorem dX1_fits_126 : decode cX1_fits 126 = .ok (.iaload, 1) := by decide +kernel
theorem dX1_fits_127 : decode cX1_fits 127 = .ok (.aload_n 0, 1) := by decide +kernel
theorem dX1_fits_128 : decode cX1_fits 128 = .ok (.getfield 40, 3) := by decide +kernel
theorem dX1_fits_131 : decode cX1_fits 131 = .ok (.iload_n 3, 1) := by decide +kernel
theorem dX1_fits_132 : decode cX1_fits 132 = .ok (.iload 7, 2) := by decide +kernel
theorem dX1_fits_134 : decode cX1_fits 134 = .ok (.iadd, 1) := by decide +kernel
theorem dX1_fits_135 : decode cX1_fits 135 = .ok (.iaload, 1) := by decide +kernel
theorem dX1_fits_136 : decode cX1_fits 136 = .ok (.invokevirtual 516, 3) := by decide +kernel
theorem dX1_fits_139 : decode cX1_fits 139 = .ok (.ifCond .ge 5, 3) := by decide +kernel
theorem dX1_fits_142 : decode cX1_fits 142 = .ok (.iconst 0, 1) := by decide +kernel
theorem dX1_fits_143 : decode cX1_fits 143 = .ok (.ireturn, 1) := by decide +kernel
theorem dX1_fits_144 : decode cX1_fits 144 = .ok (.aload_n 0, 1) := by decide +kernel
theorem dX1_fits_145 : decode cX1_fits 145 = .ok (.getfield 79, 3) := by decide +kernel
theorem dX1_fits_148 : decode cX1_fits 148 = .ok (.iload_n 2, 1) := by decide +kernel
theorem dX1_fits_149 : decode cX1_fits 149 = .ok (.iaload, 1) := by decide +kernel
theorem dX1_fits_150 : decode cX1_fits 150 = .ok (.iconst 2, 1) := by decide +kernel
theorem dX1_fits_151 : decode cX1_fits 151 = .ok (.if_icmp .ne 23, 3) := by decide +kernel
theorem dX1_fits_154 : decode cX1_fits 154 = .ok (.iload 8, 2) := by decide +kernel
theorem dX1_fits_156 : decode cX1_fits 156 = .ok (.ifCond .ne 18, 3) := by decide +kernel
theorem dX1_fits_159 : decode cX1_fits 159 = .ok (.aload_n 0, 1) := by decide +kernel
theorem dX1_fits_160 : decode cX1_fits 160 = .ok (.iload_n 2, 1) := by decide +kernel
theorem dX1_fits_161 : decode cX1_fits 161 = .ok (.ldc2_w 526, 3) := by decide +kernel
theorem dX1_fits_164 : decode cX1_fits 164 = .ok (.iload 7, 2) := by decide +kernel
theorem dX1_fits_166 : decode cX1_fits 166 = .ok (.invokevirtual 558, 3) := by decide +kernel
theorem dX1_fits_169 : decode cX1_fits 169 = .ok (.lconst 0, 1) := by decide +kernel
theorem dX1_fits_170 : decode cX1_fits 170 = .ok (.lcmp, 1) := by decide +kernel
theorem dX1_fits_171 : decode cX1_fits 171 = .ok (.ifCond .eq 30, 3) := by decide +kernel
theorem dX1_fits_174 : decode cX1_fits 174 = .ok (.aload_n 0, 1) := by decide +kernel
theorem dX1_fits_175 : decode cX1_fits 175 = .ok (.getfield 79, 3) := by decide +kernel
theorem dX1_fits_178 : decode cX1_fits 178 = .ok (.iload_n 2, 1) := by decide +kernel
theorem dX1_fits_179 : decode cX1_fits 179 = .ok (.iaload, 1) := by decide +kernel
theorem dX1_fits_180 : decode cX1_fits 180 = .ok (.iconst 3, 1) := by decide +kernel
theorem dX1_fits_181 : decode cX1_fits 181 = .ok (.if_icmp .ne 22, 3) := by decide +kernel
theorem dX1_fits_184 : decode cX1_fits 184 = .ok (.iload 8, 2) := by decide +kernel
theorem dX1_fits_186 : decode cX1_fits 186 = .ok (.ifCond .eq 17, 3) := by decide +kernel
theorem dX1_fits_189 : decode cX1_fits 189 = .ok (.aload_n 0, 1) := by decide +kernel
theorem dX1_fits_190 : decode cX1_fits 190 = .ok (.getfield 52, 3) := by decide +kernel
theorem dX1_fits_193 : decode cX1_fits 193 = .ok (.iload_n 3, 1) := by decide +kernel
theorem dX1_fits_194 : decode cX1_fits 194 = .ok (.iload 7, 2) := by decide +kernel
theorem dX1_fits_196 : decode cX1_fits 196 = .ok (.iadd, 1) := by decide +kernel
theorem dX1_fits_197 : decode cX1_fits 197 = .ok (.baload, 1) := by decide +kernel
theorem dX1_fits_198 : decode cX1_fits 198 = .ok (.ifCond .ne 5, 3) := by decide +kernel
theorem dX1_fits_201 : decode cX1_fits 201 = .ok (.iconst 0, 1) := by decide +kernel
theorem dX1_fits_202 : decode cX1_fits 202 = .ok (.ireturn, 1) := by decide +kernel
theorem dX1_fits_203 : decode cX1_fits 203 = .ok (.aload_n 0, 1) := by decide +kernel
theorem dX1_fits_204 : decode cX1_fits 204 = .ok (.getfield 79, 3) := by decide +kernel
theorem dX1_fits_207 : decode cX1_fits 207 = .ok (.iload_n 2, 1) := by decide +kernel
theorem dX1_fits_208 : decode cX1_fits 208 = .ok (.iaload, 1) := by decide +kernel
theorem dX1_fits_209 : decode cX1_fits 209 = .ok (.iconst 3, 1) := by decide +kernel
theorem dX1_fits_210 : decode cX1_fits 210 = .ok (.if_icmp .ne 105, 3) := by decide +kernel
theorem dX1_fits_213 : decode cX1_fits 213 = .ok (.iload 8, 2) := by decide +kernel
theorem dX1_fits_215 : decode cX1_fits 215 = .ok (.ifCond .ne 100, 3) := by decide +kernel
theorem dX1_fits_218 : decode cX1_fits 218 = .ok (.aload_n 0, 1) := by decide +kernel
theorem dX1_fits_219 : decode cX1_fits 219 = .ok (.iload_n 2, 1) := by decide +kernel
theorem dX1_fits_220 : decode cX1_fits 220 = .ok (.lload 4, 2) := by decide +kernel
theorem dX1_fits_222 : decode cX1_fits 222 = .ok (.iload 7, 2) := by decide +kernel
theorem dX1_fits_224 : decode cX1_fits 224 = .ok (.invokevirtual 558, 3) := by decide +kernel
theorem dX1_fits_227 : decode cX1_fits 227 = .ok (.lstore 9, 2) := by decide +kernel
theorem dX1_fits_229 : decode cX1_fits 229 = .ok (.lconst 0, 1) := by decide +kernel
theorem dX1_fits_230 : decode cX1_fits 230 = .ok (.lstore 4, 2) := by decide +kernel
theorem dX1_fits_232 : decode cX1_fits 232 = .ok (.iconst 0, 1) := by decide +kernel
theorem dX1_fits_233 : decode cX1_fits 233 = .ok (.istore 11, 2) := by decide +kernel
theorem dX1_fits_235 : decode cX1_fits 235 = .ok (.iload 11, 2) := by decide +kernel
theorem dX1_fits_237 : decode cX1_fits 237 = .ok (.aload_n 0, 1) := by decide +kernel
theorem dX1_fits_238 : decode cX1_fits 238 = .ok (.getfield 82, 3) := by decide +kernel
theorem dX1_fits_241 : decode cX1_fits 241 = .ok (.iload_n 2, 1) := by decide +kernel
theorem dX1_fits_242 : decode cX1_fits 242 = .ok (.iaload, 1) := by decide +kernel
theorem dX1_fits_243 : decode cX1_fits 243 = .ok (.if_icmp .ge 42, 3) := by decide +kernel
theorem dX1_fits_246 : decode cX1_fits 246 = .ok (.lload 4, 2) := by decide +kernel
theorem dX1_fits_248 : decode cX1_fits 248 = .ok (.lload 9, 2) := by decide +kernel
theorem dX1_fits_250 : decode cX1_fits 250 = .ok (.iload 11, 2) := by decide +kernel
theorem dX1_fits_252 : decode cX1_fits 252 = .ok (.lshr, 1) := by decide +kernel
theorem dX1_fits_253 : decode cX1_fits 253 = .ok (.lconst 1, 1) := by decide +kernel
theorem dX1_fits_254 : decode cX1_fits 254 = .ok (.land, 1) := by decide +kernel
theorem dX1_fits_255 : decode cX1_fits 255 = .ok (.lconst 1, 1) := by decide +kernel
theorem dX1_fits_256 : decode cX1_fits 256 = .ok (.lcmp, 1) := by decide +kernel
theorem dX1_fits_257 : decode cX1_fits 257 = .ok (.ifCond .ne 18, 3) := by decide +kernel
theorem dX1_fits_260 : decode cX1_fits 260 = .ok (.aload_n 0, 1) := by decide +kernel
theorem dX1_fits_261 : decode cX1_fits 261 = .ok (.getfield 101, 3) := by decide +kernel
theorem dX1_fits_264 : decode cX1_fits 264 = .ok (.bipush 40, 2) := by decide +kernel
theorem dX1_fits_266 : decode cX1_fits 266 = .ok (.iload_n 2, 1) := by decide +kernel
theorem dX1_fits_267 : decode cX1_fits 267 = .ok (.imul, 1) := by decide +kernel
theorem dX1_fits_268 : decode cX1_fits 268 = .ok (.iload 11, 2) := by decide +kernel
theorem dX1_fits_270 : decode cX1_fits 270 = .ok (.iadd, 1) := by decide +kernel
theorem dX1_fits_271 : decode cX1_fits 271 = .ok (.laload, 1) := by decide +kernel
theorem dX1_fits_272 : decode cX1_fits 272 = .ok (.goto 4, 3) := by decide +kernel
theorem dX1_fits_275 : decode cX1_fits 275 = .ok (.lconst 0, 1) := by decide +kernel
theorem dX1_fits_276 : decode cX1_fits 276 = .ok (.lor, 1) := by decide +kernel
theorem dX1_fits_277 : decode cX1_fits 277 = .ok (.lstore 4, 2) := by decide +kernel
theorem dX1_fits_279 : decode cX1_fits 279 = .ok (.iinc 11 1, 3) := by decide +kernel
theorem dX1_fits_282 : decode cX1_fits 282 = .ok (.goto (-47), 3) := by decide +kernel
theorem dX1_fits_285 : decode cX1_fits 285 = .ok (.lload 9, 2) := by decide +kernel
theorem dX1_fits_287 : decode cX1_fits 287 = .ok (.aload_n 0, 1) := by decide +kernel
theorem dX1_fits_288 : decode cX1_fits 288 = .ok (.getfield 95, 3) := by decide +kernel
theorem dX1_fits_291 : decode cX1_fits 291 = .ok (.iload_n 2, 1) := by decide +kernel
theorem dX1_fits_292 : decode cX1_fits 292 = .ok (.laload, 1) := by decide +kernel
theorem dX1_fits_293 : decode cX1_fits 293 = .ok (.land, 1) := by decide +kernel
theorem dX1_fits_294 : decode cX1_fits 294 = .ok (.lconst 0, 1) := by decide +kernel
theorem dX1_fits_295 : decode cX1_fits 295 = .ok (.lcmp, 1) := by decide +kernel
theorem dX1_fits_296 : decode cX1_fits 296 = .ok (.ifCond .eq 7, 3) := by decide +kernel
theorem dX1_fits_299 : decode cX1_fits 299 = .ok (.iconst 1, 1) := by decide +kernel
theorem dX1_fits_300 : decode cX1_fits 300 = .ok (.goto 4, 3) := by decide +kernel
theorem dX1_fits_303 : decode cX1_fits 303 = .ok (.iconst 0, 1) := by decide +kernel
theorem dX1_fits_304 : decode cX1_fits 304 = .ok (.istore 6, 2) := by decide +kernel
theorem dX1_fits_306 : decode cX1_fits 306 = .ok (.lload 9, 2) := by decide +kernel
theorem dX1_fits_308 : decode cX1_fits 308 = .ok (.lconst 0, 1) := by decide +kernel
theorem dX1_fits_309 : decode cX1_fits 309 = .ok (.lcmp, 1) := by decide +kernel
theorem dX1_fits_310 : decode cX1_fits 310 = .ok (.ifCond .ne 5, 3) := by decide +kernel
theorem dX1_fits_313 : decode cX1_fits 313 = .ok (.iconst 0, 1) := by decide +kernel
theorem dX1_fits_314 : decode cX1_fits 314 = .ok (.ireturn, 1) := by decide +kernel
theorem dX1_fits_315 : decode cX1_fits 315 = .ok (.iinc 7 1, 3) := by decide +kernel
theorem dX1_fits_318 : decode cX1_fits 318 = .ok (.goto (-288), 3) := by decide +kernel
theorem dX1_fits_321 : decode cX1_fits 321 = .ok (.aload_n 0, 1) := by decide +kernel
theorem dX1_fits_322 : decode cX1_fits 322 = .ok (.getfield 79, 3) := by decide +kernel
theorem dX1_fits_325 : decode cX1_fits 325 = .ok (.iload_n 2, 1) := by decide +kernel
theorem dX1_fits_326 : decode cX1_fits 326 = .ok (.iaload, 1) := by decide +kernel
theorem dX1_fits_327 : decode cX1_fits 327 = .ok (.iconst 3, 1) := by decide +kernel
theorem dX1_fits_328 : decode cX1_fits 328 = .ok (.if_icmp .ne 8, 3) := by decide +kernel
theorem dX1_fits_331 : decode cX1_fits 331 = .ok (.iload 6, 2) := by decide +kernel
theorem dX1_fits_333 : decode cX1_fits 333 = .ok (.ifCond .eq 7, 3) := by decide +kernel
theorem dX1_fits_336 : decode cX1_fits 336 = .ok (.iconst 1, 1) := by decide +kernel
theorem dX1_fits_337 : decode cX1_fits 337 = .ok (.goto 4, 3) := by decide +kernel
theorem dX1_fits_340 : decode cX1_fits 340 = .ok (.iconst 0, 1) := by decide +kernel
theorem dX1_fits_341 : decode cX1_fits 341 = .ok (.ireturn, 1) := by decide +kernel
def m_fits_304 (lp30 : MEM → Int → Int → Int → Int → Int → Int → Option zm_O) (σ : MEM) (x1 x2 x3 x4 x7 x9 s0 : Int) : Option zm_O := if (j_cmp x9 0) = 0 then (some (0, σ)) else (ck (inR (x7 + 1)) (lp30 σ x1 x2 x3 x4 s0 (x7 + 1)))
theorem w_fits_304 {C : zv_Cx zm_O} {G : zm_G} (h : zv_Ok C cX1_fits RX1) (hc : zm_C C G 12 (Option.some FieldType.boolean) 3 2 54) (lp30 : MEM → Int → Int → Int → Int → Int → Int → Option zm_O) (hlp30 : ∀ (σ : MEM) (x1 x2 x3 x4 x6 x7 : Int), inR x1 → inR x2 → inR x3 → inL x4 → isB x6 → inR x7 → VV C (lp30 σ x1 x2 x3 x4 x6 x7) σ [(0, .ref (zm_h G)), (1, iv x1), (2, iv x2), (3, iv x3), (4, jv x4), (6, iv x6), (7, iv x7)] [] 30) (σ : MEM) (x1 x2 x3 x4 x7 x9 s0 : Int) (hx1 : inR x1) (hx2 : inR x2) (hx3 : inR x3) (hx4 : inL x4) (hx7 : inR x7) (hx9 : inL x9) (hs0 : isB s0) : VV C (m_fits_304 lp30 σ x1 x2 x3 x4 x7 x9 s0) σ [(0, .ref (zm_h G)), (1, iv x1), (2, iv x2), (3, iv x3), (4, jv x4), (7, iv x7), (9, jv x9)] [iv s0] 304 := by
  have hN : ∀ i, i < 12 → i < zv_n C := fun i q => by rw [hc.2.2.1]; exact q
  unfold m_fits_304
  refine r_istore (lv' := [(6, iv s0), (0, .ref (zm_h G)), (1, iv x1), (2, iv x2), (3, iv x3), (4, jv x4), (7, iv x7), (9, jv x9)]) h dX1_fits_304 (hN _ (by decide)) rfl ?_
  refine r_lload h 7 dX1_fits_306 rfl ?_
  refine r_lconst (x := 0) h dX1_fits_308 (by decide) ?_
  refine r_lcmp h hx9 (by decide) dX1_fits_309 ?_
  refine r_if_ne h (j_cmp_r _ _) 315 dX1_fits_310 rfl ?_ ?_
  · refine r_iconst h dX1_fits_313 ?_
    exact zm_zret h hc rfl (by decide) dX1_fits_314
  · refine r_iinc (lv' := [(7, iv (x7 + 1)), (6, iv s0), (0, .ref (zm_h G)), (1, iv x1), (2, iv x2), (3, iv x3), (4, jv x4), (9, jv x9)]) h 6 dX1_fits_315 rfl (hN _ (by decide)) rfl ?_
    refine r_goto h 30 dX1_fits_318 rfl ?_
    refine r_ck (fun hk1 => ?_)
    exact r_lv [2, 3, 4, 5, 6, 1, 0] rfl (hlp30 _ x1 x2 x3 x4 s0 (x7 + 1) hx1 hx2 hx3 hx4 hs0 hk1)
def m_fits_235 (lp30 : MEM → Int → Int → Int → Int → Int → Int → Option zm_O) : Nat → MEM → Int → Int → Int → Int → Int → Int → Int → Option zm_O
  | 0, _, _, _, _, _, _, _, _ => none
  | n + 1, σ, x1, x2, x3, x4, x7, x9, x11 => ck (0 ≤ x2 ∧ x2 < 60) (if (σ 30 x2) ≤ x11 then (ck (0 ≤ x2 ∧ x2 < 60) (if (j_cmp (j_and x9 (σ 34 x2)) 0) = 0 then (m_fits_304 lp30 σ x1 x2 x3 x4 x7 x9 0) else (m_fits_304 lp30 σ x1 x2 x3 x4 x7 x9 1))) else (if (j_cmp (j_and (j_shr x9 x11) 1) 1) = 0 then (ck (0 ≤ ((40 * x2) + x11) ∧ ((40 * x2) + x11) < 2400) (ck (inR (x11 + 1)) (m_fits_235 lp30 n σ x1 x2 x3 (j_or x4 (σ 36 ((40 * x2) + x11))) x7 x9 (x11 + 1)))) else (ck (inR (x11 + 1)) (m_fits_235 lp30 n σ x1 x2 x3 (j_or x4 0) x7 x9 (x11 + 1)))))
theorem w_fits_235 {C : zv_Cx zm_O} {G : zm_G} (h : zv_Ok C cX1_fits RX1) (hc : zm_C C G 12 (Option.some FieldType.boolean) 3 2 54) (lp30 : MEM → Int → Int → Int → Int → Int → Int → Option zm_O) (hlp30 : ∀ (σ : MEM) (x1 x2 x3 x4 x6 x7 : Int), inR x1 → inR x2 → inR x3 → inL x4 → isB x6 → inR x7 → VV C (lp30 σ x1 x2 x3 x4 x6 x7) σ [(0, .ref (zm_h G)), (1, iv x1), (2, iv x2), (3, iv x3), (4, jv x4), (6, iv x6), (7, iv x7)] [] 30) : ∀ (n : Nat) (σ : MEM) (x1 x2 x3 x4 x7 x9 x11 : Int), inR x1 → inR x2 → inR x3 → inL x4 → inR x7 → inL x9 → inR x11 → VV C (m_fits_235 lp30 n σ x1 x2 x3 x4 x7 x9 x11) σ [(0, .ref (zm_h G)), (1, iv x1), (2, iv x2), (3, iv x3), (4, jv x4), (7, iv x7), (9, jv x9), (11, iv x11)] [] 235 := by
  have hN : ∀ i, i < 12 → i < zv_n C := fun i q => by rw [hc.2.2.1]; exact q
  intro n
  induction n with
  | zero => intros; exact r_none
  | succ n ih =>
    intro σ x1 x2 x3 x4 x7 x9 x11 hx1 hx2 hx3 hx4 hx7 hx9 hx11
    rw [m_fits_235]
    refine r_iload h 7 dX1_fits_235 rfl ?_
    refine r_aload_n h 0 dX1_fits_237 rfl rfl ?_
    refine zm_getA h hc 30 (by decide) rfl q1510 rfl dX1_fits_238 ?_
    refine r_iload_n h 2 dX1_fits_241 rfl rfl ?_
    refine zm_ldI h hc 30 30 60 (by decide) rfl rfl rfl (by decide) dX1_fits_242 (fun _ hr1 => ?_)
    refine r_icmp_ge h hx11 hr1 285 dX1_fits_243 rfl ?_ ?_
    · refine r_lload h 6 dX1_fits_285 rfl ?_
      refine r_aload_n h 0 dX1_fits_287 rfl rfl ?_
      refine zm_getA h hc 34 (by decide) rfl q1514 rfl dX1_fits_288 ?_
      refine r_iload_n h 2 dX1_fits_291 rfl rfl ?_
      refine zm_ldJ h hc 34 34 60 (by decide) rfl rfl rfl (by decide) dX1_fits_292 (fun _ hr2 => ?_)
      refine r_land h dX1_fits_293 ?_
      refine r_lconst (x := 0) h dX1_fits_294 (by decide) ?_
      refine r_lcmp h (inL_t _) (by decide) dX1_fits_295 ?_
      refine r_if_eq h (j_cmp_r _ _) 303 dX1_fits_296 rfl ?_ ?_
      · refine r_iconst h dX1_fits_303 ?_
        exact r_lv [0, 1, 2, 3, 4, 5, 6] rfl (w_fits_304 h hc lp30 hlp30 _ x1 x2 x3 x4 x7 x9 0 hx1 hx2 hx3 hx4 hx7 hx9 (by decide))
      · refine r_iconst h dX1_fits_299 ?_
        refine r_goto h 304 dX1_fits_300 rfl ?_
        exact r_lv [0, 1, 2, 3, 4, 5, 6] rfl (w_fits_304 h hc lp30 hlp30 _ x1 x2 x3 x4 x7 x9 1 hx1 hx2 hx3 hx4 hx7 hx9 (by decide))
    · refine r_lload h 4 dX1_fits_246 rfl ?_
      refine r_lload h 6 dX1_fits_248 rfl ?_
      refine r_iload h 7 dX1_fits_250 rfl ?_
      refine r_lshr h dX1_fits_252 ?_
      refine r_lconst (x := 1) h dX1_fits_253 (by decide) ?_
      refine r_land h dX1_fits_254 ?_
      refine r_lconst (x := 1) h dX1_fits_255 (by decide) ?_
      refine r_lcmp h (inL_t _) (by decide) dX1_fits_256 ?_
      refine r_if_ne h (j_cmp_r _ _) 275 dX1_fits_257 rfl ?_ ?_
      · refine r_aload_n h 0 dX1_fits_260 rfl rfl ?_
        refine zm_getA h hc 36 (by decide) rfl q1516 rfl dX1_fits_261 ?_
        refine r_bipush h dX1_fits_264 (by decide) ?_
        refine r_iload_n h 2 dX1_fits_266 rfl rfl ?_
        refine r_imul h dX1_fits_267 ?_
        refine r_iload h 7 dX1_fits_268 rfl ?_
        refine r_iadd h dX1_fits_270 ?_
        refine zm_ldJ h hc 36 36 2400 (by decide) rfl rfl rfl (by decide) dX1_fits_271 (fun _ hr3 => ?_)
        refine r_goto h 276 dX1_fits_272 rfl ?_
        refine r_lor h dX1_fits_276 ?_
        refine r_lstore (lv' := [(4, jv (j_or x4 (σ 36 ((40 * x2) + x11)))), (0, .ref (zm_h G)), (1, iv x1), (2, iv x2), (3, iv x3), (7, iv x7), (9, jv x9), (11, iv x11)]) h dX1_fits_277 (hN _ (by decide)) rfl ?_
        refine r_iinc (lv' := [(11, iv (x11 + 1)), (4, jv (j_or x4 (σ 36 ((40 * x2) + x11)))), (0, .ref (zm_h G)), (1, iv x1), (2, iv x2), (3, iv x3), (7, iv x7), (9, jv x9)]) h 7 dX1_fits_279 rfl (hN _ (by decide)) rfl ?_
        refine r_goto h 235 dX1_fits_282 rfl ?_
        refine r_ck (fun hk4 => ?_)
        exact r_lv [2, 3, 4, 5, 1, 6, 7, 0] rfl (ih _ x1 x2 x3 (j_or x4 (σ 36 ((40 * x2) + x11))) x7 x9 (x11 + 1) hx1 hx2 hx3 (inL_t _) hx7 hx9 hk4)
      · refine r_lconst (x := 0) h dX1_fits_275 (by decide) ?_
        refine r_lor h dX1_fits_276 ?_
        refine r_lstore (lv' := [(4, jv (j_or x4 0)), (0, .ref (zm_h G)), (1, iv x1), (2, iv x2), (3, iv x3), (7, iv x7), (9, jv x9), (11, iv x11)]) h dX1_fits_277 (hN _ (by decide)) rfl ?_
        refine r_iinc (lv' := [(11, iv (x11 + 1)), (4, jv (j_or x4 0)), (0, .ref (zm_h G)), (1, iv x1), (2, iv x2), (3, iv x3), (7, iv x7), (9, jv x9)]) h 7 dX1_fits_279 rfl (hN _ (by decide)) rfl ?_
        refine r_goto h 235 dX1_fits_282 rfl ?_
        refine r_ck (fun hk5 => ?_)
        exact r_lv [2, 3, 4, 5, 1, 6, 7, 0] rfl (ih _ x1 x2 x3 (j_or x4 0) x7 x9 (x11 + 1) hx1 hx2 hx3 (inL_t _) hx7 hx9 hk5)
def m_fits_203 (lp30 : MEM → Int → Int → Int → Int → Int → Int → Option zm_O) (σ : MEM) (x1 x2 x3 x4 x6 x7 x8 : Int) : Option zm_O := ck (0 ≤ x2 ∧ x2 < 60) (if (σ 29 x2) = 3 then (if x8 = 0 then (bd (m_named σ x2 x4 x7) (fun r2 σ3 => m_fits_235 lp30 zF σ3 x1 x2 x3 0 x7 r2 0)) else (ck (inR (x7 + 1)) (lp30 σ x1 x2 x3 x4 x6 (x7 + 1)))) else (ck (inR (x7 + 1)) (lp30 σ x1 x2 x3 x4 x6 (x7 + 1))))
theorem w_fits_203 {C : zv_Cx zm_O} {G : zm_G} (h : zv_Ok C cX1_fits RX1) (hc : zm_C C G 12 (Option.some FieldType.boolean) 3 2 54) (lp30 : MEM → Int → Int → Int → Int → Int → Int → Option zm_O) (hlp30 : ∀ (σ : MEM) (x1 x2 x3 x4 x6 x7 : Int), inR x1 → inR x2 → inR x3 → inL x4 → isB x6 → inR x7 → VV C (lp30 σ x1 x2 x3 x4 x6 x7) σ [(0, .ref (zm_h G)), (1, iv x1), (2, iv x2), (3, iv x3), (4, jv x4), (6, iv x6), (7, iv x7)] [] 30) (σ : MEM) (x1 x2 x3 x4 x6 x7 x8 : Int) (hx1 : inR x1) (hx2 : inR x2) (hx3 : inR x3) (hx4 : inL x4) (hx6 : isB x6) (hx7 : inR x7) (hx8 : isB x8) : VV C (m_fits_203 lp30 σ x1 x2 x3 x4 x6 x7 x8) σ [(0, .ref (zm_h G)), (1, iv x1), (2, iv x2), (3, iv x3), (4, jv x4), (6, iv x6), (7, iv x7), (8, iv x8)] [] 203 := by
  have hN : ∀ i, i < 12 → i < zv_n C := fun i q => by rw [hc.2.2.1]; exact q
  unfold m_fits_203
  refine r_aload_n h 0 dX1_fits_203 rfl rfl ?_
  refine zm_getA h hc 29 (by decide) rfl q1509 rfl dX1_fits_204 ?_
  refine r_iload_n h 2 dX1_fits_207 rfl rfl ?_
  refine zm_ldI h hc 29 29 60 (by decide) rfl rfl rfl (by decide) dX1_fits_208 (fun _ hr1 => ?_)
  refine r_iconst h dX1_fits_209 ?_
  refine r_icmp_ne h hr1 (by decide) 315 dX1_fits_210 rfl ?_ ?_
  · refine r_iload h 7 dX1_fits_213 rfl ?_
    refine r_if_ne h hx8.r 315 dX1_fits_215 rfl ?_ ?_
    · refine r_aload_n h 0 dX1_fits_218 rfl rfl ?_
      refine r_iload_n h 2 dX1_fits_219 rfl rfl ?_
      refine r_lload h 4 dX1_fits_220 rfl ?_
      refine r_iload h 6 dX1_fits_222 rfl ?_
      refine zm_cVj h hc (n := 3) (As := [iv x2, jv x4, iv x7]) (fun o1 e1 => w_named hc.1 _ x2 x4 x7 hx2 hx4 hx7 o1 e1) q2040 q2042 qs104 q136 q2043 (by decide +kernel) ⟨by decide, by decide⟩ rfl (Nat.le_of_ble_eq_true rfl) rfl dX1_fits_224 (fun r2 σ3 hr4 => ?_)
      refine r_lstore (lv' := [(9, jv r2), (0, .ref (zm_h G)), (1, iv x1), (2, iv x2), (3, iv x3), (4, jv x4), (6, iv x6), (7, iv x7), (8, iv x8)]) h dX1_fits_227 (hN _ (by decide)) rfl ?_
      refine r_lconst (x := 0) h dX1_fits_229 (by decide) ?_
      refine r_lstore (lv' := [(4, jv 0), (9, jv r2), (0, .ref (zm_h G)), (1, iv x1), (2, iv x2), (3, iv x3), (6, iv x6), (7, iv x7), (8, iv x8)]) h dX1_fits_230 (hN _ (by decide)) rfl ?_
      refine r_iconst h dX1_fits_232 ?_
      refine r_istore (lv' := [(11, iv 0), (4, jv 0), (9, jv r2), (0, .ref (zm_h G)), (1, iv x1), (2, iv x2), (3, iv x3), (6, iv x6), (7, iv x7), (8, iv x8)]) h dX1_fits_233 (hN _ (by decide)) rfl ?_
      exact r_lv [3, 4, 5, 6, 1, 8, 2, 0] rfl (w_fits_235 h hc lp30 hlp30 zF _ x1 x2 x3 0 x7 r2 0 hx1 hx2 hx3 (by decide) hx7 hr4 (by decide))
    · refine r_iinc (lv' := [(7, iv (x7 + 1)), (0, .ref (zm_h G)), (1, iv x1), (2, iv x2), (3, iv x3), (4, jv x4), (6, iv x6), (8, iv x8)]) h 6 dX1_fits_315 rfl (hN _ (by decide)) rfl ?_
      refine r_goto h 30 dX1_fits_318 rfl ?_
      refine r_ck (fun hk5 => ?_)
      exact r_lv [1, 2, 3, 4, 5, 6, 0] rfl (hlp30 _ x1 x2 x3 x4 x6 (x7 + 1) hx1 hx2 hx3 hx4 hx6 hk5)
  · refine r_iinc (lv' := [(7, iv (x7 + 1)), (0, .ref (zm_h G)), (1, iv x1), (2, iv x2), (3, iv x3), (4, jv x4), (6, iv x6), (8, iv x8)]) h 6 dX1_fits_315 rfl (hN _ (by decide)) rfl ?_
    refine r_goto h 30 dX1_fits_318 rfl ?_
    refine r_ck (fun hk6 => ?_)
    exact r_lv [1, 2, 3, 4, 5, 6, 0] rfl (hlp30 _ x1 x2 x3 x4 x6 (x7 + 1) hx1 hx2 hx3 hx4 hx6 hk6)
def m_fits_174 (lp30 : MEM → Int → Int → Int → Int → Int → Int → Option zm_O) (σ : MEM) (x1 x2 x3 x4 x6 x7 x8 : Int) : Option zm_O := ck (0 ≤ x2 ∧ x2 < 60) (if (σ 29 x2) = 3 then (if x8 = 0 then (m_fits_203 lp30 σ x1 x2 x3 x4 x6 x7 x8) else (ck (0 ≤ (x3 + x7) ∧ (x3 + x7) < 1200) (if (σ 20 (x3 + x7)) = 0 then (some (0, σ)) else (m_fits_203 lp30 σ x1 x2 x3 x4 x6 x7 x8)))) else (m_fits_203 lp30 σ x1 x2 x3 x4 x6 x7 x8))
theorem w_fits_174 {C : zv_Cx zm_O} {G : zm_G} (h : zv_Ok C cX1_fits RX1) (hc : zm_C C G 12 (Option.some FieldType.boolean) 3 2 54) (lp30 : MEM → Int → Int → Int → Int → Int → Int → Option zm_O) (hlp30 : ∀ (σ : MEM) (x1 x2 x3 x4 x6 x7 : Int), inR x1 → inR x2 → inR x3 → inL x4 → isB x6 → inR x7 → VV C (lp30 σ x1 x2 x3 x4 x6 x7) σ [(0, .ref (zm_h G)), (1, iv x1), (2, iv x2), (3, iv x3), (4, jv x4), (6, iv x6), (7, iv x7)] [] 30) (σ : MEM) (x1 x2 x3 x4 x6 x7 x8 : Int) (hx1 : inR x1) (hx2 : inR x2) (hx3 : inR x3) (hx4 : inL x4) (hx6 : isB x6) (hx7 : inR x7) (hx8 : isB x8) : VV C (m_fits_174 lp30 σ x1 x2 x3 x4 x6 x7 x8) σ [(0, .ref (zm_h G)), (1, iv x1), (2, iv x2), (3, iv x3), (4, jv x4), (6, iv x6), (7, iv x7), (8, iv x8)] [] 174 := by
  have hN : ∀ i, i < 12 → i < zv_n C := fun i q => by rw [hc.2.2.1]; exact q
  unfold m_fits_174
  refine r_aload_n h 0 dX1_fits_174 rfl rfl ?_
  refine zm_getA h hc 29 (by decide) rfl q1509 rfl dX1_fits_175 ?_
  refine r_iload_n h 2 dX1_fits_178 rfl rfl ?_
  refine zm_ldI h hc 29 29 60 (by decide) rfl rfl rfl (by decide) dX1_fits_179 (fun _ hr1 => ?_)
  refine r_iconst h dX1_fits_180 ?_
  refine r_icmp_ne h hr1 (by decide) 203 dX1_fits_181 rfl ?_ ?_
  · refine r_iload h 7 dX1_fits_184 rfl ?_
    refine r_if_eq h hx8.r 203 dX1_fits_186 rfl ?_ ?_
    · exact r_lv [0, 1, 2, 3, 4, 5, 6, 7] rfl (w_fits_203 h hc lp30 hlp30 _ x1 x2 x3 x4 x6 x7 x8 hx1 hx2 hx3 hx4 hx6 hx7 hx8)
    · refine r_aload_n h 0 dX1_fits_189 rfl rfl ?_
      refine zm_getA h hc 20 (by decide) rfl q1500 rfl dX1_fits_190 ?_
      refine r_iload_n h 3 dX1_fits_193 rfl rfl ?_
      refine r_iload h 6 dX1_fits_194 rfl ?_
      refine r_iadd h dX1_fits_196 ?_
      refine zm_ldZ h hc 20 20 1200 (by decide) rfl rfl rfl (by decide) dX1_fits_197 (fun _ hr2 => ?_)
      refine r_if_ne h hr2.r 203 dX1_fits_198 rfl ?_ ?_
      · refine r_iconst h dX1_fits_201 ?_
        exact zm_zret h hc rfl (by decide) dX1_fits_202
      · exact r_lv [0, 1, 2, 3, 4, 5, 6, 7] rfl (w_fits_203 h hc lp30 hlp30 _ x1 x2 x3 x4 x6 x7 x8 hx1 hx2 hx3 hx4 hx6 hx7 hx8)
  · exact r_lv [0, 1, 2, 3, 4, 5, 6, 7] rfl (w_fits_203 h hc lp30 hlp30 _ x1 x2 x3 x4 x6 x7 x8 hx1 hx2 hx3 hx4 hx6 hx7 hx8)
def m_fits_144 (lp30 : MEM → Int → Int → Int → Int → Int → Int → Option zm_O) (σ : MEM) (x1 x2 x3 x4 x6 x7 x8 : Int) : Option zm_O := ck (0 ≤ x2 ∧ x2 < 60) (if (σ 29 x2) = 2 then (if x8 = 0 then (bd (m_named σ x2 (-1) x7) (fun r2 σ3 => if (j_cmp r2 0) = 0 then (some (0, σ3)) else (m_fits_174 lp30 σ3 x1 x2 x3 x4 x6 x7 x8))) else (m_fits_174 lp30 σ x1 x2 x3 x4 x6 x7 x8)) else (m_fits_174 lp30 σ x1 x2 x3 x4 x6 x7 x8))
theorem w_fits_144 {C : zv_Cx zm_O} {G : zm_G} (h : zv_Ok C cX1_fits RX1) (hc : zm_C C G 12 (Option.some FieldType.boolean) 3 2 54) (lp30 : MEM → Int → Int → Int → Int → Int → Int → Option zm_O) (hlp30 : ∀ (σ : MEM) (x1 x2 x3 x4 x6 x7 : Int), inR x1 → inR x2 → inR x3 → inL x4 → isB x6 → inR x7 → VV C (lp30 σ x1 x2 x3 x4 x6 x7) σ [(0, .ref (zm_h G)), (1, iv x1), (2, iv x2), (3, iv x3), (4, jv x4), (6, iv x6), (7, iv x7)] [] 30) (σ : MEM) (x1 x2 x3 x4 x6 x7 x8 : Int) (hx1 : inR x1) (hx2 : inR x2) (hx3 : inR x3) (hx4 : inL x4) (hx6 : isB x6) (hx7 : inR x7) (hx8 : isB x8) : VV C (m_fits_144 lp30 σ x1 x2 x3 x4 x6 x7 x8) σ [(0, .ref (zm_h G)), (1, iv x1), (2, iv x2), (3, iv x3), (4, jv x4), (6, iv x6), (7, iv x7), (8, iv x8)] [] 144 := by
  have hN : ∀ i, i < 12 → i < zv_n C := fun i q => by rw [hc.2.2.1]; exact q
  unfold m_fits_144
  refine r_aload_n h 0 dX1_fits_144 rfl rfl ?_
  refine zm_getA h hc 29 (by decide) rfl q1509 rfl dX1_fits_145 ?_
  refine r_iload_n h 2 dX1_fits_148 rfl rfl ?_
  refine zm_ldI h hc 29 29 60 (by decide) rfl rfl rfl (by decide) dX1_fits_149 (fun _ hr1 => ?_)
  refine r_iconst h dX1_fits_150 ?_
  refine r_icmp_ne h hr1 (by decide) 174 dX1_fits_151 rfl ?_ ?_
  · refine r_iload h 7 dX1_fits_154 rfl ?_
    refine r_if_ne h hx8.r 174 dX1_fits_156 rfl ?_ ?_
    · refine r_aload_n h 0 dX1_fits_159 rfl rfl ?_
      refine r_iload_n h 2 dX1_fits_160 rfl rfl ?_
      refine r_ldc2 (x := (-1)) h q2018 (by decide) dX1_fits_161 ?_
      refine r_iload h 6 dX1_fits_164 rfl ?_
      refine zm_cVj h hc (n := 3) (As := [iv x2, jv (-1), iv x7]) (fun o1 e1 => w_named hc.1 _ x2 (-1) x7 hx2 (by decide) hx7 o1 e1) q2040 q2042 qs104 q136 q2043 (by decide +kernel) ⟨by decide, by decide⟩ rfl (Nat.le_of_ble_eq_true rfl) rfl dX1_fits_166 (fun r2 σ3 hr4 => ?_)
      refine r_lconst (x := 0) h dX1_fits_169 (by decide) ?_
      refine r_lcmp h hr4 (by decide) dX1_fits_170 ?_
      refine r_if_eq h (j_cmp_r _ _) 201 dX1_fits_171 rfl ?_ ?_
      · refine r_iconst h dX1_fits_201 ?_
        exact zm_zret h hc rfl (by decide) dX1_fits_202
      · exact r_lv [0, 1, 2, 3, 4, 5, 6, 7] rfl (w_fits_174 h hc lp30 hlp30 _ x1 x2 x3 x4 x6 x7 x8 hx1 hx2 hx3 hx4 hx6 hx7 hx8)
    · exact r_lv [0, 1, 2, 3, 4, 5, 6, 7] rfl (w_fits_174 h hc lp30 hlp30 _ x1 x2 x3 x4 x6 x7 x8 hx1 hx2 hx3 hx4 hx6 hx7 hx8)
  · exact r_lv [0, 1, 2, 3, 4, 5, 6, 7] rfl (w_fits_174 h hc lp30 hlp30 _ x1 x2 x3 x4 x6 x7 x8 hx1 hx2 hx3 hx4 hx6 hx7 hx8)
def m_fits_91 (lp30 : MEM → Int → Int → Int → Int → Int → Int → Option zm_O) (σ : MEM) (x1 x2 x3 x4 x6 x7 s0 : Int) : Option zm_O := ck (0 ≤ x2 ∧ x2 < 60) (if (σ 29 x2) = 0 then (some (0, σ)) else (ck (0 ≤ x2 ∧ x2 < 60) (if (σ 29 x2) = 1 then (if s0 = 0 then (ck (0 ≤ (x3 + x7) ∧ (x3 + x7) < 1200) (ck (0 ≤ (x3 + x7) ∧ (x3 + x7) < 1200) (bd (m_declOf σ (σ 15 (x3 + x7)) (σ 16 (x3 + x7))) (fun r5 σ6 => if 0 ≤ r5 then (m_fits_144 lp30 σ6 x1 x2 x3 x4 x6 x7 s0) else (some (0, σ6)))))) else (m_fits_144 lp30 σ x1 x2 x3 x4 x6 x7 s0)) else (m_fits_144 lp30 σ x1 x2 x3 x4 x6 x7 s0))))
theorem w_fits_91 {C : zv_Cx zm_O} {G : zm_G} (h : zv_Ok C cX1_fits RX1) (hc : zm_C C G 12 (Option.some FieldType.boolean) 3 2 54) (lp30 : MEM → Int → Int → Int → Int → Int → Int → Option zm_O) (hlp30 : ∀ (σ : MEM) (x1 x2 x3 x4 x6 x7 : Int), inR x1 → inR x2 → inR x3 → inL x4 → isB x6 → inR x7 → VV C (lp30 σ x1 x2 x3 x4 x6 x7) σ [(0, .ref (zm_h G)), (1, iv x1), (2, iv x2), (3, iv x3), (4, jv x4), (6, iv x6), (7, iv x7)] [] 30) (σ : MEM) (x1 x2 x3 x4 x6 x7 s0 : Int) (hx1 : inR x1) (hx2 : inR x2) (hx3 : inR x3) (hx4 : inL x4) (hx6 : isB x6) (hx7 : inR x7) (hs0 : isB s0) : VV C (m_fits_91 lp30 σ x1 x2 x3 x4 x6 x7 s0) σ [(0, .ref (zm_h G)), (1, iv x1), (2, iv x2), (3, iv x3), (4, jv x4), (6, iv x6), (7, iv x7)] [iv s0] 91 := by
  have hN : ∀ i, i < 12 → i < zv_n C := fun i q => by rw [hc.2.2.1]; exact q
  unfold m_fits_91
  refine r_istore (lv' := [(8, iv s0), (0, .ref (zm_h G)), (1, iv x1), (2, iv x2), (3, iv x3), (4, jv x4), (6, iv x6), (7, iv x7)]) h dX1_fits_91 (hN _ (by decide)) rfl ?_
  refine r_aload_n h 1 dX1_fits_93 rfl rfl ?_
  refine zm_getA h hc 29 (by decide) rfl q1509 rfl dX1_fits_94 ?_
  refine r_iload_n h 3 dX1_fits_97 rfl rfl ?_
  refine zm_ldI h hc 29 29 60 (by decide) rfl rfl rfl (by decide) dX1_fits_98 (fun _ hr1 => ?_)
  refine r_if_eq h hr1 142 dX1_fits_99 rfl ?_ ?_
  · refine r_iconst h dX1_fits_142 ?_
    exact zm_zret h hc rfl (by decide) dX1_fits_143
  · refine r_aload_n h 1 dX1_fits_102 rfl rfl ?_
    refine zm_getA h hc 29 (by decide) rfl q1509 rfl dX1_fits_103 ?_
    refine r_iload_n h 3 dX1_fits_106 rfl rfl ?_
    refine zm_ldI h hc 29 29 60 (by decide) rfl rfl rfl (by decide) dX1_fits_107 (fun _ hr2 => ?_)
    refine r_iconst h dX1_fits_108 ?_
    refine r_icmp_ne h hr2 (by decide) 144 dX1_fits_109 rfl ?_ ?_
    · refine r_iload h 0 dX1_fits_112 rfl ?_
      refine r_if_ne h hs0.r 144 dX1_fits_114 rfl ?_ ?_
      · refine r_aload_n h 1 dX1_fits_117 rfl rfl ?_
        refine r_aload_n h 1 dX1_fits_118 rfl rfl ?_
        refine zm_getA h hc 15 (by decide) rfl q1495 rfl dX1_fits_119 ?_
        refine r_iload_n h 4 dX1_fits_122 rfl rfl ?_
        refine r_iload h 7 dX1_fits_123 rfl ?_
        refine r_iadd h dX1_fits_125 ?_
        refine zm_ldI h hc 15 15 1200 (by decide) rfl rfl rfl (by decide) dX1_fits_126 (fun _ hr3 => ?_)
        refine r_aload_n h 1 dX1_fits_127 rfl rfl ?_
        refine zm_getA h hc 16 (by decide) rfl q1496 rfl dX1_fits_128 ?_
        refine r_iload_n h 4 dX1_fits_131 rfl rfl ?_
        refine r_iload h 7 dX1_fits_132 rfl ?_
        refine r_iadd h dX1_fits_134 ?_
        refine zm_ldI h hc 16 16 1200 (by decide) rfl rfl rfl (by decide) dX1_fits_135 (fun _ hr4 => ?_)
        refine zm_cVi h hc (n := 2) (As := [iv (σ 15 (x3 + x7)), iv (σ 16 (x3 + x7))]) (fun o1 e1 => w_declOf hc.1 _ (σ 15 (x3 + x7)) (σ 16 (x3 + x7)) hr3 hr4 o1 e1) q2002 q2004 qs95 q136 q2005 (by decide +kernel) ⟨by decide, by decide⟩ rfl (Nat.le_of_ble_eq_true rfl) rfl dX1_fits_136 (fun r5 σ6 hr7 => ?_)
        refine r_if_ge h hr7 144 dX1_fits_139 rfl ?_ ?_
        · exact r_lv [1, 2, 3, 4, 5, 6, 7, 0] rfl (w_fits_144 h hc lp30 hlp30 _ x1 x2 x3 x4 x6 x7 s0 hx1 hx2 hx3 hx4 hx6 hx7 hs0)
        · refine r_iconst h dX1_fits_142 ?_
          exact zm_zret h hc rfl (by decide) dX1_fits_143
      · exact r_lv [1, 2, 3, 4, 5, 6, 7, 0] rfl (w_fits_144 h hc lp30 hlp30 _ x1 x2 x3 x4 x6 x7 s0 hx1 hx2 hx3 hx4 hx6 hx7 hs0)
    · exact r_lv [1, 2, 3, 4, 5, 6, 7, 0] rfl (w_fits_144 h hc lp30 hlp30 _ x1 x2 x3 x4 x6 x7 s0 hx1 hx2 hx3 hx4 hx6 hx7 hs0)
def m_fits_30 : Nat → MEM → Int → Int → Int → Int → Int → Int → Option zm_O
  | 0, _, _, _, _, _, _, _ => none
  | n + 1, σ, x1, x2, x3, x4, x6, x7 => ck (0 ≤ (σ (-1) 7) ∧ (σ (-1) 7) < 2) (if (σ 12 (σ (-1) 7)) ≤ x7 then (ck (0 ≤ x2 ∧ x2 < 60) (if (σ 29 x2) = 3 then (if x6 = 0 then (some (0, σ)) else (some (1, σ))) else (some (1, σ)))) else (ck (0 ≤ (x3 + x7) ∧ (x3 + x7) < 1200) (if (σ 14 (x3 + x7)) = x1 then (ck (0 ≤ (x3 + x7) ∧ (x3 + x7) < 1200) (if (σ 13 (x3 + x7)) = 2 then (ck (inR (x7 + 1)) (m_fits_30 n σ x1 x2 x3 x4 x6 (x7 + 1))) else (ck (0 ≤ (x3 + x7) ∧ (x3 + x7) < 1200) (if (σ 13 (x3 + x7)) = 3 then (m_fits_91 (m_fits_30 n) σ x1 x2 x3 x4 x6 x7 1) else (m_fits_91 (m_fits_30 n) σ x1 x2 x3 x4 x6 x7 0))))) else (ck (inR (x7 + 1)) (m_fits_30 n σ x1 x2 x3 x4 x6 (x7 + 1))))))
theorem w_fits_30 {C : zv_Cx zm_O} {G : zm_G} (h : zv_Ok C cX1_fits RX1) (hc : zm_C C G 12 (Option.some FieldType.boolean) 3 2 54) : ∀ (n : Nat) (σ : MEM) (x1 x2 x3 x4 x6 x7 : Int), inR x1 → inR x2 → inR x3 → inL x4 → isB x6 → inR x7 → VV C (m_fits_30 n σ x1 x2 x3 x4 x6 x7) σ [(0, .ref (zm_h G)), (1, iv x1), (2, iv x2), (3, iv x3), (4, jv x4), (6, iv x6), (7, iv x7)] [] 30 := by
  have hN : ∀ i, i < 12 → i < zv_n C := fun i q => by rw [hc.2.2.1]; exact q
  intro n
  induction n with
  | zero => intros; exact r_none
  | succ n ih =>
    intro σ x1 x2 x3 x4 x6 x7 hx1 hx2 hx3 hx4 hx6 hx7
    rw [m_fits_30]
    refine r_iload h 6 dX1_fits_30 rfl ?_
    refine r_aload_n h 0 dX1_fits_32 rfl rfl ?_
    refine zm_getA h hc 12 (by decide) rfl q1492 rfl dX1_fits_33 ?_
    refine r_aload_n h 0 dX1_fits_36 rfl rfl ?_
    refine zm_getI h hc 7 7 (by decide) rfl rfl q1487 rfl dX1_fits_37 (fun hr1 => ?_)
    refine zm_ldI h hc 12 12 2 (by decide) rfl rfl rfl (by decide) dX1_fits_40 (fun _ hr2 => ?_)
    refine r_icmp_ge h hx7 hr2 321 dX1_fits_41 rfl ?_ ?_
    · refine r_aload_n h 0 dX1_fits_321 rfl rfl ?_
      refine zm_getA h hc 29 (by decide) rfl q1509 rfl dX1_fits_322 ?_
      refine r_iload_n h 2 dX1_fits_325 rfl rfl ?_
      refine zm_ldI h hc 29 29 60 (by decide) rfl rfl rfl (by decide) dX1_fits_326 (fun _ hr3 => ?_)
      refine r_iconst h dX1_fits_327 ?_
      refine r_icmp_ne h hr3 (by decide) 336 dX1_fits_328 rfl ?_ ?_
      · refine r_iload h 5 dX1_fits_331 rfl ?_
        refine r_if_eq h hx6.r 340 dX1_fits_333 rfl ?_ ?_
        · refine r_iconst h dX1_fits_340 ?_
          exact zm_zret h hc rfl (by decide) dX1_fits_341
        · refine r_iconst h dX1_fits_336 ?_
          refine r_goto h 341 dX1_fits_337 rfl ?_
          exact zm_zret h hc rfl (by decide) dX1_fits_341
      · refine r_iconst h dX1_fits_336 ?_
        refine r_goto h 341 dX1_fits_337 rfl ?_
        exact zm_zret h hc rfl (by decide) dX1_fits_341
    · refine r_aload_n h 0 dX1_fits_44 rfl rfl ?_
      refine zm_getA h hc 14 (by decide) rfl q1494 rfl dX1_fits_45 ?_
      refine r_iload_n h 3 dX1_fits_48 rfl rfl ?_
      refine r_iload h 6 dX1_fits_49 rfl ?_
      refine r_iadd h dX1_fits_51 ?_
      refine zm_ldI h hc 14 14 1200 (by decide) rfl rfl rfl (by decide) dX1_fits_52 (fun _ hr4 => ?_)
      refine r_iload_n h 1 dX1_fits_53 rfl rfl ?_
      refine r_icmp_ne h hr4 hx1 315 dX1_fits_54 rfl ?_ ?_
      · refine r_aload_n h 0 dX1_fits_57 rfl rfl ?_
        refine zm_getA h hc 13 (by decide) rfl q1493 rfl dX1_fits_58 ?_
        refine r_iload_n h 3 dX1_fits_61 rfl rfl ?_
        refine r_iload h 6 dX1_fits_62 rfl ?_
        refine r_iadd h dX1_fits_64 ?_
        refine zm_ldI h hc 13 13 1200 (by decide) rfl rfl rfl (by decide) dX1_fits_65 (fun _ hr5 => ?_)
        refine r_iconst h dX1_fits_66 ?_
        refine r_icmp_ne h hr5 (by decide) 73 dX1_fits_67 rfl ?_ ?_
        · refine r_goto h 315 dX1_fits_70 rfl ?_
          refine r_iinc (lv' := [(7, iv (x7 + 1)), (0, .ref (zm_h G)), (1, iv x1), (2, iv x2), (3, iv x3), (4, jv x4), (6, iv x6)]) h 6 dX1_fits_315 rfl (hN _ (by decide)) rfl ?_
          refine r_goto h 30 dX1_fits_318 rfl ?_
          refine r_ck (fun hk6 => ?_)
          exact r_lv [1, 2, 3, 4, 5, 6, 0] rfl (ih _ x1 x2 x3 x4 x6 (x7 + 1) hx1 hx2 hx3 hx4 hx6 hk6)
        · refine r_aload_n h 0 dX1_fits_73 rfl rfl ?_
          refine zm_getA h hc 13 (by decide) rfl q1493 rfl dX1_fits_74 ?_
          refine r_iload_n h 3 dX1_fits_77 rfl rfl ?_
          refine r_iload h 6 dX1_fits_78 rfl ?_
          refine r_iadd h dX1_fits_80 ?_
          refine zm_ldI h hc 13 13 1200 (by decide) rfl rfl rfl (by decide) dX1_fits_81 (fun _ hr7 => ?_)
          refine r_iconst h dX1_fits_82 ?_
          refine r_icmp_ne h hr7 (by decide) 90 dX1_fits_83 rfl ?_ ?_
          · refine r_iconst h dX1_fits_86 ?_
            refine r_goto h 91 dX1_fits_87 rfl ?_
            exact r_lv [0, 1, 2, 3, 4, 5, 6] rfl (w_fits_91 h hc (m_fits_30 n) ih _ x1 x2 x3 x4 x6 x7 1 hx1 hx2 hx3 hx4 hx6 hx7 (by decide))
          · refine r_iconst h dX1_fits_90 ?_
            exact r_lv [0, 1, 2, 3, 4, 5, 6] rfl (w_fits_91 h hc (m_fits_30 n) ih _ x1 x2 x3 x4 x6 x7 0 hx1 hx2 hx3 hx4 hx6 hx7 (by decide))
      · refine r_iinc (lv' := [(7, iv (x7 + 1)), (0, .ref (zm_h G)), (1, iv x1), (2, iv x2), (3, iv x3), (4, jv x4), (6, iv x6)]) h 6 dX1_fits_315 rfl (hN _ (by decide)) rfl ?_
        refine r_goto h 30 dX1_fits_318 rfl ?_
        refine r_ck (fun hk8 => ?_)
        exact r_lv [1, 2, 3, 4, 5, 6, 0] rfl (ih _ x1 x2 x3 x4 x6 (x7 + 1) hx1 hx2 hx3 hx4 hx6 hk8)
def m_fits (σ : MEM) (a0 a1 : Int) : Option zm_O := ck (0 ≤ a1 ∧ a1 < 60) (ck (0 ≤ a1 ∧ a1 < 60) (ck (inR (600 * (σ (-1) 7))) (ck (inR (a0 + 1)) (m_fits_30 zF σ a0 a1 (600 * (σ (-1) 7)) (σ 33 a1) (σ 35 a1) (a0 + 1)))))
theorem w_fits {G : zm_G} (hD : zm_D G) (σ : MEM) (a0 a1 : Int) (ha0 : inR a0) (ha1 : inR a1) (o : zm_O) (hd : m_fits σ a0 a1 = some o) : zm_Met G yX1_fits cX1_fits 12 (Option.some FieldType.boolean) 3 2 54 σ [.ref (zm_h G), iv a0, iv a1] o := by
  refine zm_intro hD hd (by decide) rfl (Nat.le_of_ble_eq_true rfl) rfl (fun C h hc => ?_)
  have hN : ∀ i, i < 12 → i < zv_n C := fun i q => by rw [hc.2.2.1]; exact q
  unfold m_fits
  refine r_sipush h dX1_fits_0 (by decide) ?_
  refine r_aload_n h 0 dX1_fits_3 rfl rfl ?_
  refine zm_getI h hc 7 7 (by decide) rfl rfl q1487 rfl dX1_fits_4 (fun hr1 => ?_)
  refine r_imul h dX1_fits_7 ?_
  refine r_istore_n (lv' := [(3, iv (600 * (σ (-1) 7))), (0, .ref (zm_h G)), (1, iv a0), (2, iv a1)]) h dX1_fits_8 rfl (hN _ (by decide)) rfl ?_
  refine r_aload_n h 1 dX1_fits_9 rfl rfl ?_
  refine zm_getA h hc 33 (by decide) rfl q1513 rfl dX1_fits_10 ?_
  refine r_iload_n h 3 dX1_fits_13 rfl rfl ?_
  refine zm_ldJ h hc 33 33 60 (by decide) rfl rfl rfl (by decide) dX1_fits_14 (fun _ hr2 => ?_)
  refine r_lstore (lv' := [(4, jv (σ 33 a1)), (3, iv (600 * (σ (-1) 7))), (0, .ref (zm_h G)), (1, iv a0), (2, iv a1)]) h dX1_fits_15 (hN _ (by decide)) rfl ?_
  refine r_aload_n h 2 dX1_fits_17 rfl rfl ?_
  refine zm_getA h hc 35 (by decide) rfl q1515 rfl dX1_fits_18 ?_
  refine r_iload_n h 4 dX1_fits_21 rfl rfl ?_
  refine zm_ldZ h hc 35 35 60 (by decide) rfl rfl rfl (by decide) dX1_fits_22 (fun _ hr3 => ?_)
  refine r_istore (lv' := [(6, iv (σ 35 a1)), (4, jv (σ 33 a1)), (3, iv (600 * (σ (-1) 7))), (0, .ref (zm_h G)), (1, iv a0), (2, iv a1)]) h dX1_fits_23 (hN _ (by decide)) rfl ?_
  refine r_iload_n h 4 dX1_fits_25 rfl rfl ?_
  refine r_iconst h dX1_fits_26 ?_
  refine r_iadd h dX1_fits_27 ?_
  refine r_istore (lv' := [(7, iv (a0 + 1)), (6, iv (σ 35 a1)), (4, jv (σ 33 a1)), (3, iv (600 * (σ (-1) 7))), (0, .ref (zm_h G)), (1, iv a0), (2, iv a1)]) h dX1_fits_28 (hN _ (by decide)) rfl ?_
  refine r_ck (fun hk4 => ?_)
  refine r_ck (fun hk5 => ?_)
  exact r_lv [4, 5, 6, 3, 2, 1, 0] rfl (w_fits_30 h hc zF _ a0 a1 (600 * (σ (-1) 7)) (σ 33 a1) (σ 35 a1) (a0 + 1) ha0 ha1 hk4 hr2 hr3 hk5)
theorem dX1_ruleFor_0 : decode cX1_ruleFor 0 = .ok (.sipush 800, 3) := by decide +kernel
theorem dX1_ruleFor_3 : decode cX1_ruleFor 3 = .ok (.aload_n 0, 1) := by decide +kernel
theorem dX1_ruleFor_4 : decode cX1_ruleFor 4 = .ok (.getfield 482, 3) := by decide +kernel
theorem dX1_ruleFor_7 : decode cX1_ruleFor 7 = .ok (.imul, 1) := by decide +kernel
theorem dX1_ruleFor_8 : decode cX1_ruleFor 8 = .ok (.istore_n 3, 1) := by decide +kernel
theorem dX1_ruleFor_9 : decode cX1_ruleFor 9 = .ok (.iload_n 3, 1) := by decide +kernel
theorem dX1_ruleFor_10 : decode cX1_ruleFor 10 = .ok (.sipush 800, 3) := by decide +kernel
theorem dX1_ruleFor_13 : decode cX1_ruleFor 13 = .ok (.aload_n 0, 1) := by decide +kernel
theorem dX1_ruleFor_14 : decode cX1_ruleFor 14 = .ok (.getfield 482, 3) := by decide +kernel
theorem dX1_ruleFor_17 : decode cX1_ruleFor 17 = .ok (.imul, 1) := by decide +kernel
theorem dX1_ruleFor_18 : decode cX1_ruleFor 18 = .ok (.aload_n 0, 1) := by decide +kernel
theorem dX1_ruleFor_19 : decode cX1_ruleFor 19 = .ok (.getfield 104, 3) := by decide +kernel
theorem dX1_ruleFor_22 : decode cX1_ruleFor 22 = .ok (.aload_n 0, 1) := by decide +kernel
theorem dX1_ruleFor_23 : decode cX1_ruleFor 23 = .ok (.getfield 482, 3) := by decide +kernel
theorem dX1_ruleFor_26 : decode cX1_ruleFor 26 = .ok (.iaload, 1) := by decide +kernel
theorem dX1_ruleFor_27 : decode cX1_ruleFor 27 = .ok (.iadd, 1) := by decide +kernel
theorem dX1_ruleFor_28 : decode cX1_ruleFor 28 = .ok (.if_icmp .ge 113, 3) := by decide +kernel
theorem dX1_ruleFor_31 : decode cX1_ruleFor 31 = .ok (.aload_n 0, 1) := by decide +kernel
theorem dX1_ruleFor_32 : decode cX1_ruleFor 32 = .ok (.aload_n 0, 1) := by decide +kernel
theorem dX1_ruleFor_33 : decode cX1_ruleFor 33 = .ok (.getfield 107, 3) := by decide +kernel
theorem dX1_ruleFor_36 : decode cX1_ruleFor 36 = .ok (.iload_n 3, 1) := by decide +kernel
theorem dX1_ruleFor_37 : decode cX1_ruleFor 37 = .ok (.iaload, 1) := by decide +kernel
theorem dX1_ruleFor_38 : decode cX1_ruleFor 38 = .ok (.aload_n 0, 1) := by decide +kernel
theorem dX1_ruleFor_39 : decode cX1_ruleFor 39 = .ok (.getfield 110, 3) := by decide +kernel
theorem dX1_ruleFor_42 : decode cX1_ruleFor 42 = .ok (.iload_n 3, 1) := by decide +kernel
theorem dX1_ruleFor_43 : decode cX1_ruleFor 43 = .ok (.iaload, 1) := by decide +kernel
theorem dX1_ruleFor_44 : decode cX1_ruleFor 44 = .ok (.aload_n 0, 1) := by decide +kernel
theorem dX1_ruleFor_45 : decode cX1_ruleFor 45 = .ok (.getfield 37, 3) := by decide +kernel
theorem dX1_ruleFor_48 : decode cX1_ruleFor 48 = .ok (.sipush 600, 3) := by decide +kernel
theorem dX1_ruleFor_51 : decode cX1_ruleFor 51 = .ok (.aload_n 0, 1) := by decide +kernel
theorem dX1_ruleFor_52 : decode cX1_ruleFor 52 = .ok (.getfield 482, 3) := by decide +kernel
theorem dX1_ruleFor_55 : decode cX1_ruleFor 55 = .ok (.imul, 1) := by decide +kernel
theorem dX1_ruleFor_56 : decode cX1_ruleFor 56 = .ok (.iload_n 1, 1) := by decide +kernel
theorem dX1_ruleFor_57 : decode cX1_ruleFor 57 = .ok (.iadd, 1) := by decide +kernel
theorem dX1_ruleFor_58 : decode cX1_ruleFor 58 = .ok (.iaload, 1) := by decide +kernel
theorem dX1_ruleFor_59 : decode cX1_ruleFor 59 = .ok (.aload_n 0, 1) := by decide +kernel
theorem dX1_ruleFor_60 : decode cX1_ruleFor 60 = .ok (.getfield 40, 3) := by decide +kernel
theorem dX1_ruleFor_63 : decode cX1_ruleFor 63 = .ok (.sipush 600, 3) := by decide +kernel
theorem dX1_ruleFor_66 : decode cX1_ruleFor 66 = .ok (.aload_n 0, 1) := by decide +kernel
theorem dX1_ruleFor_67 : decode cX1_ruleFor 67 = .ok (.getfield 482, 3) := by decide +kernel
theorem dX1_ruleFor_70 : decode cX1_ruleFor 70 = .ok (.imul, 1) := by decide +kernel
theorem dX1_ruleFor_71 : decode cX1_ruleFor 71 = .ok (.iload_n 1, 1) := by decide +kernel
theorem dX1_ruleFor_72 : decode cX1_ruleFor 72 = .ok (.iadd, 1) := by decide +kernel
theorem dX1_ruleFor_73 : decode cX1_ruleFor 73 = .ok (.iaload, 1) := by decide +kernel
theorem dX1_ruleFor_74 : decode cX1_ruleFor 74 = .ok (.invokevirtual 412, 3) := by decide +kernel
theorem dX1_ruleFor_77 : decode cX1_ruleFor 77 = .ok (.istore 4, 2) := by decide +kernel
theorem dX1_ruleFor_79 : decode cX1_ruleFor 79 = .ok (.iload 4, 2) := by decide +kernel
theorem dX1_ruleFor_81 : decode cX1_ruleFor 81 = .ok (.ifCond .eq 54, 3) := by decide +kernel
theorem dX1_ruleFor_84 : decode cX1_ruleFor 84 = .ok (.aload_n 0, 1) := by decide +kernel
theorem dX1_ruleFor_85 : decode cX1_ruleFor 85 = .ok (.aload_n 0, 1) := by decide +kernel
theorem dX1_ruleFor_86 : decode cX1_ruleFor 86 = .ok (.getfield 113, 3) := by decide +kernel
theorem dX1_ruleFor_89 : decode cX1_ruleFor 89 = .ok (.iload_n 3, 1) := by decide +kernel
theorem dX1_ruleFor_90 : decode cX1_ruleFor 90 = .ok (.iaload, 1) := by decide +kernel
theorem dX1_ruleFor_91 : decode cX1_ruleFor 91 = .ok (.aload_n 0, 1) := by decide +kernel
theorem dX1_ruleFor_92 : decode cX1_ruleFor 92 = .ok (.getfield 116, 3) := by decide +kernel
theorem dX1_ruleFor_95 : decode cX1_ruleFor 95 = .ok (.iload_n 3, 1) := by decide +kernel
theorem dX1_ruleFor_96 : decode cX1_ruleFor 96 = .ok (.iaload, 1) := by decide +kernel
theorem dX1_ruleFor_97 : decode cX1_ruleFor 97 = .ok (.aload_n 0, 1) := by decide +kernel
theorem dX1_ruleFor_98 : decode cX1_ruleFor 98 = .ok (.getfield 37, 3) := by decide +kernel
theorem dX1_ruleFor_101 : decode cX1_ruleFor 101 = .ok (.sipush 600, 3) := by decide +kernel
theorem dX1_ruleFor_104 : decode cX1_ruleFor 104 = .ok (.aload_n 0, 1) := by decide +kernel
theorem dX1_ruleFor_105 : decode cX1_ruleFor 105 = .ok (.getfield 482, 3) := by decide +kernel
theorem dX1_ruleFor_108 : decode cX1_ruleFor 108 = .ok (.imul, 1) := by decide +kernel
theorem dX1_ruleFor_109 : decode cX1_ruleFor 109 = .ok (.iload_n 2, 1) := by decide +kernel
theorem dX1_ruleFor_110 : decode cX1_ruleFor 110 = .ok (.iadd, 1) := by decide +kernel
theorem dX1_ruleFor_111 : decode cX1_ruleFor 111 = .ok (.iaload, 1) := by decide +kernel
theorem dX1_ruleFor_112 : decode cX1_ruleFor 112 = .ok (.aload_n 0, 1) := by decide +kernel
theorem dX1_ruleFor_113 : decode cX1_ruleFor 113 = .ok (.getfield 40, 3) := by decide +kernel
theorem dX1_ruleFor_116 : decode cX1_ruleFor 116 = .ok (.sipush 600, 3) := by decide +kernel
theorem dX1_ruleFor_119 : decode cX1_ruleFor 119 = .ok (.aload_n 0, 1) := by decide +kernel
theorem dX1_ruleFor_120 : decode cX1_ruleFor 120 = .ok (.getfield 482, 3) := by decide +kernel
theorem dX1_ruleFor_123 : decode cX1_ruleFor 123 = .ok (.imul, 1) := by decide +kernel
theorem dX1_ruleFor_124 : decode cX1_ruleFor 124 = .ok (.iload_n 2, 1) := by decide +kernel
theorem dX1_ruleFor_125 : decode cX1_ruleFor 125 = .ok (.iadd, 1) := by decide +kernel
theorem dX1_ruleFor_126 : decode cX1_ruleFor 126 = .ok (.iaload, 1) := by decide +kernel
theorem dX1_ruleFor_127 : decode cX1_ruleFor 127 = .ok (.invokevirtual 412, 3) := by decide +kernel
theorem dX1_ruleFor_130 : decode cX1_ruleFor 130 = .ok (.ifCond .eq 5, 3) := by decide +kernel
theorem dX1_ruleFor_133 : decode cX1_ruleFor 133 = .ok (.iload_n 3, 1) := by decide +kernel
theorem dX1_ruleFor_134 : decode cX1_ruleFor 134 = .ok (.ireturn, 1) := by decide +kernel
theorem dX1_ruleFor_135 : decode cX1_ruleFor 135 = .ok (.iinc 3 1, 3) := by decide +kernel
theorem dX1_ruleFor_138 : decode cX1_ruleFor 138 = .ok (.goto (-129), 3) := by decide +kernel
theorem dX1_ruleFor_141 : decode cX1_ruleFor 141 = .ok (.iconst (-1), 1) := by decide +kernel
theorem dX1_ruleFor_142 : decode cX1_ruleFor 142 = .ok (.ireturn, 1) := by decide +kernel
def m_ruleFor_9 : Nat → MEM → Int → Int → Int → Option zm_O
  | 0, _, _, _, _ => none
  | n + 1, σ, x1, x2, x3 => ck (0 ≤ (σ (-1) 7) ∧ (σ (-1) 7) < 2) (ck (inR ((800 * (σ (-1) 7)) + (σ 37 (σ (-1) 7)))) (if ((800 * (σ (-1) 7)) + (σ 37 (σ (-1) 7))) ≤ x3 then (some ((-1), σ)) else (ck (0 ≤ x3 ∧ x3 < 1600) (ck (0 ≤ x3 ∧ x3 < 1600) (ck (0 ≤ ((600 * (σ (-1) 7)) + x1) ∧ ((600 * (σ (-1) 7)) + x1) < 1200) (ck (0 ≤ ((600 * (σ (-1) 7)) + x1) ∧ ((600 * (σ (-1) 7)) + x1) < 1200) (bd (m_isSame σ (σ 38 x3) (σ 39 x3) (σ 15 ((600 * (σ (-1) 7)) + x1)) (σ 16 ((600 * (σ (-1) 7)) + x1))) (fun r11 σ12 => if r11 = 0 then (ck (inR (x3 + 1)) (m_ruleFor_9 n σ12 x1 x2 (x3 + 1))) else (ck (0 ≤ x3 ∧ x3 < 1600) (ck (0 ≤ x3 ∧ x3 < 1600) (ck (0 ≤ ((600 * (σ12 (-1) 7)) + x2) ∧ ((600 * (σ12 (-1) 7)) + x2) < 1200) (ck (0 ≤ ((600 * (σ12 (-1) 7)) + x2) ∧ ((600 * (σ12 (-1) 7)) + x2) < 1200) (bd (m_isSame σ12 (σ12 40 x3) (σ12 41 x3) (σ12 15 ((600 * (σ12 (-1) 7)) + x2)) (σ12 16 ((600 * (σ12 (-1) 7)) + x2))) (fun r21 σ22 => if r21 = 0 then (ck (inR (x3 + 1)) (m_ruleFor_9 n σ22 x1 x2 (x3 + 1))) else (some (x3, σ22))))))))))))))))
theorem w_ruleFor_9 {C : zv_Cx zm_O} {G : zm_G} (h : zv_Ok C cX1_ruleFor RX1) (hc : zm_C C G 5 (Option.some FieldType.int) 1 1 26) : ∀ (n : Nat) (σ : MEM) (x1 x2 x3 : Int), inR x1 → inR x2 → inR x3 → VV C (m_ruleFor_9 n σ x1 x2 x3) σ [(0, .ref (zm_h G)), (1, iv x1), (2, iv x2), (3, iv x3)] [] 9 := by
  have hN : ∀ i, i < 5 → i < zv_n C := fun i q => by rw [hc.2.2.1]; exact q
  intro n
  induction n with
  | zero => intros; exact r_none
  | succ n ih =>
    intro σ x1 x2 x3 hx1 hx2 hx3
    rw [m_ruleFor_9]
    refine r_iload_n h 3 dX1_ruleFor_9 rfl rfl ?_
    refine r_sipush h dX1_ruleFor_10 (by decide) ?_
    refine r_aload_n h 0 dX1_ruleFor_13 rfl rfl ?_
    refine zm_getI h hc 7 7 (by decide) rfl rfl q1487 rfl dX1_ruleFor_14 (fun hr1 => ?_)
    refine r_imul h dX1_ruleFor_17 ?_
    refine r_aload_n h 0 dX1_ruleFor_18 rfl rfl ?_
    refine zm_getA h hc 37 (by decide) rfl q1517 rfl dX1_ruleFor_19 ?_
    refine r_aload_n h 0 dX1_ruleFor_22 rfl rfl ?_
    refine zm_getI h hc 7 7 (by decide) rfl rfl q1487 rfl dX1_ruleFor_23 (fun hr2 => ?_)
    refine zm_ldI h hc 37 37 2 (by decide) rfl rfl rfl (by decide) dX1_ruleFor_26 (fun _ hr3 => ?_)
    refine r_iadd h dX1_ruleFor_27 ?_
    refine r_ck (fun hk4 => ?_)
    refine r_icmp_ge h hx3 hk4 141 dX1_ruleFor_28 rfl ?_ ?_
    · refine r_iconst h dX1_ruleFor_141 ?_
      exact zm_iret h hc rfl (by decide) dX1_ruleFor_142
    · refine r_aload_n h 0 dX1_ruleFor_31 rfl rfl ?_
      refine r_aload_n h 0 dX1_ruleFor_32 rfl rfl ?_
      refine zm_getA h hc 38 (by decide) rfl q1518 rfl dX1_ruleFor_33 ?_
      refine r_iload_n h 3 dX1_ruleFor_36 rfl rfl ?_
      refine zm_ldI h hc 38 38 1600 (by decide) rfl rfl rfl (by decide) dX1_ruleFor_37 (fun _ hr5 => ?_)
      refine r_aload_n h 0 dX1_ruleFor_38 rfl rfl ?_
      refine zm_getA h hc 39 (by decide) rfl q1519 rfl dX1_ruleFor_39 ?_
      refine r_iload_n h 3 dX1_ruleFor_42 rfl rfl ?_
      refine zm_ldI h hc 39 39 1600 (by decide) rfl rfl rfl (by decide) dX1_ruleFor_43 (fun _ hr6 => ?_)
      refine r_aload_n h 0 dX1_ruleFor_44 rfl rfl ?_
      refine zm_getA h hc 15 (by decide) rfl q1495 rfl dX1_ruleFor_45 ?_
      refine r_sipush h dX1_ruleFor_48 (by decide) ?_
      refine r_aload_n h 0 dX1_ruleFor_51 rfl rfl ?_
      refine zm_getI h hc 7 7 (by decide) rfl rfl q1487 rfl dX1_ruleFor_52 (fun hr7 => ?_)
      refine r_imul h dX1_ruleFor_55 ?_
      refine r_iload_n h 1 dX1_ruleFor_56 rfl rfl ?_
      refine r_iadd h dX1_ruleFor_57 ?_
      refine zm_ldI h hc 15 15 1200 (by decide) rfl rfl rfl (by decide) dX1_ruleFor_58 (fun _ hr8 => ?_)
      refine r_aload_n h 0 dX1_ruleFor_59 rfl rfl ?_
      refine zm_getA h hc 16 (by decide) rfl q1496 rfl dX1_ruleFor_60 ?_
      refine r_sipush h dX1_ruleFor_63 (by decide) ?_
      refine r_aload_n h 0 dX1_ruleFor_66 rfl rfl ?_
      refine zm_getI h hc 7 7 (by decide) rfl rfl q1487 rfl dX1_ruleFor_67 (fun hr9 => ?_)
      refine r_imul h dX1_ruleFor_70 ?_
      refine r_iload_n h 1 dX1_ruleFor_71 rfl rfl ?_
      refine r_iadd h dX1_ruleFor_72 ?_
      refine zm_ldI h hc 16 16 1200 (by decide) rfl rfl rfl (by decide) dX1_ruleFor_73 (fun _ hr10 => ?_)
      refine zm_cVz h hc (n := 4) (As := [iv (σ 38 x3), iv (σ 39 x3), iv (σ 15 ((600 * (σ (-1) 7)) + x1)), iv (σ 16 ((600 * (σ (-1) 7)) + x1))]) (fun o1 e1 => w_isSame hc.1 _ (σ 38 x3) (σ 39 x3) (σ 15 ((600 * (σ (-1) 7)) + x1)) (σ 16 ((600 * (σ (-1) 7)) + x1)) hr5 hr6 hr8 hr10 o1 e1) q1924 q1926 qs79 q136 q1927 (by decide +kernel) ⟨by decide, by decide⟩ rfl (Nat.le_of_ble_eq_true rfl) rfl dX1_ruleFor_74 (fun r11 σ12 hr13 => ?_)
      refine r_istore (lv' := [(4, iv r11), (0, .ref (zm_h G)), (1, iv x1), (2, iv x2), (3, iv x3)]) h dX1_ruleFor_77 (hN _ (by decide)) rfl ?_
      refine r_iload h 0 dX1_ruleFor_79 rfl ?_
      refine r_if_eq h hr13.r 135 dX1_ruleFor_81 rfl ?_ ?_
      · refine r_iinc (lv' := [(3, iv (x3 + 1)), (4, iv r11), (0, .ref (zm_h G)), (1, iv x1), (2, iv x2)]) h 4 dX1_ruleFor_135 rfl (hN _ (by decide)) rfl ?_
        refine r_goto h 9 dX1_ruleFor_138 rfl ?_
        refine r_ck (fun hk14 => ?_)
        exact r_lv [2, 3, 4, 0] rfl (ih _ x1 x2 (x3 + 1) hx1 hx2 hk14)
      · refine r_aload_n h 1 dX1_ruleFor_84 rfl rfl ?_
        refine r_aload_n h 1 dX1_ruleFor_85 rfl rfl ?_
        refine zm_getA h hc 40 (by decide) rfl q1520 rfl dX1_ruleFor_86 ?_
        refine r_iload_n h 4 dX1_ruleFor_89 rfl rfl ?_
        refine zm_ldI h hc 40 40 1600 (by decide) rfl rfl rfl (by decide) dX1_ruleFor_90 (fun _ hr15 => ?_)
        refine r_aload_n h 1 dX1_ruleFor_91 rfl rfl ?_
        refine zm_getA h hc 41 (by decide) rfl q1521 rfl dX1_ruleFor_92 ?_
        refine r_iload_n h 4 dX1_ruleFor_95 rfl rfl ?_
        refine zm_ldI h hc 41 41 1600 (by decide) rfl rfl rfl (by decide) dX1_ruleFor_96 (fun _ hr16 => ?_)
        refine r_aload_n h 1 dX1_ruleFor_97 rfl rfl ?_
        refine zm_getA h hc 15 (by decide) rfl q1495 rfl dX1_ruleFor_98 ?_
        refine r_sipush h dX1_ruleFor_101 (by decide) ?_
        refine r_aload_n h 1 dX1_ruleFor_104 rfl rfl ?_
        refine zm_getI h hc 7 7 (by decide) rfl rfl q1487 rfl dX1_ruleFor_105 (fun hr17 => ?_)
        refine r_imul h dX1_ruleFor_108 ?_
        refine r_iload_n h 3 dX1_ruleFor_109 rfl rfl ?_
        refine r_iadd h dX1_ruleFor_110 ?_
        refine zm_ldI h hc 15 15 1200 (by decide) rfl rfl rfl (by decide) dX1_ruleFor_111 (fun _ hr18 => ?_)
        refine r_aload_n h 1 dX1_ruleFor_112 rfl rfl ?_
        refine zm_getA h hc 16 (by decide) rfl q1496 rfl dX1_ruleFor_113 ?_
        refine r_sipush h dX1_ruleFor_116 (by decide) ?_
        refine r_aload_n h 1 dX1_ruleFor_119 rfl rfl ?_
        refine zm_getI h hc 7 7 (by decide) rfl rfl q1487 rfl dX1_ruleFor_120 (fun hr19 => ?_)
        refine r_imul h dX1_ruleFor_123 ?_
        refine r_iload_n h 3 dX1_ruleFor_124 rfl rfl ?_
        refine r_iadd h dX1_ruleFor_125 ?_
        refine zm_ldI h hc 16 16 1200 (by decide) rfl rfl rfl (by decide) dX1_ruleFor_126 (fun _ hr20 => ?_)
        refine zm_cVz h hc (n := 4) (As := [iv (σ12 40 x3), iv (σ12 41 x3), iv (σ12 15 ((600 * (σ12 (-1) 7)) + x2)), iv (σ12 16 ((600 * (σ12 (-1) 7)) + x2))]) (fun o1 e1 => w_isSame hc.1 _ (σ12 40 x3) (σ12 41 x3) (σ12 15 ((600 * (σ12 (-1) 7)) + x2)) (σ12 16 ((600 * (σ12 (-1) 7)) + x2)) hr15 hr16 hr18 hr20 o1 e1) q1924 q1926 qs79 q136 q1927 (by decide +kernel) ⟨by decide, by decide⟩ rfl (Nat.le_of_ble_eq_true rfl) rfl dX1_ruleFor_127 (fun r21 σ22 hr23 => ?_)
        refine r_if_eq h hr23.r 135 dX1_ruleFor_130 rfl ?_ ?_
        · refine r_iinc (lv' := [(3, iv (x3 + 1)), (4, iv r11), (0, .ref (zm_h G)), (1, iv x1), (2, iv x2)]) h 4 dX1_ruleFor_135 rfl (hN _ (by decide)) rfl ?_
          refine r_goto h 9 dX1_ruleFor_138 rfl ?_
          refine r_ck (fun hk24 => ?_)
          exact r_lv [2, 3, 4, 0] rfl (ih _ x1 x2 (x3 + 1) hx1 hx2 hk24)
        · refine r_iload_n h 4 dX1_ruleFor_133 rfl rfl ?_
          exact zm_iret h hc rfl hx3 dX1_ruleFor_134
def m_ruleFor (σ : MEM) (a0 a1 : Int) : Option zm_O := ck (inR (800 * (σ (-1) 7))) (m_ruleFor_9 zF σ a0 a1 (800 * (σ (-1) 7)))
theorem w_ruleFor {G : zm_G} (hD : zm_D G) (σ : MEM) (a0 a1 : Int) (ha0 : inR a0) (ha1 : inR a1) (o : zm_O) (hd : m_ruleFor σ a0 a1 = some o) : zm_Met G yX1_ruleFor cX1_ruleFor 5 (Option.some FieldType.int) 1 1 26 σ [.ref (zm_h G), iv a0, iv a1] o := by
  refine zm_intro hD hd (by decide) rfl (Nat.le_of_ble_eq_true rfl) rfl (fun C h hc => ?_)
  have hN : ∀ i, i < 5 → i < zv_n C := fun i q => by rw [hc.2.2.1]; exact q
  unfold m_ruleFor
  refine r_sipush h dX1_ruleFor_0 (by decide) ?_
  refine r_aload_n h 0 dX1_ruleFor_3 rfl rfl ?_
  refine zm_getI h hc 7 7 (by decide) rfl rfl q1487 rfl dX1_ruleFor_4 (fun hr1 => ?_)
  refine r_imul h dX1_ruleFor_7 ?_
  refine r_istore_n (lv' := [(3, iv (800 * (σ (-1) 7))), (0, .ref (zm_h G)), (1, iv a0), (2, iv a1)]) h dX1_ruleFor_8 rfl (hN _ (by decide)) rfl ?_
  refine r_ck (fun hk2 => ?_)
  exact r_lv [1, 2, 3, 0] rfl (w_ruleFor_9 h hc zF _ a0 a1 (800 * (σ (-1) 7)) ha0 ha1 hk2)
theorem dX1_areSameKept_0 : decode cX1_areSameKept 0 = .ok (.iload_n 2, 1) := by decide +kernel
theorem dX1_areSameKept_1 : decode cX1_areSameKept 1 = .ok (.iload 4, 2) := by decide +kernel
theorem dX1_areSameKept_3 : decode cX1_areSameKept 3 = .ok (.if_icmp .ne 7, 3) := by decide +kernel
theorem dX1_areSameKept_6 : decode cX1_areSameKept 6 = .ok (.iconst 1, 1) := by decide +kernel
theorem dX1_areSameKept_7 : decode cX1_areSameKept 7 = .ok (.goto 4, 3) := by decide +kernel
theorem dX1_areSameKept_10 : decode cX1_areSameKept 10 = .ok (.iconst 0, 1) := by decide +kernel
theorem dX1_areSameKept_11 : decode cX1_areSameKept 11 = .ok (.istore 5, 2) := by decide +kernel
theorem dX1_areSameKept_13 : decode cX1_areSameKept 13 = .ok (.iconst 0, 1) := by decide +kernel
theorem dX1_areSameKept_14 : decode cX1_areSameKept 14 = .ok (.istore 6, 2) := by decide +kernel
theorem dX1_areSameKept_16 : decode cX1_areSameKept 16 = .ok (.iload 6, 2) := by decide +kernel
theorem dX1_areSameKept_18 : decode cX1_areSameKept 18 = .ok (.iload_n 2, 1) := by decide +kernel
theorem dX1_areSameKept_19 : decode cX1_areSameKept 19 = .ok (.if_icmp .ge 42, 3) := by decide +kernel
theorem dX1_areSameKept_22 : decode cX1_areSameKept 22 = .ok (.iload 5, 2) := by decide +kernel
theorem dX1_areSameKept_24 : decode cX1_areSameKept 24 = .ok (.ifCond .eq 37, 3) := by decide +kernel
theorem dX1_areSameKept_27 : decode cX1_areSameKept 27 = .ok (.aload_n 0, 1) := by decide +kernel
theorem dX1_areSameKept_28 : decode cX1_areSameKept 28 = .ok (.getfield 55, 3) := by decide +kernel
theorem dX1_areSameKept_31 : decode cX1_areSameKept 31 = .ok (.iload_n 1, 1) := by decide +kernel
theorem dX1_areSameKept_32 : decode cX1_areSameKept 32 = .ok (.iload 6, 2) := by decide +kernel
theorem dX1_areSameKept_34 : decode cX1_areSameKept 34 = .ok (.iadd, 1) := by decide +kernel
theorem dX1_areSameKept_35 : decode cX1_areSameKept 35 = .ok (.baload, 1) := by decide +kernel
theorem dX1_areSameKept_36 : decode cX1_areSameKept 36 = .ok (.aload_n 0, 1) := by decide +kernel
theorem dX1_areSameKept_37 : decode cX1_areSameKept 37 = .ok (.getfield 55, 3) := by decide +kernel
theorem dX1_areSameKept_40 : decode cX1_areSameKept 40 = .ok (.iload_n 3, 1) := by decide +kernel
theorem dX1_areSameKept_41 : decode cX1_areSameKept 41 = .ok (.iload 6, 2) := by decide +kernel
theorem dX1_areSameKept_43 : decode cX1_areSameKept 43 = .ok (.iadd, 1) := by decide +kernel
theorem dX1_areSameKept_44 : decode cX1_areSameKept 44 = .ok (.baload, 1) := by decide +kernel
theorem dX1_areSameKept_45 : decode cX1_areSameKept 45 = .ok (.if_icmp .ne 7, 3) := by decide +kernel
theorem dX1_areSameKept_48 : decode cX1_areSameKept 48 = .ok (.iconst 1, 1) := by decide +kernel
theorem dX1_areSameKept_49 : decode cX1_areSameKept 49 = .ok (.goto 4, 3) := by decide +kernel
theorem dX1_areSameKept_52 : decode cX1_areSameKept 52 = .ok (.iconst 0, 1) := by decide +kernel
theorem dX1_areSameKept_53 : decode cX1_areSameKept 53 = .ok (.istore 5, 2) := by decide +kernel
theorem dX1_areSameKept_55 : decode cX1_areSameKept 55 = .ok (.iinc 6 1, 3) := by decide +kernel
theorem dX1_areSameKept_58 : decode cX1_areSameKept 58 = .ok (.goto (-42), 3) := by decide +kernel
theorem dX1_areSameKept_61 : decode cX1_areSameKept 61 = .ok (.iload 5, 2) := by decide +kernel
theorem dX1_areSameKept_63 : decode cX1_areSameKept 63 = .ok (.ireturn, 1) := by decide +kernel
def m_areSameKept_16 : Nat → MEM → Int → Int → Int → Int → Int → Option zm_O
  | 0, _, _, _, _, _, _ => none
  | n + 1, σ, x1, x2, x3, x5, x6 => if x2 ≤ x6 then (some (x5, σ)) else (if x5 = 0 then (some (x5, σ)) else (ck (0 ≤ (x1 + x6) ∧ (x1 + x6) < 4000) (ck (0 ≤ (x3 + x6) ∧ (x3 + x6) < 4000) (if (σ 21 (x1 + x6)) = (σ 21 (x3 + x6)) then (ck (inR (x6 + 1)) (m_areSameKept_16 n σ x1 x2 x3 1 (x6 + 1))) else (ck (inR (x6 + 1)) (m_areSameKept_16 n σ x1 x2 x3 0 (x6 + 1)))))))
theorem w_areSameKept_16 {C : zv_Cx zm_O} {G : zm_G} (h : zv_Ok C cX1_areSameKept RX1) (hc : zm_C C G 7 (Option.some FieldType.boolean) 3 0 0) : ∀ (n : Nat) (σ : MEM) (x1 x2 x3 x5 x6 : Int), inR x1 → inR x2 → inR x3 → isB x5 → inR x6 → VV C (m_areSameKept_16 n σ x1 x2 x3 x5 x6) σ [(0, .ref (zm_h G)), (1, iv x1), (2, iv x2), (3, iv x3), (5, iv x5), (6, iv x6)] [] 16 := by
  have hN : ∀ i, i < 7 → i < zv_n C := fun i q => by rw [hc.2.2.1]; exact q
  intro n
  induction n with
  | zero => intros; exact r_none
  | succ n ih =>
    intro σ x1 x2 x3 x5 x6 hx1 hx2 hx3 hx5 hx6
    rw [m_areSameKept_16]
    refine r_iload h 5 dX1_areSameKept_16 rfl ?_
    refine r_iload_n h 2 dX1_areSameKept_18 rfl rfl ?_
    refine r_icmp_ge h hx6 hx2 61 dX1_areSameKept_19 rfl ?_ ?_
    · refine r_iload h 4 dX1_areSameKept_61 rfl ?_
      exact zm_zret h hc rfl hx5 dX1_areSameKept_63
    · refine r_iload h 4 dX1_areSameKept_22 rfl ?_
      refine r_if_eq h hx5.r 61 dX1_areSameKept_24 rfl ?_ ?_
      · refine r_iload h 4 dX1_areSameKept_61 rfl ?_
        exact zm_zret h hc rfl hx5 dX1_areSameKept_63
      · refine r_aload_n h 0 dX1_areSameKept_27 rfl rfl ?_
        refine zm_getA h hc 21 (by decide) rfl q1501 rfl dX1_areSameKept_28 ?_
        refine r_iload_n h 1 dX1_areSameKept_31 rfl rfl ?_
        refine r_iload h 5 dX1_areSameKept_32 rfl ?_
        refine r_iadd h dX1_areSameKept_34 ?_
        refine zm_ldB h hc 21 21 4000 (by decide) rfl rfl rfl (by decide) dX1_areSameKept_35 (fun _ hr1 => ?_)
        refine r_aload_n h 0 dX1_areSameKept_36 rfl rfl ?_
        refine zm_getA h hc 21 (by decide) rfl q1501 rfl dX1_areSameKept_37 ?_
        refine r_iload_n h 3 dX1_areSameKept_40 rfl rfl ?_
        refine r_iload h 5 dX1_areSameKept_41 rfl ?_
        refine r_iadd h dX1_areSameKept_43 ?_
        refine zm_ldB h hc 21 21 4000 (by decide) rfl rfl rfl (by decide) dX1_areSameKept_44 (fun _ hr2 => ?_)
        refine r_icmp_ne h hr1.r hr2.r 52 dX1_areSameKept_45 rfl ?_ ?_
        · refine r_iconst h dX1_areSameKept_48 ?_
          refine r_goto h 53 dX1_areSameKept_49 rfl ?_
          refine r_istore (lv' := [(5, iv 1), (0, .ref (zm_h G)), (1, iv x1), (2, iv x2), (3, iv x3), (6, iv x6)]) h dX1_areSameKept_53 (hN _ (by decide)) rfl ?_
          refine r_iinc (lv' := [(6, iv (x6 + 1)), (5, iv 1), (0, .ref (zm_h G)), (1, iv x1), (2, iv x2), (3, iv x3)]) h 5 dX1_areSameKept_55 rfl (hN _ (by decide)) rfl ?_
          refine r_goto h 16 dX1_areSameKept_58 rfl ?_
          refine r_ck (fun hk3 => ?_)
          exact r_lv [2, 3, 4, 5, 1, 0] rfl (ih _ x1 x2 x3 1 (x6 + 1) hx1 hx2 hx3 (by decide) hk3)
        · refine r_iconst h dX1_areSameKept_52 ?_
          refine r_istore (lv' := [(5, iv 0), (0, .ref (zm_h G)), (1, iv x1), (2, iv x2), (3, iv x3), (6, iv x6)]) h dX1_areSameKept_53 (hN _ (by decide)) rfl ?_
          refine r_iinc (lv' := [(6, iv (x6 + 1)), (5, iv 0), (0, .ref (zm_h G)), (1, iv x1), (2, iv x2), (3, iv x3)]) h 5 dX1_areSameKept_55 rfl (hN _ (by decide)) rfl ?_
          refine r_goto h 16 dX1_areSameKept_58 rfl ?_
          refine r_ck (fun hk4 => ?_)
          exact r_lv [2, 3, 4, 5, 1, 0] rfl (ih _ x1 x2 x3 0 (x6 + 1) hx1 hx2 hx3 (by decide) hk4)
def m_areSameKept (σ : MEM) (a0 a1 a2 a3 : Int) : Option zm_O := if a1 = a3 then (m_areSameKept_16 zF σ a0 a1 a2 1 0) else (m_areSameKept_16 zF σ a0 a1 a2 0 0)
theorem w_areSameKept {G : zm_G} (hD : zm_D G) (σ : MEM) (a0 a1 a2 a3 : Int) (ha0 : inR a0) (ha1 : inR a1) (ha2 : inR a2) (ha3 : inR a3) (o : zm_O) (hd : m_areSameKept σ a0 a1 a2 a3 = some o) : zm_Met G yX1_areSameKept cX1_areSameKept 7 (Option.some FieldType.boolean) 3 0 0 σ [.ref (zm_h G), iv a0, iv a1, iv a2, iv a3] o := by
  refine zm_intro hD hd (by decide) rfl (Nat.le_of_ble_eq_true rfl) rfl (fun C h hc => ?_)
  have hN : ∀ i, i < 7 → i < zv_n C := fun i q => by rw [hc.2.2.1]; exact q
  unfold m_areSameKept
  refine r_iload_n h 2 dX1_areSameKept_0 rfl rfl ?_
  refine r_iload h 4 dX1_areSameKept_1 rfl ?_
  refine r_icmp_ne h ha1 ha3 10 dX1_areSameKept_3 rfl ?_ ?_
  · refine r_iconst h dX1_areSameKept_6 ?_
    refine r_goto h 11 dX1_areSameKept_7 rfl ?_
    refine r_istore (lv' := [(5, iv 1), (0, .ref (zm_h G)), (1, iv a0), (2, iv a1), (3, iv a2), (4, iv a3)]) h dX1_areSameKept_11 (hN _ (by decide)) rfl ?_
    refine r_iconst h dX1_areSameKept_13 ?_
    refine r_istore (lv' := [(6, iv 0), (5, iv 1), (0, .ref (zm_h G)), (1, iv a0), (2, iv a1), (3, iv a2), (4, iv a3)]) h dX1_areSameKept_14 (hN _ (by decide)) rfl ?_
    exact r_lv [2, 3, 4, 5, 1, 0] rfl (w_areSameKept_16 h hc zF _ a0 a1 a2 1 0 ha0 ha1 ha2 (by decide) (by decide))
  · refine r_iconst h dX1_areSameKept_10 ?_
    refine r_istore (lv' := [(5, iv 0), (0, .ref (zm_h G)), (1, iv a0), (2, iv a1), (3, iv a2), (4, iv a3)]) h dX1_areSameKept_11 (hN _ (by decide)) rfl ?_
    refine r_iconst h dX1_areSameKept_13 ?_
    refine r_istore (lv' := [(6, iv 0), (5, iv 0), (0, .ref (zm_h G)), (1, iv a0), (2, iv a1), (3, iv a2), (4, iv a3)]) h dX1_areSameKept_14 (hN _ (by decide)) rfl ?_
    exact r_lv [2, 3, 4, 5, 1, 0] rfl (w_areSameKept_16 h hc zF _ a0 a1 a2 0 0 ha0 ha1 ha2 (by decide) (by decide))
theorem dX1_isTaken_0 : decode cX1_isTaken 0 = .ok (.sipush 600, 3) := by decide +kernel
theorem dX1_isTaken_3 : decode cX1_isTaken 3 = .ok (.aload_n 0, 1) := by decide +kernel
theorem dX1_isTaken_4 : decode cX1_isTaken 4 = .ok (.getfield 482, 3) := by decide +kernel
theorem dX1_isTaken_7 : decode cX1_isTaken 7 = .ok (.imul, 1) := by decide +kernel
theorem dX1_isTaken_8 : decode cX1_isTaken 8 = .ok (.istore_n 2, 1) := by decide +kernel
theorem dX1_isTaken_9 : decode cX1_isTaken 9 = .ok (.iconst 0, 1) := by decide +kernel
theorem dX1_isTaken_10 : decode cX1_isTaken 10 = .ok (.istore_n 3, 1) := by decide +kernel
theorem dX1_isTaken_11 : decode cX1_isTaken 11 = .ok (.iconst 0, 1) := by decide +kernel
theorem dX1_isTaken_12 : decode cX1_isTaken 12 = .ok (.istore 4, 2) := by decide +kernel
theorem dX1_isTaken_14 : decode cX1_isTaken 14 = .ok (.iload 4, 2) := by decide +kernel
theorem dX1_isTaken_16 : decode cX1_isTaken 16 = .ok (.iload_n 1, 1) := by decide +kernel
theorem dX1_isTaken_17 : decode cX1_isTaken 17 = .ok (.if_icmp .ge 118, 3) := by decide +kernel
theorem dX1_isTaken_20 : decode cX1_isTaken 20 = .ok (.aload_n 0, 1) := by decide +kernel
theorem dX1_isTaken_21 : decode cX1_isTaken 21 = .ok (.getfield 31, 3) := by decide +kernel
theorem dX1_isTaken_24 : decode cX1_isTaken 24 = .ok (.iload_n 2, 1) := by decide +kernel
theorem dX1_isTaken_25 : decode cX1_isTaken 25 = .ok (.iload 4, 2) := by decide +kernel
theorem dX1_isTaken_27 : decode cX1_isTaken 27 = .ok (.iadd, 1) := by decide +kernel
theorem dX1_isTaken_28 : decode cX1_isTaken 28 = .ok (.iaload, 1) := by decide +kernel
theorem dX1_isTaken_29 : decode cX1_isTaken 29 = .ok (.iconst 2, 1) := by decide +kernel
theorem dX1_isTaken_30 : decode cX1_isTaken 30 = .ok (.if_icmp .ne 99, 3) := by decide +kernel
theorem dX1_isTaken_33 : decode cX1_isTaken 33 = .ok (.aload_n 0, 1) := by decide +kernel
theorem dX1_isTaken_34 : decode cX1_isTaken 34 = .ok (.getfield 49, 3) := by decide +kernel
theorem dX1_isTaken_37 : decode cX1_isTaken 37 = .ok (.iload_n 2, 1) := by decide +kernel
theorem dX1_isTaken_38 : decode cX1_isTaken 38 = .ok (.iload 4, 2) := by decide +kernel
theorem dX1_isTaken_40 : decode cX1_isTaken 40 = .ok (.iadd, 1) := by decide +kernel
theorem dX1_isTaken_41 : decode cX1_isTaken 41 = .ok (.baload, 1) := by decide +kernel
theorem dX1_isTaken_42 : decode cX1_isTaken 42 = .ok (.ifCond .ne 87, 3) := by decide +kernel
theorem dX1_isTaken_45 : decode cX1_isTaken 45 = .ok (.aload_n 0, 1) := by decide +kernel
theorem dX1_isTaken_46 : decode cX1_isTaken 46 = .ok (.aload_n 0, 1) := by decide +kernel
theorem dX1_isTaken_47 : decode cX1_isTaken 47 = .ok (.getfield 34, 3) := by decide +kernel
theorem dX1_isTaken_50 : decode cX1_isTaken 50 = .ok (.iload_n 2, 1) := by decide +kernel
theorem dX1_isTaken_51 : decode cX1_isTaken 51 = .ok (.iload 4, 2) := by decide +kernel
theorem dX1_isTaken_53 : decode cX1_isTaken 53 = .ok (.iadd, 1) := by decide +kernel
theorem dX1_isTaken_54 : decode cX1_isTaken 54 = .ok (.iaload, 1) := by decide +kernel
theorem dX1_isTaken_55 : decode cX1_isTaken 55 = .ok (.iload 4, 2) := by decide +kernel
theorem dX1_isTaken_57 : decode cX1_isTaken 57 = .ok (.invokevirtual 546, 3) := by decide +kernel
theorem dX1_isTaken_60 : decode cX1_isTaken 60 = .ok (.istore 5, 2) := by decide +kernel
theorem dX1_isTaken_62 : decode cX1_isTaken 62 = .ok (.iload_n 3, 1) := by decide +kernel
theorem dX1_isTaken_63 : decode cX1_isTaken 63 = .ok (.ifCond .ne 60, 3) := by decide +kernel
theorem dX1_isTaken_66 : decode cX1_isTaken 66 = .ok (.iload 5, 2) := by decide +kernel
theorem dX1_isTaken_68 : decode cX1_isTaken 68 = .ok (.ifCond .lt 59, 3) := by decide +kernel
theorem dX1_isTaken_71 : decode cX1_isTaken 71 = .ok (.aload_n 0, 1) := by decide +kernel
theorem dX1_isTaken_72 : decode cX1_isTaken 72 = .ok (.getfield 119, 3) := by decide +kernel
theorem dX1_isTaken_75 : decode cX1_isTaken 75 = .ok (.iload 5, 2) := by decide +kernel
theorem dX1_isTaken_77 : decode cX1_isTaken 77 = .ok (.iaload, 1) := by decide +kernel
theorem dX1_isTaken_78 : decode cX1_isTaken 78 = .ok (.iconst 1, 1) := by decide +kernel
theorem dX1_isTaken_79 : decode cX1_isTaken 79 = .ok (.if_icmp .ne 48, 3) := by decide +kernel
theorem dX1_isTaken_82 : decode cX1_isTaken 82 = .ok (.aload_n 0, 1) := by decide +kernel
theorem dX1_isTaken_83 : decode cX1_isTaken 83 = .ok (.aload_n 0, 1) := by decide +kernel
theorem dX1_isTaken_84 : decode cX1_isTaken 84 = .ok (.getfield 43, 3) := by decide +kernel
theorem dX1_isTaken_87 : decode cX1_isTaken 87 = .ok (.iload_n 2, 1) := by decide +kernel
theorem dX1_isTaken_88 : decode cX1_isTaken 88 = .ok (.iload 4, 2) := by decide +kernel
theorem dX1_isTaken_90 : decode cX1_isTaken 90 = .ok (.iadd, 1) := by decide +kernel
theorem dX1_isTaken_91 : decode cX1_isTaken 91 = .ok (.iaload, 1) := by decide +kernel
theorem dX1_isTaken_92 : decode cX1_isTaken 92 = .ok (.aload_n 0, 1) := by decide +kernel
theorem dX1_isTaken_93 : decode cX1_isTaken 93 = .ok (.getfield 46, 3) := by decide +kernel
theorem dX1_isTaken_96 : decode cX1_isTaken 96 = .ok (.iload_n 2, 1) := by decide +kernel
theorem dX1_isTaken_97 : decode cX1_isTaken 97 = .ok (.iload 4, 2) := by decide +kernel
theorem dX1_isTaken_99 : decode cX1_isTaken 99 = .ok (.iadd, 1) := by decide +kernel
theorem dX1_isTaken_100 : decode cX1_isTaken 100 = .ok (.iaload, 1) := by decide +kernel
theorem dX1_isTaken_101 : decode cX1_isTaken 101 = .ok (.aload_n 0, 1) := by decide +kernel
theorem dX1_isTaken_102 : decode cX1_isTaken 102 = .ok (.getfield 43, 3) := by decide +kernel
theorem dX1_isTaken_105 : decode cX1_isTaken 105 = .ok (.iload_n 2, 1) := by decide +kernel
theorem dX1_isTaken_106 : decode cX1_isTaken 106 = .ok (.iload_n 1, 1) := by decide +kernel
theorem dX1_isTaken_107 : decode cX1_isTaken 107 = .ok (.iadd, 1) := by decide +kernel
theorem dX1_isTaken_108 : decode cX1_isTaken 108 = .ok (.iaload, 1) := by decide +kernel
theorem dX1_isTaken_109 : decode cX1_isTaken 109 = .ok (.aload_n 0, 1) := by decide +kernel
theorem dX1_isTaken_110 : decode cX1_isTaken 110 = .ok (.getfield 46, 3) := by decide +kernel
theorem dX1_isTaken_113 : decode cX1_isTaken 113 = .ok (.iload_n 2, 1) := by decide +kernel
theorem dX1_isTaken_114 : decode cX1_isTaken 114 = .ok (.iload_n 1, 1) := by decide +kernel
theorem dX1_isTaken_115 : decode cX1_isTaken 115 = .ok (.iadd, 1) := by decide +kernel
theorem dX1_isTaken_116 : decode cX1_isTaken 116 = .ok (.iaload, 1) := by decide +kernel
theorem dX1_isTaken_117 : decode cX1_isTaken 117 = .ok (.invokevirtual 549, 3) := by decide +kernel
theorem dX1_isTaken_120 : decode cX1_isTaken 120 = .ok (.ifCond .eq 7, 3) := by decide +kernel
theorem dX1_isTaken_123 : decode cX1_isTaken 123 = .ok (.iconst 1, 1) := by decide +kernel
theorem dX1_isTaken_124 : decode cX1_isTaken 124 = .ok (.goto 4, 3) := by decide +kernel
theorem dX1_isTaken_127 : decode cX1_isTaken 127 = .ok (.iconst 0, 1) := by decide +kernel
theorem dX1_isTaken_128 : decode cX1_isTaken 128 = .ok (.istore_n 3, 1) := by decide +kernel
theorem dX1_isTaken_129 : decode cX1_isTaken 129 = .ok (.iinc 4 1, 3) := by decide +kernel
theorem dX1_isTaken_132 : decode cX1_isTaken 132 = .ok (.goto (-118), 3) := by decide +kernel
theorem dX1_isTaken_135 : decode cX1_isTaken 135 = .ok (.iload_n 3, 1) := by decide +kernel
theorem dX1_isTaken_136 : decode cX1_isTaken 136 = .ok (.ireturn, 1) := by decide +kernel
def m_isTaken_14 : Nat → MEM → Int → Int → Int → Int → Option zm_O
  | 0, _, _, _, _, _ => none
  | n + 1, σ, x1, x2, x3, x4 => if x1 ≤ x4 then (some (x3, σ)) else (ck (0 ≤ (x2 + x4) ∧ (x2 + x4) < 1200) (if (σ 13 (x2 + x4)) = 2 then (ck (0 ≤ (x2 + x4) ∧ (x2 + x4) < 1200) (if (σ 19 (x2 + x4)) = 0 then (ck (0 ≤ (x2 + x4) ∧ (x2 + x4) < 1200) (bd (m_ruleFor σ (σ 14 (x2 + x4)) x4) (fun r4 σ5 => if x3 = 0 then (if r4 < 0 then (ck (inR (x4 + 1)) (m_isTaken_14 n σ5 x1 x2 0 (x4 + 1))) else (ck (0 ≤ r4 ∧ r4 < 1600) (if (σ5 42 r4) = 1 then (ck (0 ≤ (x2 + x4) ∧ (x2 + x4) < 1200) (ck (0 ≤ (x2 + x4) ∧ (x2 + x4) < 1200) (ck (0 ≤ (x2 + x1) ∧ (x2 + x1) < 1200) (ck (0 ≤ (x2 + x1) ∧ (x2 + x1) < 1200) (bd (m_areSameKept σ5 (σ5 17 (x2 + x4)) (σ5 18 (x2 + x4)) (σ5 17 (x2 + x1)) (σ5 18 (x2 + x1))) (fun r13 σ14 => if r13 = 0 then (ck (inR (x4 + 1)) (m_isTaken_14 n σ14 x1 x2 0 (x4 + 1))) else (ck (inR (x4 + 1)) (m_isTaken_14 n σ14 x1 x2 1 (x4 + 1))))))))) else (ck (inR (x4 + 1)) (m_isTaken_14 n σ5 x1 x2 0 (x4 + 1)))))) else (ck (inR (x4 + 1)) (m_isTaken_14 n σ5 x1 x2 1 (x4 + 1)))))) else (ck (inR (x4 + 1)) (m_isTaken_14 n σ x1 x2 x3 (x4 + 1))))) else (ck (inR (x4 + 1)) (m_isTaken_14 n σ x1 x2 x3 (x4 + 1)))))
theorem w_isTaken_14 {C : zv_Cx zm_O} {G : zm_G} (h : zv_Ok C cX1_isTaken RX1) (hc : zm_C C G 6 (Option.some FieldType.boolean) 3 2 50) : ∀ (n : Nat) (σ : MEM) (x1 x2 x3 x4 : Int), inR x1 → inR x2 → isB x3 → inR x4 → VV C (m_isTaken_14 n σ x1 x2 x3 x4) σ [(0, .ref (zm_h G)), (1, iv x1), (2, iv x2), (3, iv x3), (4, iv x4)] [] 14 := by
  have hN : ∀ i, i < 6 → i < zv_n C := fun i q => by rw [hc.2.2.1]; exact q
  intro n
  induction n with
  | zero => intros; exact r_none
  | succ n ih =>
    intro σ x1 x2 x3 x4 hx1 hx2 hx3 hx4
    rw [m_isTaken_14]
    refine r_iload h 4 dX1_isTaken_14 rfl ?_
    refine r_iload_n h 1 dX1_isTaken_16 rfl rfl ?_
    refine r_icmp_ge h hx4 hx1 135 dX1_isTaken_17 rfl ?_ ?_
    · refine r_iload_n h 3 dX1_isTaken_135 rfl rfl ?_
      exact zm_zret h hc rfl hx3 dX1_isTaken_136
    · refine r_aload_n h 0 dX1_isTaken_20 rfl rfl ?_
      refine zm_getA h hc 13 (by decide) rfl q1493 rfl dX1_isTaken_21 ?_
      refine r_iload_n h 2 dX1_isTaken_24 rfl rfl ?_
      refine r_iload h 4 dX1_isTaken_25 rfl ?_
      refine r_iadd h dX1_isTaken_27 ?_
      refine zm_ldI h hc 13 13 1200 (by decide) rfl rfl rfl (by decide) dX1_isTaken_28 (fun _ hr1 => ?_)
      refine r_iconst h dX1_isTaken_29 ?_
      refine r_icmp_ne h hr1 (by decide) 129 dX1_isTaken_30 rfl ?_ ?_
      · refine r_aload_n h 0 dX1_isTaken_33 rfl rfl ?_
        refine zm_getA h hc 19 (by decide) rfl q1499 rfl dX1_isTaken_34 ?_
        refine r_iload_n h 2 dX1_isTaken_37 rfl rfl ?_
        refine r_iload h 4 dX1_isTaken_38 rfl ?_
        refine r_iadd h dX1_isTaken_40 ?_
        refine zm_ldZ h hc 19 19 1200 (by decide) rfl rfl rfl (by decide) dX1_isTaken_41 (fun _ hr2 => ?_)
        refine r_if_ne h hr2.r 129 dX1_isTaken_42 rfl ?_ ?_
        · refine r_aload_n h 0 dX1_isTaken_45 rfl rfl ?_
          refine r_aload_n h 0 dX1_isTaken_46 rfl rfl ?_
          refine zm_getA h hc 14 (by decide) rfl q1494 rfl dX1_isTaken_47 ?_
          refine r_iload_n h 2 dX1_isTaken_50 rfl rfl ?_
          refine r_iload h 4 dX1_isTaken_51 rfl ?_
          refine r_iadd h dX1_isTaken_53 ?_
          refine zm_ldI h hc 14 14 1200 (by decide) rfl rfl rfl (by decide) dX1_isTaken_54 (fun _ hr3 => ?_)
          refine r_iload h 4 dX1_isTaken_55 rfl ?_
          refine zm_cVi h hc (n := 2) (As := [iv (σ 14 (x2 + x4)), iv x4]) (fun o1 e1 => w_ruleFor hc.1 _ (σ 14 (x2 + x4)) x4 hr3 hx4 o1 e1) q2044 q2046 qs105 q136 q2047 (by decide +kernel) ⟨by decide, by decide⟩ rfl (Nat.le_of_ble_eq_true rfl) rfl dX1_isTaken_57 (fun r4 σ5 hr6 => ?_)
          refine r_istore (lv' := [(5, iv r4), (0, .ref (zm_h G)), (1, iv x1), (2, iv x2), (3, iv x3), (4, iv x4)]) h dX1_isTaken_60 (hN _ (by decide)) rfl ?_
          refine r_iload_n h 4 dX1_isTaken_62 rfl rfl ?_
          refine r_if_ne h hx3.r 123 dX1_isTaken_63 rfl ?_ ?_
          · refine r_iload h 0 dX1_isTaken_66 rfl ?_
            refine r_if_lt h hr6 127 dX1_isTaken_68 rfl ?_ ?_
            · refine r_iconst h dX1_isTaken_127 ?_
              refine r_istore_n (lv' := [(3, iv 0), (5, iv r4), (0, .ref (zm_h G)), (1, iv x1), (2, iv x2), (4, iv x4)]) h dX1_isTaken_128 rfl (hN _ (by decide)) rfl ?_
              refine r_iinc (lv' := [(4, iv (x4 + 1)), (3, iv 0), (5, iv r4), (0, .ref (zm_h G)), (1, iv x1), (2, iv x2)]) h 5 dX1_isTaken_129 rfl (hN _ (by decide)) rfl ?_
              refine r_goto h 14 dX1_isTaken_132 rfl ?_
              refine r_ck (fun hk7 => ?_)
              exact r_lv [3, 4, 5, 1, 0] rfl (ih _ x1 x2 0 (x4 + 1) hx1 hx2 (by decide) hk7)
            · refine r_aload_n h 1 dX1_isTaken_71 rfl rfl ?_
              refine zm_getA h hc 42 (by decide) rfl q1522 rfl dX1_isTaken_72 ?_
              refine r_iload h 0 dX1_isTaken_75 rfl ?_
              refine zm_ldI h hc 42 42 1600 (by decide) rfl rfl rfl (by decide) dX1_isTaken_77 (fun _ hr8 => ?_)
              refine r_iconst h dX1_isTaken_78 ?_
              refine r_icmp_ne h hr8 (by decide) 127 dX1_isTaken_79 rfl ?_ ?_
              · refine r_aload_n h 1 dX1_isTaken_82 rfl rfl ?_
                refine r_aload_n h 1 dX1_isTaken_83 rfl rfl ?_
                refine zm_getA h hc 17 (by decide) rfl q1497 rfl dX1_isTaken_84 ?_
                refine r_iload_n h 3 dX1_isTaken_87 rfl rfl ?_
                refine r_iload h 5 dX1_isTaken_88 rfl ?_
                refine r_iadd h dX1_isTaken_90 ?_
                refine zm_ldI h hc 17 17 1200 (by decide) rfl rfl rfl (by decide) dX1_isTaken_91 (fun _ hr9 => ?_)
                refine r_aload_n h 1 dX1_isTaken_92 rfl rfl ?_
                refine zm_getA h hc 18 (by decide) rfl q1498 rfl dX1_isTaken_93 ?_
                refine r_iload_n h 3 dX1_isTaken_96 rfl rfl ?_
                refine r_iload h 5 dX1_isTaken_97 rfl ?_
                refine r_iadd h dX1_isTaken_99 ?_
                refine zm_ldI h hc 18 18 1200 (by decide) rfl rfl rfl (by decide) dX1_isTaken_100 (fun _ hr10 => ?_)
                refine r_aload_n h 1 dX1_isTaken_101 rfl rfl ?_
                refine zm_getA h hc 17 (by decide) rfl q1497 rfl dX1_isTaken_102 ?_
                refine r_iload_n h 3 dX1_isTaken_105 rfl rfl ?_
                refine r_iload_n h 2 dX1_isTaken_106 rfl rfl ?_
                refine r_iadd h dX1_isTaken_107 ?_
                refine zm_ldI h hc 17 17 1200 (by decide) rfl rfl rfl (by decide) dX1_isTaken_108 (fun _ hr11 => ?_)
                refine r_aload_n h 1 dX1_isTaken_109 rfl rfl ?_
                refine zm_getA h hc 18 (by decide) rfl q1498 rfl dX1_isTaken_110 ?_
                refine r_iload_n h 3 dX1_isTaken_113 rfl rfl ?_
                refine r_iload_n h 2 dX1_isTaken_114 rfl rfl ?_
                refine r_iadd h dX1_isTaken_115 ?_
                refine zm_ldI h hc 18 18 1200 (by decide) rfl rfl rfl (by decide) dX1_isTaken_116 (fun _ hr12 => ?_)
                refine zm_cVz h hc (n := 4) (As := [iv (σ5 17 (x2 + x4)), iv (σ5 18 (x2 + x4)), iv (σ5 17 (x2 + x1)), iv (σ5 18 (x2 + x1))]) (fun o1 e1 => w_areSameKept hc.1 _ (σ5 17 (x2 + x4)) (σ5 18 (x2 + x4)) (σ5 17 (x2 + x1)) (σ5 18 (x2 + x1)) hr9 hr10 hr11 hr12 o1 e1) q2048 q2050 qs106 q136 q2051 (by decide +kernel) ⟨by decide, by decide⟩ rfl (Nat.le_of_ble_eq_true rfl) rfl dX1_isTaken_117 (fun r13 σ14 hr15 => ?_)
                refine r_if_eq h hr15.r 127 dX1_isTaken_120 rfl ?_ ?_
                · refine r_iconst h dX1_isTaken_127 ?_
                  refine r_istore_n (lv' := [(3, iv 0), (5, iv r4), (0, .ref (zm_h G)), (1, iv x1), (2, iv x2), (4, iv x4)]) h dX1_isTaken_128 rfl (hN _ (by decide)) rfl ?_
                  refine r_iinc (lv' := [(4, iv (x4 + 1)), (3, iv 0), (5, iv r4), (0, .ref (zm_h G)), (1, iv x1), (2, iv x2)]) h 5 dX1_isTaken_129 rfl (hN _ (by decide)) rfl ?_
                  refine r_goto h 14 dX1_isTaken_132 rfl ?_
                  refine r_ck (fun hk16 => ?_)
                  exact r_lv [3, 4, 5, 1, 0] rfl (ih _ x1 x2 0 (x4 + 1) hx1 hx2 (by decide) hk16)
                · refine r_iconst h dX1_isTaken_123 ?_
                  refine r_goto h 128 dX1_isTaken_124 rfl ?_
                  refine r_istore_n (lv' := [(3, iv 1), (5, iv r4), (0, .ref (zm_h G)), (1, iv x1), (2, iv x2), (4, iv x4)]) h dX1_isTaken_128 rfl (hN _ (by decide)) rfl ?_
                  refine r_iinc (lv' := [(4, iv (x4 + 1)), (3, iv 1), (5, iv r4), (0, .ref (zm_h G)), (1, iv x1), (2, iv x2)]) h 5 dX1_isTaken_129 rfl (hN _ (by decide)) rfl ?_
                  refine r_goto h 14 dX1_isTaken_132 rfl ?_
                  refine r_ck (fun hk17 => ?_)
                  exact r_lv [3, 4, 5, 1, 0] rfl (ih _ x1 x2 1 (x4 + 1) hx1 hx2 (by decide) hk17)
              · refine r_iconst h dX1_isTaken_127 ?_
                refine r_istore_n (lv' := [(3, iv 0), (5, iv r4), (0, .ref (zm_h G)), (1, iv x1), (2, iv x2), (4, iv x4)]) h dX1_isTaken_128 rfl (hN _ (by decide)) rfl ?_
                refine r_iinc (lv' := [(4, iv (x4 + 1)), (3, iv 0), (5, iv r4), (0, .ref (zm_h G)), (1, iv x1), (2, iv x2)]) h 5 dX1_isTaken_129 rfl (hN _ (by decide)) rfl ?_
                refine r_goto h 14 dX1_isTaken_132 rfl ?_
                refine r_ck (fun hk18 => ?_)
                exact r_lv [3, 4, 5, 1, 0] rfl (ih _ x1 x2 0 (x4 + 1) hx1 hx2 (by decide) hk18)
          · refine r_iconst h dX1_isTaken_123 ?_
            refine r_goto h 128 dX1_isTaken_124 rfl ?_
            refine r_istore_n (lv' := [(3, iv 1), (5, iv r4), (0, .ref (zm_h G)), (1, iv x1), (2, iv x2), (4, iv x4)]) h dX1_isTaken_128 rfl (hN _ (by decide)) rfl ?_
            refine r_iinc (lv' := [(4, iv (x4 + 1)), (3, iv 1), (5, iv r4), (0, .ref (zm_h G)), (1, iv x1), (2, iv x2)]) h 5 dX1_isTaken_129 rfl (hN _ (by decide)) rfl ?_
            refine r_goto h 14 dX1_isTaken_132 rfl ?_
            refine r_ck (fun hk19 => ?_)
            exact r_lv [3, 4, 5, 1, 0] rfl (ih _ x1 x2 1 (x4 + 1) hx1 hx2 (by decide) hk19)
        · refine r_iinc (lv' := [(4, iv (x4 + 1)), (0, .ref (zm_h G)), (1, iv x1), (2, iv x2), (3, iv x3)]) h 4 dX1_isTaken_129 rfl (hN _ (by decide)) rfl ?_
          refine r_goto h 14 dX1_isTaken_132 rfl ?_
          refine r_ck (fun hk20 => ?_)
          exact r_lv [1, 2, 3, 4, 0] rfl (ih _ x1 x2 x3 (x4 + 1) hx1 hx2 hx3 hk20)
      · refine r_iinc (lv' := [(4, iv (x4 + 1)), (0, .ref (zm_h G)), (1, iv x1), (2, iv x2), (3, iv x3)]) h 4 dX1_isTaken_129 rfl (hN _ (by decide)) rfl ?_
        refine r_goto h 14 dX1_isTaken_132 rfl ?_
        refine r_ck (fun hk21 => ?_)
        exact r_lv [1, 2, 3, 4, 0] rfl (ih _ x1 x2 x3 (x4 + 1) hx1 hx2 hx3 hk21)
def m_isTaken (σ : MEM) (a0 : Int) : Option zm_O := ck (inR (600 * (σ (-1) 7))) (m_isTaken_14 zF σ a0 (600 * (σ (-1) 7)) 0 0)
theorem w_isTaken {G : zm_G} (hD : zm_D G) (σ : MEM) (a0 : Int) (ha0 : inR a0) (o : zm_O) (hd : m_isTaken σ a0 = some o) : zm_Met G yX1_isTaken cX1_isTaken 6 (Option.some FieldType.boolean) 3 2 50 σ [.ref (zm_h G), iv a0] o := by
  refine zm_intro hD hd (by decide) rfl (Nat.le_of_ble_eq_true rfl) rfl (fun C h hc => ?_)
  have hN : ∀ i, i < 6 → i < zv_n C := fun i q => by rw [hc.2.2.1]; exact q
  unfold m_isTaken
  refine r_sipush h dX1_isTaken_0 (by decide) ?_
  refine r_aload_n h 0 dX1_isTaken_3 rfl rfl ?_
  refine zm_getI h hc 7 7 (by decide) rfl rfl q1487 rfl dX1_isTaken_4 (fun hr1 => ?_)
  refine r_imul h dX1_isTaken_7 ?_
  refine r_istore_n (lv' := [(2, iv (600 * (σ (-1) 7))), (0, .ref (zm_h G)), (1, iv a0)]) h dX1_isTaken_8 rfl (hN _ (by decide)) rfl ?_
  refine r_iconst h dX1_isTaken_9 ?_
  refine r_istore_n (lv' := [(3, iv 0), (2, iv (600 * (σ (-1) 7))), (0, .ref (zm_h G)), (1, iv a0)]) h dX1_isTaken_10 rfl (hN _ (by decide)) rfl ?_
  refine r_iconst h dX1_isTaken_11 ?_
  refine r_istore (lv' := [(4, iv 0), (3, iv 0), (2, iv (600 * (σ (-1) 7))), (0, .ref (zm_h G)), (1, iv a0)]) h dX1_isTaken_12 (hN _ (by decide)) rfl ?_
  refine r_ck (fun hk2 => ?_)
  exact r_lv [3, 4, 2, 1, 0] rfl (w_isTaken_14 h hc zF _ a0 (600 * (σ (-1) 7)) 0 0 ha0 hk2 (by decide) (by decide))
theorem dX1_judgeElement_0 : decode cX1_judgeElement 0 = .ok (.sipush 600, 3) := by decide +kernel
theorem dX1_judgeElement_3 : decode cX1_judgeElement 3 = .ok (.aload_n 0, 1) := by decide +kernel
theorem dX1_judgeElement_4 : decode cX1_judgeElement 4 = .ok (.getfield 482, 3) := by decide +kernel
theorem dX1_judgeElement_7 : decode cX1_judgeElement 7 = .ok (.imul, 1) := by decide +kernel
theorem dX1_judgeElement_8 : decode cX1_judgeElement 8 = .ok (.istore_n 2, 1) := by decide +kernel
theorem dX1_judgeElement_9 : decode cX1_judgeElement 9 = .ok (.aload_n 0, 1) := by decide +kernel
theorem dX1_judgeElement_10 : decode cX1_judgeElement 10 = .ok (.aload_n 0, 1) := by decide +kernel
theorem dX1_judgeElement_11 : decode cX1_judgeElement 11 = .ok (.getfield 37, 3) := by decide +kernel
theorem dX1_judgeElement_14 : decode cX1_judgeElement 14 = .ok (.iload_n 2, 1) := by decide +kernel
theorem dX1_judgeElement_15 : decode cX1_judgeElement 15 = .ok (.iload_n 1, 1) := by decide +kernel
theorem dX1_judgeElement_16 : decode cX1_judgeElement 16 = .ok (.iadd, 1) := by decide +kernel
theorem dX1_judgeElement_17 : decode cX1_judgeElement 17 = .ok (.iaload, 1) := by decide +kernel
theorem dX1_judgeElement_18 : decode cX1_judgeElement 18 = .ok (.aload_n 0, 1) := by decide +kernel
theorem dX1_judgeElement_19 : decode cX1_judgeElement 19 = .ok (.getfield 40, 3) := by decide +kernel
theorem dX1_judgeElement_22 : decode cX1_judgeElement 22 = .ok (.iload_n 2, 1) := by decide +kernel
theorem dX1_judgeElement_23 : decode cX1_judgeElement 23 = .ok (.iload_n 1, 1) := by decide +kernel
theorem dX1_judgeElement_24 : decode cX1_judgeElement 24 = .ok (.iadd, 1) := by decide +kernel
theorem dX1_judgeElement_25 : decode cX1_judgeElement 25 = .ok (.iaload, 1) := by decide +kernel
theorem dX1_judgeElement_26 : decode cX1_judgeElement 26 = .ok (.invokevirtual 516, 3) := by decide +kernel
theorem dX1_judgeElement_29 : decode cX1_judgeElement 29 = .ok (.istore_n 3, 1) := by decide +kernel
theorem dX1_judgeElement_30 : decode cX1_judgeElement 30 = .ok (.iload_n 3, 1) := by decide +kernel
theorem dX1_judgeElement_31 : decode cX1_judgeElement 31 = .ok (.ifCond .ge 13, 3) := by decide +kernel
theorem dX1_judgeElement_34 : decode cX1_judgeElement 34 = .ok (.aload_n 0, 1) := by decide +kernel
theorem dX1_judgeElement_35 : decode cX1_judgeElement 35 = .ok (.bipush 7, 2) := by decide +kernel
theorem dX1_judgeElement_37 : decode cX1_judgeElement 37 = .ok (.iload_n 1, 1) := by decide +kernel
theorem dX1_judgeElement_38 : decode cX1_judgeElement 38 = .ok (.invokevirtual 519, 3) := by decide +kernel
theorem dX1_judgeElement_41 : decode cX1_judgeElement 41 = .ok (.goto 19, 3) := by decide +kernel
theorem dX1_judgeElement_44 : decode cX1_judgeElement 44 = .ok (.aload_n 0, 1) := by decide +kernel
theorem dX1_judgeElement_45 : decode cX1_judgeElement 45 = .ok (.iload_n 1, 1) := by decide +kernel
theorem dX1_judgeElement_46 : decode cX1_judgeElement 46 = .ok (.iload_n 3, 1) := by decide +kernel
theorem dX1_judgeElement_47 : decode cX1_judgeElement 47 = .ok (.invokevirtual 552, 3) := by decide +kernel
theorem dX1_judgeElement_50 : decode cX1_judgeElement 50 = .ok (.ifCond .ne 10, 3) := by decide +kernel
theorem dX1_judgeElement_53 : decode cX1_judgeElement 53 = .ok (.aload_n 0, 1) := by decide +kernel
theorem dX1_judgeElement_54 : decode cX1_judgeElement 54 = .ok (.bipush 8, 2) := by decide +kernel
theorem dX1_judgeElement_56 : decode cX1_judgeElement 56 = .ok (.iload_n 1, 1) := by decide +kernel
theorem dX1_judgeElement_57 : decode cX1_judgeElement 57 = .ok (.invokevirtual 519, 3) := by decide +kernel
theorem dX1_judgeElement_60 : decode cX1_judgeElement 60 = .ok (.iload_n 1, 1) := by decide +kernel
theorem dX1_judgeElement_61 : decode cX1_judgeElement 61 = .ok (.iconst 1, 1) := by decide +kernel
theorem dX1_judgeElement_62 : decode cX1_judgeElement 62 = .ok (.iadd, 1) := by decide +kernel
theorem dX1_judgeElement_63 : decode cX1_judgeElement 63 = .ok (.istore 4, 2) := by decide +kernel
theorem dX1_judgeElement_65 : decode cX1_judgeElement 65 = .ok (.iload 4, 2) := by decide +kernel
theorem dX1_judgeElement_67 : decode cX1_judgeElement 67 = .ok (.aload_n 0, 1) := by decide +kernel
theorem dX1_judgeElement_68 : decode cX1_judgeElement 68 = .ok (.getfield 27, 3) := by decide +kernel
theorem dX1_judgeElement_71 : decode cX1_judgeElement 71 = .ok (.aload_n 0, 1) := by decide +kernel
theorem dX1_judgeElement_72 : decode cX1_judgeElement 72 = .ok (.getfield 482, 3) := by decide +kernel
theorem dX1_judgeElement_75 : decode cX1_judgeElement 75 = .ok (.iaload, 1) := by decide +kernel
theorem dX1_judgeElement_76 : decode cX1_judgeElement 76 = .ok (.if_icmp .ge 191, 3) := by decide +kernel
theorem dX1_judgeElement_79 : decode cX1_judgeElement 79 = .ok (.aload_n 0, 1) := by decide +kernel
theorem dX1_judgeElement_80 : decode cX1_judgeElement 80 = .ok (.getfield 31, 3) := by decide +kernel
theorem dX1_judgeElement_83 : decode cX1_judgeElement 83 = .ok (.iload_n 2, 1) := by decide +kernel
theorem dX1_judgeElement_84 : decode cX1_judgeElement 84 = .ok (.iload 4, 2) := by decide +kernel
theorem dX1_judgeElement_86 : decode cX1_judgeElement 86 = .ok (.iadd, 1) := by decide +kernel
theorem dX1_judgeElement_87 : decode cX1_judgeElement 87 = .ok (.iaload, 1) := by decide +kernel
theorem dX1_judgeElement_88 : decode cX1_judgeElement 88 = .ok (.iconst 2, 1) := by decide +kernel
theorem dX1_judgeElement_89 : decode cX1_judgeElement 89 = .ok (.if_icmp .ne 178, 3) := by decide +kernel
theorem dX1_judgeElement_92 : decode cX1_judgeElement 92 = .ok (.aload_n 0, 1) := by decide +kernel
theorem dX1_judgeElement_93 : decode cX1_judgeElement 93 = .ok (.getfield 34, 3) := by decide +kernel
theorem dX1_judgeElement_96 : decode cX1_judgeElement 96 = .ok (.iload_n 2, 1) := by decide +kernel
theorem dX1_judgeElement_97 : decode cX1_judgeElement 97 = .ok (.iload 4, 2) := by decide +kernel
theorem dX1_judgeElement_99 : decode cX1_judgeElement 99 = .ok (.iadd, 1) := by decide +kernel
theorem dX1_judgeElement_100 : decode cX1_judgeElement 100 = .ok (.iaload, 1) := by decide +kernel
theorem dX1_judgeElement_101 : decode cX1_judgeElement 101 = .ok (.iload_n 1, 1) := by decide +kernel
theorem dX1_judgeElement_102 : decode cX1_judgeElement 102 = .ok (.if_icmp .ne 165, 3) := by decide +kernel
theorem dX1_judgeElement_105 : decode cX1_judgeElement 105 = .ok (.aload_n 0, 1) := by decide +kernel
theorem dX1_judgeElement_106 : decode cX1_judgeElement 106 = .ok (.getfield 49, 3) := by decide +kernel
theorem dX1_judgeElement_109 : decode cX1_judgeElement 109 = .ok (.iload_n 2, 1) := by decide +kernel
theorem dX1_judgeElement_110 : decode cX1_judgeElement 110 = .ok (.iload 4, 2) := by decide +kernel
theorem dX1_judgeElement_112 : decode cX1_judgeElement 112 = .ok (.iadd, 1) := by decide +kernel
theorem dX1_judgeElement_113 : decode cX1_judgeElement 113 = .ok (.baload, 1) := by decide +kernel
theorem dX1_judgeElement_114 : decode cX1_judgeElement 114 = .ok (.ifCond .eq 6, 3) := by decide +kernel
theorem dX1_judgeElement_117 : decode cX1_judgeElement 117 = .ok (.goto 144, 3) := by decide +kernel
theorem dX1_judgeElement_120 : decode cX1_judgeElement 120 = .ok (.aload_n 0, 1) := by decide +kernel
theorem dX1_judgeElement_121 : decode cX1_judgeElement 121 = .ok (.iload_n 1, 1) := by decide +kernel
theorem dX1_judgeElement_122 : decode cX1_judgeElement 122 = .ok (.iload 4, 2) := by decide +kernel
theorem dX1_judgeElement_124 : decode cX1_judgeElement 124 = .ok (.invokevirtual 546, 3) := by decide +kernel
theorem dX1_judgeElement_127 : decode cX1_judgeElement 127 = .ok (.istore 5, 2) := by decide +kernel
theorem dX1_judgeElement_129 : decode cX1_judgeElement 129 = .ok (.iload 5, 2) := by decide +kernel
theorem dX1_judgeElement_131 : decode cX1_judgeElement 131 = .ok (.ifCond .ge 14, 3) := by decide +kernel
theorem dX1_judgeElement_134 : decode cX1_judgeElement 134 = .ok (.aload_n 0, 1) := by decide +kernel
theorem dX1_judgeElement_135 : decode cX1_judgeElement 135 = .ok (.bipush 9, 2) := by decide +kernel
theorem dX1_judgeElement_137 : decode cX1_judgeElement 137 = .ok (.iload 4, 2) := by decide +kernel
theorem dX1_judgeElement_139 : decode cX1_judgeElement 139 = .ok (.invokevirtual 519, 3) := by decide +kernel
theorem dX1_judgeElement_142 : decode cX1_judgeElement 142 = .ok (.goto 119, 3) := by decide +kernel
theorem dX1_judgeElement_145 : decode cX1_judgeElement 145 = .ok (.aload_n 0, 1) := by decide +kernel
theorem dX1_judgeElement_146 : decode cX1_judgeElement 146 = .ok (.iload 5, 2) := by decide +kernel
theorem dX1_judgeElement_148 : decode cX1_judgeElement 148 = .ok (.aload_n 0, 1) := by decide +kernel
theorem dX1_judgeElement_149 : decode cX1_judgeElement 149 = .ok (.getfield 43, 3) := by decide +kernel
theorem dX1_judgeElement_152 : decode cX1_judgeElement 152 = .ok (.iload_n 2, 1) := by decide +kernel
theorem dX1_judgeElement_153 : decode cX1_judgeElement 153 = .ok (.iload 4, 2) := by decide +kernel
theorem dX1_judgeElement_155 : decode cX1_judgeElement 155 = .ok (.iadd, 1) := by decide +kernel
theorem dX1_judgeElement_156 : decode cX1_judgeElement 156 = .ok (.iaload, 1) := by decide +kernel
theorem dX1_judgeElement_157 : decode cX1_judgeElement 157 = .ok (.aload_n 0, 1) := by decide +kernel
theorem dX1_judgeElement_158 : decode cX1_judgeElement 158 = .ok (.getfield 46, 3) := by decide +kernel
theorem dX1_judgeElement_161 : decode cX1_judgeElement 161 = .ok (.iload_n 2, 1) := by decide +kernel
theorem dX1_judgeElement_162 : decode cX1_judgeElement 162 = .ok (.iload 4, 2) := by decide +kernel
theorem dX1_judgeElement_164 : decode cX1_judgeElement 164 = .ok (.iadd, 1) := by decide +kernel
theorem dX1_judgeElement_165 : decode cX1_judgeElement 165 = .ok (.iaload, 1) := by decide +kernel
theorem dX1_judgeElement_166 : decode cX1_judgeElement 166 = .ok (.invokevirtual 534, 3) := by decide +kernel
theorem dX1_judgeElement_169 : decode cX1_judgeElement 169 = .ok (.ifCond .eq 53, 3) := by decide +kernel
theorem dX1_judgeElement_172 : decode cX1_judgeElement 172 = .ok (.aload_n 0, 1) := by decide +kernel
theorem dX1_judgeElement_173 : decode cX1_judgeElement 173 = .ok (.getfield 122, 3) := by decide +kernel
theorem dX1_judgeElement_176 : decode cX1_judgeElement 176 = .ok (.iload 5, 2) := by decide +kernel
theorem dX1_judgeElement_178 : decode cX1_judgeElement 178 = .ok (.iaload, 1) := by decide +kernel
theorem dX1_judgeElement_179 : decode cX1_judgeElement 179 = .ok (.iconst 2, 1) := by decide +kernel
theorem dX1_judgeElement_180 : decode cX1_judgeElement 180 = .ok (.if_icmp .ne 53, 3) := by decide +kernel
theorem dX1_judgeElement_183 : decode cX1_judgeElement 183 = .ok (.aload_n 0, 1) := by decide +kernel
theorem dX1_judgeElement_184 : decode cX1_judgeElement 184 = .ok (.aload_n 0, 1) := by decide +kernel
theorem dX1_judgeElement_185 : decode cX1_judgeElement 185 = .ok (.getfield 125, 3) := by decide +kernel
theorem dX1_judgeElement_188 : decode cX1_judgeElement 188 = .ok (.iload 5, 2) := by decide +kernel
theorem dX1_judgeElement_190 : decode cX1_judgeElement 190 = .ok (.iaload, 1) := by decide +kernel
theorem dX1_judgeElement_191 : decode cX1_judgeElement 191 = .ok (.aload_n 0, 1) := by decide +kernel
theorem dX1_judgeElement_192 : decode cX1_judgeElement 192 = .ok (.getfield 128, 3) := by decide +kernel
theorem dX1_judgeElement_195 : decode cX1_judgeElement 195 = .ok (.iload 5, 2) := by decide +kernel
theorem dX1_judgeElement_197 : decode cX1_judgeElement 197 = .ok (.iaload, 1) := by decide +kernel
theorem dX1_judgeElement_198 : decode cX1_judgeElement 198 = .ok (.aload_n 0, 1) := by decide +kernel
theorem dX1_judgeElement_199 : decode cX1_judgeElement 199 = .ok (.getfield 43, 3) := by decide +kernel
theorem dX1_judgeElement_202 : decode cX1_judgeElement 202 = .ok (.iload_n 2, 1) := by decide +kernel
theorem dX1_judgeElement_203 : decode cX1_judgeElement 203 = .ok (.iload 4, 2) := by decide +kernel
theorem dX1_judgeElement_205 : decode cX1_judgeElement 205 = .ok (.iadd, 1) := by decide +kernel
theorem dX1_judgeElement_206 : decode cX1_judgeElement 206 = .ok (.iaload, 1) := by decide +kernel
theorem dX1_judgeElement_207 : decode cX1_judgeElement 207 = .ok (.aload_n 0, 1) := by decide +kernel
theorem dX1_judgeElement_208 : decode cX1_judgeElement 208 = .ok (.getfield 46, 3) := by decide +kernel
theorem dX1_judgeElement_211 : decode cX1_judgeElement 211 = .ok (.iload_n 2, 1) := by decide +kernel
theorem dX1_judgeElement_212 : decode cX1_judgeElement 212 = .ok (.iload 4, 2) := by decide +kernel
theorem dX1_judgeElement_214 : decode cX1_judgeElement 214 = .ok (.iadd, 1) := by decide +kernel
theorem dX1_judgeElement_215 : decode cX1_judgeElement 215 = .ok (.iaload, 1) := by decide +kernel
theorem dX1_judgeElement_216 : decode cX1_judgeElement 216 = .ok (.invokevirtual 549, 3) := by decide +kernel
theorem dX1_judgeElement_219 : decode cX1_judgeElement 219 = .ok (.ifCond .ne 14, 3) := by decide +kernel
theorem dX1_judgeElement_222 : decode cX1_judgeElement 222 = .ok (.aload_n 0, 1) := by decide +kernel
theorem dX1_judgeElement_223 : decode cX1_judgeElement 223 = .ok (.bipush 10, 2) := by decide +kernel
theorem dX1_judgeElement_225 : decode cX1_judgeElement 225 = .ok (.iload 4, 2) := by decide +kernel
theorem dX1_judgeElement_227 : decode cX1_judgeElement 227 = .ok (.invokevirtual 519, 3) := by decide +kernel
theorem dX1_judgeElement_230 : decode cX1_judgeElement 230 = .ok (.goto 31, 3) := by decide +kernel
theorem dX1_judgeElement_233 : decode cX1_judgeElement 233 = .ok (.aload_n 0, 1) := by decide +kernel
theorem dX1_judgeElement_234 : decode cX1_judgeElement 234 = .ok (.getfield 119, 3) := by decide +kernel
theorem dX1_judgeElement_237 : decode cX1_judgeElement 237 = .ok (.iload 5, 2) := by decide +kernel
theorem dX1_judgeElement_239 : decode cX1_judgeElement 239 = .ok (.iaload, 1) := by decide +kernel
theorem dX1_judgeElement_240 : decode cX1_judgeElement 240 = .ok (.iconst 1, 1) := by decide +kernel
theorem dX1_judgeElement_241 : decode cX1_judgeElement 241 = .ok (.if_icmp .ne 20, 3) := by decide +kernel
theorem dX1_judgeElement_244 : decode cX1_judgeElement 244 = .ok (.aload_n 0, 1) := by decide +kernel
theorem dX1_judgeElement_245 : decode cX1_judgeElement 245 = .ok (.iload 4, 2) := by decide +kernel
theorem dX1_judgeElement_247 : decode cX1_judgeElement 247 = .ok (.invokevirtual 555, 3) := by decide +kernel
theorem dX1_judgeElement_250 : decode cX1_judgeElement 250 = .ok (.ifCond .eq 11, 3) := by decide +kernel
theorem dX1_judgeElement_253 : decode cX1_judgeElement 253 = .ok (.aload_n 0, 1) := by decide +kernel
theorem dX1_judgeElement_254 : decode cX1_judgeElement 254 = .ok (.bipush 11, 2) := by decide +kernel
theorem dX1_judgeElement_256 : decode cX1_judgeElement 256 = .ok (.iload 4, 2) := by decide +kernel
theorem dX1_judgeElement_258 : decode cX1_judgeElement 258 = .ok (.invokevirtual 519, 3) := by decide +kernel
theorem dX1_judgeElement_261 : decode cX1_judgeElement 261 = .ok (.iinc 4 1, 3) := by decide +kernel
theorem dX1_judgeElement_264 : decode cX1_judgeElement 264 = .ok (.goto (-199), 3) := by decide +kernel
theorem dX1_judgeElement_267 : decode cX1_judgeElement 267 = .ok (.sipush 800, 3) := by decide +kernel
theorem dX1_judgeElement_270 : decode cX1_judgeElement 270 = .ok (.aload_n 0, 1) := by decide +kernel
theorem dX1_judgeElement_271 : decode cX1_judgeElement 271 = .ok (.getfield 482, 3) := by decide +kernel
theorem dX1_judgeElement_274 : decode cX1_judgeElement 274 = .ok (.imul, 1) := by decide +kernel
theorem dX1_judgeElement_275 : decode cX1_judgeElement 275 = .ok (.istore 4, 2) := by decide +kernel
theorem dX1_judgeElement_277 : decode cX1_judgeElement 277 = .ok (.iload 4, 2) := by decide +kernel
theorem dX1_judgeElement_279 : decode cX1_judgeElement 279 = .ok (.sipush 800, 3) := by decide +kernel
theorem dX1_judgeElement_282 : decode cX1_judgeElement 282 = .ok (.aload_n 0, 1) := by decide +kernel
theorem dX1_judgeElement_283 : decode cX1_judgeElement 283 = .ok (.getfield 482, 3) := by decide +kernel
theorem dX1_judgeElement_286 : decode cX1_judgeElement 286 = .ok (.imul, 1) := by decide +kernel
theorem dX1_judgeElement_287 : decode cX1_judgeElement 287 = .ok (.aload_n 0, 1) := by decide +kernel
theorem dX1_judgeElement_288 : decode cX1_judgeElement 288 = .ok (.getfield 104, 3) := by decide +kernel
theorem dX1_judgeElement_291 : decode cX1_judgeElement 291 = .ok (.aload_n 0, 1) := by decide +kernel
theorem dX1_judgeElement_292 : decode cX1_judgeElement 292 = .ok (.getfield 482, 3) := by decide +kernel
theorem dX1_judgeElement_295 : decode cX1_judgeElement 295 = .ok (.iaload, 1) := by decide +kernel
theorem dX1_judgeElement_296 : decode cX1_judgeElement 296 = .ok (.iadd, 1) := by decide +kernel
theorem dX1_judgeElement_297 : decode cX1_judgeElement 297 = .ok (.if_icmp .ge 89, 3) := by decide +kernel
theorem dX1_judgeElement_300 : decode cX1_judgeElement 300 = .ok (.aload_n 0, 1) := by decide +kernel
theorem dX1_judgeElement_301 : decode cX1_judgeElement 301 = .ok (.aload_n 0, 1) := by decide +kernel
theorem dX1_judgeElement_302 : decode cX1_judgeElement 302 = .ok (.getfield 107, 3) := by decide +kernel
theorem dX1_judgeElement_305 : decode cX1_judgeElement 305 = .ok (.iload 4, 2) := by decide +kernel
theorem dX1_judgeElement_307 : decode cX1_judgeElement 307 = .ok (.iaload, 1) := by decide +kernel
theorem dX1_judgeElement_308 : decode cX1_judgeElement 308 = .ok (.aload_n 0, 1) := by decide +kernel
theorem dX1_judgeElement_309 : decode cX1_judgeElement 309 = .ok (.getfield 110, 3) := by decide +kernel
theorem dX1_judgeElement_312 : decode cX1_judgeElement 312 = .ok (.iload 4, 2) := by decide +kernel
theorem dX1_judgeElement_314 : decode cX1_judgeElement 314 = .ok (.iaload, 1) := by decide +kernel
theorem dX1_judgeElement_315 : decode cX1_judgeElement 315 = .ok (.aload_n 0, 1) := by decide +kernel
theorem dX1_judgeElement_316 : decode cX1_judgeElement 316 = .ok (.getfield 37, 3) := by decide +kernel
theorem dX1_judgeElement_319 : decode cX1_judgeElement 319 = .ok (.iload_n 2, 1) := by decide +kernel
theorem dX1_judgeElement_320 : decode cX1_judgeElement 320 = .ok (.iload_n 1, 1) := by decide +kernel
theorem dX1_judgeElement_321 : decode cX1_judgeElement 321 = .ok (.iadd, 1) := by decide +kernel
theorem dX1_judgeElement_322 : decode cX1_judgeElement 322 = .ok (.iaload, 1) := by decide +kernel
theorem dX1_judgeElement_323 : decode cX1_judgeElement 323 = .ok (.aload_n 0, 1) := by decide +kernel
theorem dX1_judgeElement_324 : decode cX1_judgeElement 324 = .ok (.getfield 40, 3) := by decide +kernel
theorem dX1_judgeElement_327 : decode cX1_judgeElement 327 = .ok (.iload_n 2, 1) := by decide +kernel
theorem dX1_judgeElement_328 : decode cX1_judgeElement 328 = .ok (.iload_n 1, 1) := by decide +kernel
theorem dX1_judgeElement_329 : decode cX1_judgeElement 329 = .ok (.iadd, 1) := by decide +kernel
theorem dX1_judgeElement_330 : decode cX1_judgeElement 330 = .ok (.iaload, 1) := by decide +kernel
theorem dX1_judgeElement_331 : decode cX1_judgeElement 331 = .ok (.invokevirtual 412, 3) := by decide +kernel
theorem dX1_judgeElement_334 : decode cX1_judgeElement 334 = .ok (.istore 5, 2) := by decide +kernel
theorem dX1_judgeElement_336 : decode cX1_judgeElement 336 = .ok (.iload 5, 2) := by decide +kernel
theorem dX1_judgeElement_338 : decode cX1_judgeElement 338 = .ok (.ifCond .eq 42, 3) := by decide +kernel
theorem dX1_judgeElement_341 : decode cX1_judgeElement 341 = .ok (.aload_n 0, 1) := by decide +kernel
theorem dX1_judgeElement_342 : decode cX1_judgeElement 342 = .ok (.getfield 122, 3) := by decide +kernel
theorem dX1_judgeElement_345 : decode cX1_judgeElement 345 = .ok (.iload 4, 2) := by decide +kernel
theorem dX1_judgeElement_347 : decode cX1_judgeElement 347 = .ok (.iaload, 1) := by decide +kernel
theorem dX1_judgeElement_348 : decode cX1_judgeElement 348 = .ok (.ifCond .ne 32, 3) := by decide +kernel
theorem dX1_judgeElement_351 : decode cX1_judgeElement 351 = .ok (.aload_n 0, 1) := by decide +kernel
theorem dX1_judgeElement_352 : decode cX1_judgeElement 352 = .ok (.iload_n 1, 1) := by decide +kernel
theorem dX1_judgeElement_353 : decode cX1_judgeElement 353 = .ok (.aload_n 0, 1) := by decide +kernel
theorem dX1_judgeElement_354 : decode cX1_judgeElement 354 = .ok (.getfield 113, 3) := by decide +kernel
theorem dX1_judgeElement_357 : decode cX1_judgeElement 357 = .ok (.iload 4, 2) := by decide +kernel
theorem dX1_judgeElement_359 : decode cX1_judgeElement 359 = .ok (.iaload, 1) := by decide +kernel
theorem dX1_judgeElement_360 : decode cX1_judgeElement 360 = .ok (.aload_n 0, 1) := by decide +kernel
theorem dX1_judgeElement_361 : decode cX1_judgeElement 361 = .ok (.getfield 116, 3) := by decide +kernel
theorem dX1_judgeElement_364 : decode cX1_judgeElement 364 = .ok (.iload 4, 2) := by decide +kernel
theorem dX1_judgeElement_366 : decode cX1_judgeElement 366 = .ok (.iaload, 1) := by decide +kernel
theorem dX1_judgeElement_367 : decode cX1_judgeElement 367 = .ok (.invokevirtual 458, 3) := by decide +kernel
theorem dX1_judgeElement_370 : decode cX1_judgeElement 370 = .ok (.ifCond .ne 10, 3) := by decide +kernel
theorem dX1_judgeElement_373 : decode cX1_judgeElement 373 = .ok (.aload_n 0, 1) := by decide +kernel
theorem dX1_judgeElement_374 : decode cX1_judgeElement 374 = .ok (.bipush 12, 2) := by decide +kernel
theorem dX1_judgeElement_376 : decode cX1_judgeElement 376 = .ok (.iload_n 1, 1) := by decide +kernel
theorem dX1_judgeElement_377 : decode cX1_judgeElement 377 = .ok (.invokevirtual 519, 3) := by decide +kernel
theorem dX1_judgeElement_380 : decode cX1_judgeElement 380 = .ok (.iinc 4 1, 3) := by decide +kernel
theorem dX1_judgeElement_383 : decode cX1_judgeElement 383 = .ok (.goto (-106), 3) := by decide +kernel
theorem dX1_judgeElement_386 : decode cX1_judgeElement 386 = .ok (.return_, 1) := by decide +kernel
def m_judgeElement_277 : Nat → MEM → Int → Int → Int → Option zm_O
  | 0, _, _, _, _ => none
  | n + 1, σ, x1, x2, x4 => ck (0 ≤ (σ (-1) 7) ∧ (σ (-1) 7) < 2) (ck (inR ((800 * (σ (-1) 7)) + (σ 37 (σ (-1) 7)))) (if ((800 * (σ (-1) 7)) + (σ 37 (σ (-1) 7))) ≤ x4 then (some (0, σ)) else (ck (0 ≤ x4 ∧ x4 < 1600) (ck (0 ≤ x4 ∧ x4 < 1600) (ck (0 ≤ (x2 + x1) ∧ (x2 + x1) < 1200) (ck (0 ≤ (x2 + x1) ∧ (x2 + x1) < 1200) (bd (m_isSame σ (σ 38 x4) (σ 39 x4) (σ 15 (x2 + x1)) (σ 16 (x2 + x1))) (fun r9 σ10 => if r9 = 0 then (ck (inR (x4 + 1)) (m_judgeElement_277 n σ10 x1 x2 (x4 + 1))) else (ck (0 ≤ x4 ∧ x4 < 1600) (if (σ10 43 x4) = 0 then (ck (0 ≤ x4 ∧ x4 < 1600) (ck (0 ≤ x4 ∧ x4 < 1600) (bd (m_hasAttribute σ10 x1 (σ10 40 x4) (σ10 41 x4)) (fun r16 σ17 => if r16 = 0 then (bd (m_tellFinding σ17 12 x1) (fun _ σ19 => ck (inR (x4 + 1)) (m_judgeElement_277 n σ19 x1 x2 (x4 + 1)))) else (ck (inR (x4 + 1)) (m_judgeElement_277 n σ17 x1 x2 (x4 + 1))))))) else (ck (inR (x4 + 1)) (m_judgeElement_277 n σ10 x1 x2 (x4 + 1)))))))))))))
theorem w_judgeElement_277 {C : zv_Cx zm_O} {G : zm_G} (h : zv_Ok C cX1_judgeElement RX1) (hc : zm_C C G 6 (Option.none : Option FieldType) 0 5 115) : ∀ (n : Nat) (σ : MEM) (x1 x2 x4 : Int), inR x1 → inR x2 → inR x4 → VV C (m_judgeElement_277 n σ x1 x2 x4) σ [(0, .ref (zm_h G)), (1, iv x1), (2, iv x2), (4, iv x4)] [] 277 := by
  have hN : ∀ i, i < 6 → i < zv_n C := fun i q => by rw [hc.2.2.1]; exact q
  intro n
  induction n with
  | zero => intros; exact r_none
  | succ n ih =>
    intro σ x1 x2 x4 hx1 hx2 hx4
    rw [m_judgeElement_277]
    refine r_iload h 3 dX1_judgeElement_277 rfl ?_
    refine r_sipush h dX1_judgeElement_279 (by decide) ?_
    refine r_aload_n h 0 dX1_judgeElement_282 rfl rfl ?_
    refine zm_getI h hc 7 7 (by decide) rfl rfl q1487 rfl dX1_judgeElement_283 (fun hr1 => ?_)
    refine r_imul h dX1_judgeElement_286 ?_
    refine r_aload_n h 0 dX1_judgeElement_287 rfl rfl ?_
    refine zm_getA h hc 37 (by decide) rfl q1517 rfl dX1_judgeElement_288 ?_
    refine r_aload_n h 0 dX1_judgeElement_291 rfl rfl ?_
    refine zm_getI h hc 7 7 (by decide) rfl rfl q1487 rfl dX1_judgeElement_292 (fun hr2 => ?_)
    refine zm_ldI h hc 37 37 2 (by decide) rfl rfl rfl (by decide) dX1_judgeElement_295 (fun _ hr3 => ?_)
    refine r_iadd h dX1_judgeElement_296 ?_
    refine r_ck (fun hk4 => ?_)
    refine r_icmp_ge h hx4 hk4 386 dX1_judgeElement_297 rfl ?_ ?_
    · exact zm_vret h hc rfl dX1_judgeElement_386
    · refine r_aload_n h 0 dX1_judgeElement_300 rfl rfl ?_
      refine r_aload_n h 0 dX1_judgeElement_301 rfl rfl ?_
      refine zm_getA h hc 38 (by decide) rfl q1518 rfl dX1_judgeElement_302 ?_
      refine r_iload h 3 dX1_judgeElement_305 rfl ?_
      refine zm_ldI h hc 38 38 1600 (by decide) rfl rfl rfl (by decide) dX1_judgeElement_307 (fun _ hr5 => ?_)
      refine r_aload_n h 0 dX1_judgeElement_308 rfl rfl ?_
      refine zm_getA h hc 39 (by decide) rfl q1519 rfl dX1_judgeElement_309 ?_
      refine r_iload h 3 dX1_judgeElement_312 rfl ?_
      refine zm_ldI h hc 39 39 1600 (by decide) rfl rfl rfl (by decide) dX1_judgeElement_314 (fun _ hr6 => ?_)
      refine r_aload_n h 0 dX1_judgeElement_315 rfl rfl ?_
      refine zm_getA h hc 15 (by decide) rfl q1495 rfl dX1_judgeElement_316 ?_
      refine r_iload_n h 2 dX1_judgeElement_319 rfl rfl ?_
      refine r_iload_n h 1 dX1_judgeElement_320 rfl rfl ?_
      refine r_iadd h dX1_judgeElement_321 ?_
      refine zm_ldI h hc 15 15 1200 (by decide) rfl rfl rfl (by decide) dX1_judgeElement_322 (fun _ hr7 => ?_)
      refine r_aload_n h 0 dX1_judgeElement_323 rfl rfl ?_
      refine zm_getA h hc 16 (by decide) rfl q1496 rfl dX1_judgeElement_324 ?_
      refine r_iload_n h 2 dX1_judgeElement_327 rfl rfl ?_
      refine r_iload_n h 1 dX1_judgeElement_328 rfl rfl ?_
      refine r_iadd h dX1_judgeElement_329 ?_
      refine zm_ldI h hc 16 16 1200 (by decide) rfl rfl rfl (by decide) dX1_judgeElement_330 (fun _ hr8 => ?_)
      refine zm_cVz h hc (n := 4) (As := [iv (σ 38 x4), iv (σ 39 x4), iv (σ 15 (x2 + x1)), iv (σ 16 (x2 + x1))]) (fun o1 e1 => w_isSame hc.1 _ (σ 38 x4) (σ 39 x4) (σ 15 (x2 + x1)) (σ 16 (x2 + x1)) hr5 hr6 hr7 hr8 o1 e1) q1924 q1926 qs79 q136 q1927 (by decide +kernel) ⟨by decide, by decide⟩ rfl (Nat.le_of_ble_eq_true rfl) rfl dX1_judgeElement_331 (fun r9 σ10 hr11 => ?_)
      refine r_istore (lv' := [(5, iv r9), (0, .ref (zm_h G)), (1, iv x1), (2, iv x2), (4, iv x4)]) h dX1_judgeElement_334 (hN _ (by decide)) rfl ?_
      refine r_iload h 0 dX1_judgeElement_336 rfl ?_
      refine r_if_eq h hr11.r 380 dX1_judgeElement_338 rfl ?_ ?_
      · refine r_iinc (lv' := [(4, iv (x4 + 1)), (5, iv r9), (0, .ref (zm_h G)), (1, iv x1), (2, iv x2)]) h 4 dX1_judgeElement_380 rfl (hN _ (by decide)) rfl ?_
        refine r_goto h 277 dX1_judgeElement_383 rfl ?_
        refine r_ck (fun hk12 => ?_)
        exact r_lv [2, 3, 4, 0] rfl (ih _ x1 x2 (x4 + 1) hx1 hx2 hk12)
      · refine r_aload_n h 1 dX1_judgeElement_341 rfl rfl ?_
        refine zm_getA h hc 43 (by decide) rfl q1523 rfl dX1_judgeElement_342 ?_
        refine r_iload h 4 dX1_judgeElement_345 rfl ?_
        refine zm_ldI h hc 43 43 1600 (by decide) rfl rfl rfl (by decide) dX1_judgeElement_347 (fun _ hr13 => ?_)
        refine r_if_ne h hr13 380 dX1_judgeElement_348 rfl ?_ ?_
        · refine r_aload_n h 1 dX1_judgeElement_351 rfl rfl ?_
          refine r_iload_n h 2 dX1_judgeElement_352 rfl rfl ?_
          refine r_aload_n h 1 dX1_judgeElement_353 rfl rfl ?_
          refine zm_getA h hc 40 (by decide) rfl q1520 rfl dX1_judgeElement_354 ?_
          refine r_iload h 4 dX1_judgeElement_357 rfl ?_
          refine zm_ldI h hc 40 40 1600 (by decide) rfl rfl rfl (by decide) dX1_judgeElement_359 (fun _ hr14 => ?_)
          refine r_aload_n h 1 dX1_judgeElement_360 rfl rfl ?_
          refine zm_getA h hc 41 (by decide) rfl q1521 rfl dX1_judgeElement_361 ?_
          refine r_iload h 4 dX1_judgeElement_364 rfl ?_
          refine zm_ldI h hc 41 41 1600 (by decide) rfl rfl rfl (by decide) dX1_judgeElement_366 (fun _ hr15 => ?_)
          refine zm_cVz h hc (n := 3) (As := [iv x1, iv (σ10 40 x4), iv (σ10 41 x4)]) (fun o1 e1 => w_hasAttribute hc.1 _ x1 (σ10 40 x4) (σ10 41 x4) hx1 hr14 hr15 o1 e1) q1968 q1970 qs87 q136 q1971 (by decide +kernel) ⟨by decide, by decide⟩ rfl (Nat.le_of_ble_eq_true rfl) rfl dX1_judgeElement_367 (fun r16 σ17 hr18 => ?_)
          refine r_if_ne h hr18.r 380 dX1_judgeElement_370 rfl ?_ ?_
          · refine r_aload_n h 1 dX1_judgeElement_373 rfl rfl ?_
            refine r_bipush h dX1_judgeElement_374 (by decide) ?_
            refine r_iload_n h 2 dX1_judgeElement_376 rfl rfl ?_
            refine zm_cVv h hc (n := 2) (As := [iv 12, iv x1]) (fun o1 e1 => w_tellFinding hc.1 _ 12 x1 (by decide) hx1 o1 e1) q2006 q2008 qs96 q136 q2009 (by decide +kernel) ⟨by decide, by decide⟩ rfl (Nat.le_of_ble_eq_true rfl) rfl dX1_judgeElement_377 (fun σ19  => ?_)
            refine r_iinc (lv' := [(4, iv (x4 + 1)), (5, iv r9), (0, .ref (zm_h G)), (1, iv x1), (2, iv x2)]) h 4 dX1_judgeElement_380 rfl (hN _ (by decide)) rfl ?_
            refine r_goto h 277 dX1_judgeElement_383 rfl ?_
            refine r_ck (fun hk20 => ?_)
            exact r_lv [2, 3, 4, 0] rfl (ih _ x1 x2 (x4 + 1) hx1 hx2 hk20)
          · refine r_iinc (lv' := [(4, iv (x4 + 1)), (5, iv r9), (0, .ref (zm_h G)), (1, iv x1), (2, iv x2)]) h 4 dX1_judgeElement_380 rfl (hN _ (by decide)) rfl ?_
            refine r_goto h 277 dX1_judgeElement_383 rfl ?_
            refine r_ck (fun hk21 => ?_)
            exact r_lv [2, 3, 4, 0] rfl (ih _ x1 x2 (x4 + 1) hx1 hx2 hk21)
        · refine r_iinc (lv' := [(4, iv (x4 + 1)), (5, iv r9), (0, .ref (zm_h G)), (1, iv x1), (2, iv x2)]) h 4 dX1_judgeElement_380 rfl (hN _ (by decide)) rfl ?_
          refine r_goto h 277 dX1_judgeElement_383 rfl ?_
          refine r_ck (fun hk22 => ?_)
          exact r_lv [2, 3, 4, 0] rfl (ih _ x1 x2 (x4 + 1) hx1 hx2 hk22)
def m_judgeElement_233 (lp65 : MEM → Int → Int → Int → Option zm_O) (σ : MEM) (x1 x2 x4 x5 : Int) : Option zm_O := ck (0 ≤ x5 ∧ x5 < 1600) (if (σ 42 x5) = 1 then (bd (m_isTaken σ x4) (fun r2 σ3 => if r2 = 0 then (ck (inR (x4 + 1)) (lp65 σ3 x1 x2 (x4 + 1))) else (bd (m_tellFinding σ3 11 x4) (fun _ σ6 => ck (inR (x4 + 1)) (lp65 σ6 x1 x2 (x4 + 1)))))) else (ck (inR (x4 + 1)) (lp65 σ x1 x2 (x4 + 1))))
theorem w_judgeElement_233 {C : zv_Cx zm_O} {G : zm_G} (h : zv_Ok C cX1_judgeElement RX1) (hc : zm_C C G 6 (Option.none : Option FieldType) 0 5 115) (lp65 : MEM → Int → Int → Int → Option zm_O) (hlp65 : ∀ (σ : MEM) (x1 x2 x4 : Int), inR x1 → inR x2 → inR x4 → VV C (lp65 σ x1 x2 x4) σ [(0, .ref (zm_h G)), (1, iv x1), (2, iv x2), (4, iv x4)] [] 65) (σ : MEM) (x1 x2 x4 x5 : Int) (hx1 : inR x1) (hx2 : inR x2) (hx4 : inR x4) (hx5 : inR x5) : VV C (m_judgeElement_233 lp65 σ x1 x2 x4 x5) σ [(0, .ref (zm_h G)), (1, iv x1), (2, iv x2), (4, iv x4), (5, iv x5)] [] 233 := by
  have hN : ∀ i, i < 6 → i < zv_n C := fun i q => by rw [hc.2.2.1]; exact q
  unfold m_judgeElement_233
  refine r_aload_n h 0 dX1_judgeElement_233 rfl rfl ?_
  refine zm_getA h hc 42 (by decide) rfl q1522 rfl dX1_judgeElement_234 ?_
  refine r_iload h 4 dX1_judgeElement_237 rfl ?_
  refine zm_ldI h hc 42 42 1600 (by decide) rfl rfl rfl (by decide) dX1_judgeElement_239 (fun _ hr1 => ?_)
  refine r_iconst h dX1_judgeElement_240 ?_
  refine r_icmp_ne h hr1 (by decide) 261 dX1_judgeElement_241 rfl ?_ ?_
  · refine r_aload_n h 0 dX1_judgeElement_244 rfl rfl ?_
    refine r_iload h 3 dX1_judgeElement_245 rfl ?_
    refine zm_cVz h hc (n := 1) (As := [iv x4]) (fun o1 e1 => w_isTaken hc.1 _ x4 hx4 o1 e1) q2052 q2054 qs107 q136 q2055 (by decide +kernel) ⟨by decide, by decide⟩ rfl (Nat.le_of_ble_eq_true rfl) rfl dX1_judgeElement_247 (fun r2 σ3 hr4 => ?_)
    refine r_if_eq h hr4.r 261 dX1_judgeElement_250 rfl ?_ ?_
    · refine r_iinc (lv' := [(4, iv (x4 + 1)), (0, .ref (zm_h G)), (1, iv x1), (2, iv x2), (5, iv x5)]) h 3 dX1_judgeElement_261 rfl (hN _ (by decide)) rfl ?_
      refine r_goto h 65 dX1_judgeElement_264 rfl ?_
      refine r_ck (fun hk5 => ?_)
      exact r_lv [1, 2, 3, 0] rfl (hlp65 _ x1 x2 (x4 + 1) hx1 hx2 hk5)
    · refine r_aload_n h 0 dX1_judgeElement_253 rfl rfl ?_
      refine r_bipush h dX1_judgeElement_254 (by decide) ?_
      refine r_iload h 3 dX1_judgeElement_256 rfl ?_
      refine zm_cVv h hc (n := 2) (As := [iv 11, iv x4]) (fun o1 e1 => w_tellFinding hc.1 _ 11 x4 (by decide) hx4 o1 e1) q2006 q2008 qs96 q136 q2009 (by decide +kernel) ⟨by decide, by decide⟩ rfl (Nat.le_of_ble_eq_true rfl) rfl dX1_judgeElement_258 (fun σ6  => ?_)
      refine r_iinc (lv' := [(4, iv (x4 + 1)), (0, .ref (zm_h G)), (1, iv x1), (2, iv x2), (5, iv x5)]) h 3 dX1_judgeElement_261 rfl (hN _ (by decide)) rfl ?_
      refine r_goto h 65 dX1_judgeElement_264 rfl ?_
      refine r_ck (fun hk7 => ?_)
      exact r_lv [1, 2, 3, 0] rfl (hlp65 _ x1 x2 (x4 + 1) hx1 hx2 hk7)
  · refine r_iinc (lv' := [(4, iv (x4 + 1)), (0, .ref (zm_h G)), (1, iv x1), (2, iv x2), (5, iv x5)]) h 3 dX1_judgeElement_261 rfl (hN _ (by decide)) rfl ?_
    refine r_goto h 65 dX1_judgeElement_264 rfl ?_
    refine r_ck (fun hk8 => ?_)
    exact r_lv [1, 2, 3, 0] rfl (hlp65 _ x1 x2 (x4 + 1) hx1 hx2 hk8)
def m_judgeElement_222 (lp65 : MEM → Int → Int → Int → Option zm_O) (σ : MEM) (x1 x2 x4 : Int) : Option zm_O := bd (m_tellFinding σ 10 x4) (fun _ σ1 => ck (inR (x4 + 1)) (lp65 σ1 x1 x2 (x4 + 1)))
theorem w_judgeElement_222 {C : zv_Cx zm_O} {G : zm_G} (h : zv_Ok C cX1_judgeElement RX1) (hc : zm_C C G 6 (Option.none : Option FieldType) 0 5 115) (lp65 : MEM → Int → Int → Int → Option zm_O) (hlp65 : ∀ (σ : MEM) (x1 x2 x4 : Int), inR x1 → inR x2 → inR x4 → VV C (lp65 σ x1 x2 x4) σ [(0, .ref (zm_h G)), (1, iv x1), (2, iv x2), (4, iv x4)] [] 65) (σ : MEM) (x1 x2 x4 : Int) (hx1 : inR x1) (hx2 : inR x2) (hx4 : inR x4) : VV C (m_judgeElement_222 lp65 σ x1 x2 x4) σ [(0, .ref (zm_h G)), (1, iv x1), (2, iv x2), (4, iv x4)] [] 222 := by
  have hN : ∀ i, i < 6 → i < zv_n C := fun i q => by rw [hc.2.2.1]; exact q
  unfold m_judgeElement_222
  refine r_aload_n h 0 dX1_judgeElement_222 rfl rfl ?_
  refine r_bipush h dX1_judgeElement_223 (by decide) ?_
  refine r_iload h 3 dX1_judgeElement_225 rfl ?_
  refine zm_cVv h hc (n := 2) (As := [iv 10, iv x4]) (fun o1 e1 => w_tellFinding hc.1 _ 10 x4 (by decide) hx4 o1 e1) q2006 q2008 qs96 q136 q2009 (by decide +kernel) ⟨by decide, by decide⟩ rfl (Nat.le_of_ble_eq_true rfl) rfl dX1_judgeElement_227 (fun σ1  => ?_)
  refine r_goto h 261 dX1_judgeElement_230 rfl ?_
  refine r_iinc (lv' := [(4, iv (x4 + 1)), (0, .ref (zm_h G)), (1, iv x1), (2, iv x2)]) h 3 dX1_judgeElement_261 rfl (hN _ (by decide)) rfl ?_
  refine r_goto h 65 dX1_judgeElement_264 rfl ?_
  refine r_ck (fun hk2 => ?_)
  exact r_lv [1, 2, 3, 0] rfl (hlp65 _ x1 x2 (x4 + 1) hx1 hx2 hk2)
def m_judgeElement_65 : Nat → MEM → Int → Int → Int → Option zm_O
  | 0, _, _, _, _ => none
  | n + 1, σ, x1, x2, x4 => ck (0 ≤ (σ (-1) 7) ∧ (σ (-1) 7) < 2) (if (σ 12 (σ (-1) 7)) ≤ x4 then (ck (inR (800 * (σ (-1) 7))) (m_judgeElement_277 zF σ x1 x2 (800 * (σ (-1) 7)))) else (ck (0 ≤ (x2 + x4) ∧ (x2 + x4) < 1200) (if (σ 13 (x2 + x4)) = 2 then (ck (0 ≤ (x2 + x4) ∧ (x2 + x4) < 1200) (if (σ 14 (x2 + x4)) = x1 then (ck (0 ≤ (x2 + x4) ∧ (x2 + x4) < 1200) (if (σ 19 (x2 + x4)) = 0 then (bd (m_ruleFor σ x1 x4) (fun r8 σ9 => if 0 ≤ r8 then (ck (0 ≤ (x2 + x4) ∧ (x2 + x4) < 1200) (ck (0 ≤ (x2 + x4) ∧ (x2 + x4) < 1200) (bd (m_isOf σ9 r8 (σ9 17 (x2 + x4)) (σ9 18 (x2 + x4))) (fun r13 σ14 => if r13 = 0 then (m_judgeElement_222 (m_judgeElement_65 n) σ14 x1 x2 x4) else (ck (0 ≤ r8 ∧ r8 < 1600) (if (σ14 43 r8) = 2 then (ck (0 ≤ r8 ∧ r8 < 1600) (ck (0 ≤ r8 ∧ r8 < 1600) (ck (0 ≤ (x2 + x4) ∧ (x2 + x4) < 1200) (ck (0 ≤ (x2 + x4) ∧ (x2 + x4) < 1200) (bd (m_areSameKept σ14 (σ14 44 r8) (σ14 45 r8) (σ14 17 (x2 + x4)) (σ14 18 (x2 + x4))) (fun r21 σ22 => if r21 = 0 then (m_judgeElement_222 (m_judgeElement_65 n) σ22 x1 x2 x4) else (m_judgeElement_233 (m_judgeElement_65 n) σ22 x1 x2 x4 r8))))))) else (m_judgeElement_233 (m_judgeElement_65 n) σ14 x1 x2 x4 r8))))))) else (bd (m_tellFinding σ9 9 x4) (fun _ σ24 => ck (inR (x4 + 1)) (m_judgeElement_65 n σ24 x1 x2 (x4 + 1)))))) else (ck (inR (x4 + 1)) (m_judgeElement_65 n σ x1 x2 (x4 + 1))))) else (ck (inR (800 * (σ (-1) 7))) (m_judgeElement_277 zF σ x1 x2 (800 * (σ (-1) 7)))))) else (ck (inR (800 * (σ (-1) 7))) (m_judgeElement_277 zF σ x1 x2 (800 * (σ (-1) 7)))))))
theorem w_judgeElement_65 {C : zv_Cx zm_O} {G : zm_G} (h : zv_Ok C cX1_judgeElement RX1) (hc : zm_C C G 6 (Option.none : Option FieldType) 0 5 115) : ∀ (n : Nat) (σ : MEM) (x1 x2 x4 : Int), inR x1 → inR x2 → inR x4 → VV C (m_judgeElement_65 n σ x1 x2 x4) σ [(0, .ref (zm_h G)), (1, iv x1), (2, iv x2), (4, iv x4)] [] 65 := by
  have hN : ∀ i, i < 6 → i < zv_n C := fun i q => by rw [hc.2.2.1]; exact q
  intro n
  induction n with
  | zero => intros; exact r_none
  | succ n ih =>
    intro σ x1 x2 x4 hx1 hx2 hx4
    rw [m_judgeElement_65]
    refine r_iload h 3 dX1_judgeElement_65 rfl ?_
    refine r_aload_n h 0 dX1_judgeElement_67 rfl rfl ?_
    refine zm_getA h hc 12 (by decide) rfl q1492 rfl dX1_judgeElement_68 ?_
    refine r_aload_n h 0 dX1_judgeElement_71 rfl rfl ?_
    refine zm_getI h hc 7 7 (by decide) rfl rfl q1487 rfl dX1_judgeElement_72 (fun hr1 => ?_)
    refine zm_ldI h hc 12 12 2 (by decide) rfl rfl rfl (by decide) dX1_judgeElement_75 (fun _ hr2 => ?_)
    refine r_icmp_ge h hx4 hr2 267 dX1_judgeElement_76 rfl ?_ ?_
    · refine r_sipush h dX1_judgeElement_267 (by decide) ?_
      refine r_aload_n h 0 dX1_judgeElement_270 rfl rfl ?_
      refine zm_getI h hc 7 7 (by decide) rfl rfl q1487 rfl dX1_judgeElement_271 (fun hr3 => ?_)
      refine r_imul h dX1_judgeElement_274 ?_
      refine r_istore (lv' := [(4, iv (800 * (σ (-1) 7))), (0, .ref (zm_h G)), (1, iv x1), (2, iv x2)]) h dX1_judgeElement_275 (hN _ (by decide)) rfl ?_
      refine r_ck (fun hk4 => ?_)
      exact r_lv [1, 2, 3, 0] rfl (w_judgeElement_277 h hc zF _ x1 x2 (800 * (σ (-1) 7)) hx1 hx2 hk4)
    · refine r_aload_n h 0 dX1_judgeElement_79 rfl rfl ?_
      refine zm_getA h hc 13 (by decide) rfl q1493 rfl dX1_judgeElement_80 ?_
      refine r_iload_n h 2 dX1_judgeElement_83 rfl rfl ?_
      refine r_iload h 3 dX1_judgeElement_84 rfl ?_
      refine r_iadd h dX1_judgeElement_86 ?_
      refine zm_ldI h hc 13 13 1200 (by decide) rfl rfl rfl (by decide) dX1_judgeElement_87 (fun _ hr5 => ?_)
      refine r_iconst h dX1_judgeElement_88 ?_
      refine r_icmp_ne h hr5 (by decide) 267 dX1_judgeElement_89 rfl ?_ ?_
      · refine r_aload_n h 0 dX1_judgeElement_92 rfl rfl ?_
        refine zm_getA h hc 14 (by decide) rfl q1494 rfl dX1_judgeElement_93 ?_
        refine r_iload_n h 2 dX1_judgeElement_96 rfl rfl ?_
        refine r_iload h 3 dX1_judgeElement_97 rfl ?_
        refine r_iadd h dX1_judgeElement_99 ?_
        refine zm_ldI h hc 14 14 1200 (by decide) rfl rfl rfl (by decide) dX1_judgeElement_100 (fun _ hr6 => ?_)
        refine r_iload_n h 1 dX1_judgeElement_101 rfl rfl ?_
        refine r_icmp_ne h hr6 hx1 267 dX1_judgeElement_102 rfl ?_ ?_
        · refine r_aload_n h 0 dX1_judgeElement_105 rfl rfl ?_
          refine zm_getA h hc 19 (by decide) rfl q1499 rfl dX1_judgeElement_106 ?_
          refine r_iload_n h 2 dX1_judgeElement_109 rfl rfl ?_
          refine r_iload h 3 dX1_judgeElement_110 rfl ?_
          refine r_iadd h dX1_judgeElement_112 ?_
          refine zm_ldZ h hc 19 19 1200 (by decide) rfl rfl rfl (by decide) dX1_judgeElement_113 (fun _ hr7 => ?_)
          refine r_if_eq h hr7.r 120 dX1_judgeElement_114 rfl ?_ ?_
          · refine r_aload_n h 0 dX1_judgeElement_120 rfl rfl ?_
            refine r_iload_n h 1 dX1_judgeElement_121 rfl rfl ?_
            refine r_iload h 3 dX1_judgeElement_122 rfl ?_
            refine zm_cVi h hc (n := 2) (As := [iv x1, iv x4]) (fun o1 e1 => w_ruleFor hc.1 _ x1 x4 hx1 hx4 o1 e1) q2044 q2046 qs105 q136 q2047 (by decide +kernel) ⟨by decide, by decide⟩ rfl (Nat.le_of_ble_eq_true rfl) rfl dX1_judgeElement_124 (fun r8 σ9 hr10 => ?_)
            refine r_istore (lv' := [(5, iv r8), (0, .ref (zm_h G)), (1, iv x1), (2, iv x2), (4, iv x4)]) h dX1_judgeElement_127 (hN _ (by decide)) rfl ?_
            refine r_iload h 0 dX1_judgeElement_129 rfl ?_
            refine r_if_ge h hr10 145 dX1_judgeElement_131 rfl ?_ ?_
            · refine r_aload_n h 1 dX1_judgeElement_145 rfl rfl ?_
              refine r_iload h 0 dX1_judgeElement_146 rfl ?_
              refine r_aload_n h 1 dX1_judgeElement_148 rfl rfl ?_
              refine zm_getA h hc 17 (by decide) rfl q1497 rfl dX1_judgeElement_149 ?_
              refine r_iload_n h 3 dX1_judgeElement_152 rfl rfl ?_
              refine r_iload h 4 dX1_judgeElement_153 rfl ?_
              refine r_iadd h dX1_judgeElement_155 ?_
              refine zm_ldI h hc 17 17 1200 (by decide) rfl rfl rfl (by decide) dX1_judgeElement_156 (fun _ hr11 => ?_)
              refine r_aload_n h 1 dX1_judgeElement_157 rfl rfl ?_
              refine zm_getA h hc 18 (by decide) rfl q1498 rfl dX1_judgeElement_158 ?_
              refine r_iload_n h 3 dX1_judgeElement_161 rfl rfl ?_
              refine r_iload h 4 dX1_judgeElement_162 rfl ?_
              refine r_iadd h dX1_judgeElement_164 ?_
              refine zm_ldI h hc 18 18 1200 (by decide) rfl rfl rfl (by decide) dX1_judgeElement_165 (fun _ hr12 => ?_)
              refine zm_cVz h hc (n := 3) (As := [iv r8, iv (σ9 17 (x2 + x4)), iv (σ9 18 (x2 + x4))]) (fun o1 e1 => w_isOf hc.1 _ r8 (σ9 17 (x2 + x4)) (σ9 18 (x2 + x4)) hr10 hr11 hr12 o1 e1) q2023 q2025 qs100 q136 q2026 (by decide +kernel) ⟨by decide, by decide⟩ rfl (Nat.le_of_ble_eq_true rfl) rfl dX1_judgeElement_166 (fun r13 σ14 hr15 => ?_)
              refine r_if_eq h hr15.r 222 dX1_judgeElement_169 rfl ?_ ?_
              · exact r_lv [1, 2, 3, 4] rfl (w_judgeElement_222 h hc (m_judgeElement_65 n) ih _ x1 x2 x4 hx1 hx2 hx4)
              · refine r_aload_n h 1 dX1_judgeElement_172 rfl rfl ?_
                refine zm_getA h hc 43 (by decide) rfl q1523 rfl dX1_judgeElement_173 ?_
                refine r_iload h 0 dX1_judgeElement_176 rfl ?_
                refine zm_ldI h hc 43 43 1600 (by decide) rfl rfl rfl (by decide) dX1_judgeElement_178 (fun _ hr16 => ?_)
                refine r_iconst h dX1_judgeElement_179 ?_
                refine r_icmp_ne h hr16 (by decide) 233 dX1_judgeElement_180 rfl ?_ ?_
                · refine r_aload_n h 1 dX1_judgeElement_183 rfl rfl ?_
                  refine r_aload_n h 1 dX1_judgeElement_184 rfl rfl ?_
                  refine zm_getA h hc 44 (by decide) rfl q1524 rfl dX1_judgeElement_185 ?_
                  refine r_iload h 0 dX1_judgeElement_188 rfl ?_
                  refine zm_ldI h hc 44 44 1600 (by decide) rfl rfl rfl (by decide) dX1_judgeElement_190 (fun _ hr17 => ?_)
                  refine r_aload_n h 1 dX1_judgeElement_191 rfl rfl ?_
                  refine zm_getA h hc 45 (by decide) rfl q1525 rfl dX1_judgeElement_192 ?_
                  refine r_iload h 0 dX1_judgeElement_195 rfl ?_
                  refine zm_ldI h hc 45 45 1600 (by decide) rfl rfl rfl (by decide) dX1_judgeElement_197 (fun _ hr18 => ?_)
                  refine r_aload_n h 1 dX1_judgeElement_198 rfl rfl ?_
                  refine zm_getA h hc 17 (by decide) rfl q1497 rfl dX1_judgeElement_199 ?_
                  refine r_iload_n h 3 dX1_judgeElement_202 rfl rfl ?_
                  refine r_iload h 4 dX1_judgeElement_203 rfl ?_
                  refine r_iadd h dX1_judgeElement_205 ?_
                  refine zm_ldI h hc 17 17 1200 (by decide) rfl rfl rfl (by decide) dX1_judgeElement_206 (fun _ hr19 => ?_)
                  refine r_aload_n h 1 dX1_judgeElement_207 rfl rfl ?_
                  refine zm_getA h hc 18 (by decide) rfl q1498 rfl dX1_judgeElement_208 ?_
                  refine r_iload_n h 3 dX1_judgeElement_211 rfl rfl ?_
                  refine r_iload h 4 dX1_judgeElement_212 rfl ?_
                  refine r_iadd h dX1_judgeElement_214 ?_
                  refine zm_ldI h hc 18 18 1200 (by decide) rfl rfl rfl (by decide) dX1_judgeElement_215 (fun _ hr20 => ?_)
                  refine zm_cVz h hc (n := 4) (As := [iv (σ14 44 r8), iv (σ14 45 r8), iv (σ14 17 (x2 + x4)), iv (σ14 18 (x2 + x4))]) (fun o1 e1 => w_areSameKept hc.1 _ (σ14 44 r8) (σ14 45 r8) (σ14 17 (x2 + x4)) (σ14 18 (x2 + x4)) hr17 hr18 hr19 hr20 o1 e1) q2048 q2050 qs106 q136 q2051 (by decide +kernel) ⟨by decide, by decide⟩ rfl (Nat.le_of_ble_eq_true rfl) rfl dX1_judgeElement_216 (fun r21 σ22 hr23 => ?_)
                  refine r_if_ne h hr23.r 233 dX1_judgeElement_219 rfl ?_ ?_
                  · exact r_lv [1, 2, 3, 4] rfl (w_judgeElement_222 h hc (m_judgeElement_65 n) ih _ x1 x2 x4 hx1 hx2 hx4)
                  · exact r_lv [1, 2, 3, 4, 0] rfl (w_judgeElement_233 h hc (m_judgeElement_65 n) ih _ x1 x2 x4 r8 hx1 hx2 hx4 hr10)
                · exact r_lv [1, 2, 3, 4, 0] rfl (w_judgeElement_233 h hc (m_judgeElement_65 n) ih _ x1 x2 x4 r8 hx1 hx2 hx4 hr10)
            · refine r_aload_n h 1 dX1_judgeElement_134 rfl rfl ?_
              refine r_bipush h dX1_judgeElement_135 (by decide) ?_
              refine r_iload h 4 dX1_judgeElement_137 rfl ?_
              refine zm_cVv h hc (n := 2) (As := [iv 9, iv x4]) (fun o1 e1 => w_tellFinding hc.1 _ 9 x4 (by decide) hx4 o1 e1) q2006 q2008 qs96 q136 q2009 (by decide +kernel) ⟨by decide, by decide⟩ rfl (Nat.le_of_ble_eq_true rfl) rfl dX1_judgeElement_139 (fun σ24  => ?_)
              refine r_goto h 261 dX1_judgeElement_142 rfl ?_
              refine r_iinc (lv' := [(4, iv (x4 + 1)), (5, iv r8), (0, .ref (zm_h G)), (1, iv x1), (2, iv x2)]) h 4 dX1_judgeElement_261 rfl (hN _ (by decide)) rfl ?_
              refine r_goto h 65 dX1_judgeElement_264 rfl ?_
              refine r_ck (fun hk25 => ?_)
              exact r_lv [2, 3, 4, 0] rfl (ih _ x1 x2 (x4 + 1) hx1 hx2 hk25)
          · refine r_goto h 261 dX1_judgeElement_117 rfl ?_
            refine r_iinc (lv' := [(4, iv (x4 + 1)), (0, .ref (zm_h G)), (1, iv x1), (2, iv x2)]) h 3 dX1_judgeElement_261 rfl (hN _ (by decide)) rfl ?_
            refine r_goto h 65 dX1_judgeElement_264 rfl ?_
            refine r_ck (fun hk26 => ?_)
            exact r_lv [1, 2, 3, 0] rfl (ih _ x1 x2 (x4 + 1) hx1 hx2 hk26)
        · refine r_sipush h dX1_judgeElement_267 (by decide) ?_
          refine r_aload_n h 0 dX1_judgeElement_270 rfl rfl ?_
          refine zm_getI h hc 7 7 (by decide) rfl rfl q1487 rfl dX1_judgeElement_271 (fun hr27 => ?_)
          refine r_imul h dX1_judgeElement_274 ?_
          refine r_istore (lv' := [(4, iv (800 * (σ (-1) 7))), (0, .ref (zm_h G)), (1, iv x1), (2, iv x2)]) h dX1_judgeElement_275 (hN _ (by decide)) rfl ?_
          refine r_ck (fun hk28 => ?_)
          exact r_lv [1, 2, 3, 0] rfl (w_judgeElement_277 h hc zF _ x1 x2 (800 * (σ (-1) 7)) hx1 hx2 hk28)
      · refine r_sipush h dX1_judgeElement_267 (by decide) ?_
        refine r_aload_n h 0 dX1_judgeElement_270 rfl rfl ?_
        refine zm_getI h hc 7 7 (by decide) rfl rfl q1487 rfl dX1_judgeElement_271 (fun hr29 => ?_)
        refine r_imul h dX1_judgeElement_274 ?_
        refine r_istore (lv' := [(4, iv (800 * (σ (-1) 7))), (0, .ref (zm_h G)), (1, iv x1), (2, iv x2)]) h dX1_judgeElement_275 (hN _ (by decide)) rfl ?_
        refine r_ck (fun hk30 => ?_)
        exact r_lv [1, 2, 3, 0] rfl (w_judgeElement_277 h hc zF _ x1 x2 (800 * (σ (-1) 7)) hx1 hx2 hk30)
def m_judgeElement (σ : MEM) (a0 : Int) : Option zm_O := ck (0 ≤ ((600 * (σ (-1) 7)) + a0) ∧ ((600 * (σ (-1) 7)) + a0) < 1200) (ck (0 ≤ ((600 * (σ (-1) 7)) + a0) ∧ ((600 * (σ (-1) 7)) + a0) < 1200) (bd (m_declOf σ (σ 15 ((600 * (σ (-1) 7)) + a0)) (σ 16 ((600 * (σ (-1) 7)) + a0))) (fun r4 σ5 => if 0 ≤ r4 then (bd (m_fits σ5 a0 r4) (fun r7 σ8 => if r7 = 0 then (bd (m_tellFinding σ8 8 a0) (fun _ σ10 => ck (inR (600 * (σ (-1) 7))) (ck (inR (a0 + 1)) (m_judgeElement_65 zF σ10 a0 (600 * (σ (-1) 7)) (a0 + 1))))) else (ck (inR (600 * (σ (-1) 7))) (ck (inR (a0 + 1)) (m_judgeElement_65 zF σ8 a0 (600 * (σ (-1) 7)) (a0 + 1)))))) else (bd (m_tellFinding σ5 7 a0) (fun _ σ15 => ck (inR (600 * (σ (-1) 7))) (ck (inR (a0 + 1)) (m_judgeElement_65 zF σ15 a0 (600 * (σ (-1) 7)) (a0 + 1))))))))
theorem w_judgeElement {G : zm_G} (hD : zm_D G) (σ : MEM) (a0 : Int) (ha0 : inR a0) (o : zm_O) (hd : m_judgeElement σ a0 = some o) : zm_Met G yX1_judgeElement cX1_judgeElement 6 (Option.none : Option FieldType) 0 5 115 σ [.ref (zm_h G), iv a0] o := by
  refine zm_intro hD hd (by decide) rfl (Nat.le_of_ble_eq_true rfl) rfl (fun C h hc => ?_)
  have hN : ∀ i, i < 6 → i < zv_n C := fun i q => by rw [hc.2.2.1]; exact q
  unfold m_judgeElement
  refine r_sipush h dX1_judgeElement_0 (by decide) ?_
  refine r_aload_n h 0 dX1_judgeElement_3 rfl rfl ?_
  refine zm_getI h hc 7 7 (by decide) rfl rfl q1487 rfl dX1_judgeElement_4 (fun hr1 => ?_)
  refine r_imul h dX1_judgeElement_7 ?_
  refine r_istore_n (lv' := [(2, iv (600 * (σ (-1) 7))), (0, .ref (zm_h G)), (1, iv a0)]) h dX1_judgeElement_8 rfl (hN _ (by decide)) rfl ?_
  refine r_aload_n h 1 dX1_judgeElement_9 rfl rfl ?_
  refine r_aload_n h 1 dX1_judgeElement_10 rfl rfl ?_
  refine zm_getA h hc 15 (by decide) rfl q1495 rfl dX1_judgeElement_11 ?_
  refine r_iload_n h 0 dX1_judgeElement_14 rfl rfl ?_
  refine r_iload_n h 2 dX1_judgeElement_15 rfl rfl ?_
  refine r_iadd h dX1_judgeElement_16 ?_
  refine zm_ldI h hc 15 15 1200 (by decide) rfl rfl rfl (by decide) dX1_judgeElement_17 (fun _ hr2 => ?_)
  refine r_aload_n h 1 dX1_judgeElement_18 rfl rfl ?_
  refine zm_getA h hc 16 (by decide) rfl q1496 rfl dX1_judgeElement_19 ?_
  refine r_iload_n h 0 dX1_judgeElement_22 rfl rfl ?_
  refine r_iload_n h 2 dX1_judgeElement_23 rfl rfl ?_
  refine r_iadd h dX1_judgeElement_24 ?_
  refine zm_ldI h hc 16 16 1200 (by decide) rfl rfl rfl (by decide) dX1_judgeElement_25 (fun _ hr3 => ?_)
  refine zm_cVi h hc (n := 2) (As := [iv (σ 15 ((600 * (σ (-1) 7)) + a0)), iv (σ 16 ((600 * (σ (-1) 7)) + a0))]) (fun o1 e1 => w_declOf hc.1 _ (σ 15 ((600 * (σ (-1) 7)) + a0)) (σ 16 ((600 * (σ (-1) 7)) + a0)) hr2 hr3 o1 e1) q2002 q2004 qs95 q136 q2005 (by decide +kernel) ⟨by decide, by decide⟩ rfl (Nat.le_of_ble_eq_true rfl) rfl dX1_judgeElement_26 (fun r4 σ5 hr6 => ?_)
  refine r_istore_n (lv' := [(3, iv r4), (2, iv (600 * (σ (-1) 7))), (0, .ref (zm_h G)), (1, iv a0)]) h dX1_judgeElement_29 rfl (hN _ (by decide)) rfl ?_
  refine r_iload_n h 0 dX1_judgeElement_30 rfl rfl ?_
  refine r_if_ge h hr6 44 dX1_judgeElement_31 rfl ?_ ?_
  · refine r_aload_n h 2 dX1_judgeElement_44 rfl rfl ?_
    refine r_iload_n h 3 dX1_judgeElement_45 rfl rfl ?_
    refine r_iload_n h 0 dX1_judgeElement_46 rfl rfl ?_
    refine zm_cVz h hc (n := 2) (As := [iv a0, iv r4]) (fun o1 e1 => w_fits hc.1 _ a0 r4 ha0 hr6 o1 e1) q2036 q2038 qs103 q136 q2039 (by decide +kernel) ⟨by decide, by decide⟩ rfl (Nat.le_of_ble_eq_true rfl) rfl dX1_judgeElement_47 (fun r7 σ8 hr9 => ?_)
    refine r_if_ne h hr9.r 60 dX1_judgeElement_50 rfl ?_ ?_
    · refine r_aload_n h 2 dX1_judgeElement_53 rfl rfl ?_
      refine r_bipush h dX1_judgeElement_54 (by decide) ?_
      refine r_iload_n h 3 dX1_judgeElement_56 rfl rfl ?_
      refine zm_cVv h hc (n := 2) (As := [iv 8, iv a0]) (fun o1 e1 => w_tellFinding hc.1 _ 8 a0 (by decide) ha0 o1 e1) q2006 q2008 qs96 q136 q2009 (by decide +kernel) ⟨by decide, by decide⟩ rfl (Nat.le_of_ble_eq_true rfl) rfl dX1_judgeElement_57 (fun σ10  => ?_)
      refine r_iload_n h 3 dX1_judgeElement_60 rfl rfl ?_
      refine r_iconst h dX1_judgeElement_61 ?_
      refine r_iadd h dX1_judgeElement_62 ?_
      refine r_istore (lv' := [(4, iv (a0 + 1)), (3, iv r4), (2, iv (600 * (σ (-1) 7))), (0, .ref (zm_h G)), (1, iv a0)]) h dX1_judgeElement_63 (hN _ (by decide)) rfl ?_
      refine r_ck (fun hk11 => ?_)
      refine r_ck (fun hk12 => ?_)
      exact r_lv [3, 4, 2, 0] rfl (w_judgeElement_65 h hc zF _ a0 (600 * (σ (-1) 7)) (a0 + 1) ha0 hk11 hk12)
    · refine r_iload_n h 3 dX1_judgeElement_60 rfl rfl ?_
      refine r_iconst h dX1_judgeElement_61 ?_
      refine r_iadd h dX1_judgeElement_62 ?_
      refine r_istore (lv' := [(4, iv (a0 + 1)), (3, iv r4), (2, iv (600 * (σ (-1) 7))), (0, .ref (zm_h G)), (1, iv a0)]) h dX1_judgeElement_63 (hN _ (by decide)) rfl ?_
      refine r_ck (fun hk13 => ?_)
      refine r_ck (fun hk14 => ?_)
      exact r_lv [3, 4, 2, 0] rfl (w_judgeElement_65 h hc zF _ a0 (600 * (σ (-1) 7)) (a0 + 1) ha0 hk13 hk14)
  · refine r_aload_n h 2 dX1_judgeElement_34 rfl rfl ?_
    refine r_bipush h dX1_judgeElement_35 (by decide) ?_
    refine r_iload_n h 3 dX1_judgeElement_37 rfl rfl ?_
    refine zm_cVv h hc (n := 2) (As := [iv 7, iv a0]) (fun o1 e1 => w_tellFinding hc.1 _ 7 a0 (by decide) ha0 o1 e1) q2006 q2008 qs96 q136 q2009 (by decide +kernel) ⟨by decide, by decide⟩ rfl (Nat.le_of_ble_eq_true rfl) rfl dX1_judgeElement_38 (fun σ15  => ?_)
    refine r_goto h 60 dX1_judgeElement_41 rfl ?_
    refine r_iload_n h 3 dX1_judgeElement_60 rfl rfl ?_
    refine r_iconst h dX1_judgeElement_61 ?_
    refine r_iadd h dX1_judgeElement_62 ?_
    refine r_istore (lv' := [(4, iv (a0 + 1)), (3, iv r4), (2, iv (600 * (σ (-1) 7))), (0, .ref (zm_h G)), (1, iv a0)]) h dX1_judgeElement_63 (hN _ (by decide)) rfl ?_
    refine r_ck (fun hk16 => ?_)
    refine r_ck (fun hk17 => ?_)
    exact r_lv [3, 4, 2, 0] rfl (w_judgeElement_65 h hc zF _ a0 (600 * (σ (-1) 7)) (a0 + 1) ha0 hk16 hk17)
