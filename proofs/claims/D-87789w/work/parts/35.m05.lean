set_option maxRecDepth 100000
/-! methods of the Model: decode rows, denotations m_.., walks w_.. (written by wip/gen/gen.py) -/
theorem dX1_judge_0 : decode cX1_judge 0 = .ok (.aload_n 0, 1) := by decide +kernel
theorem dX1_judge_1 : decode cX1_judge 1 = .ok (.iconst 0, 1) := by decide +kernel
theorem dX1_judge_2 : decode cX1_judge 2 = .ok (.putfield 510, 3) := by decide +kernel
theorem dX1_judge_5 : decode cX1_judge 5 = .ok (.aload_n 0, 1) := by decide +kernel
theorem dX1_judge_6 : decode cX1_judge 6 = .ok (.getfield 20, 3) := by decide +kernel
theorem dX1_judge_9 : decode cX1_judge 9 = .ok (.aload_n 0, 1) := by decide +kernel
theorem dX1_judge_10 : decode cX1_judge 10 = .ok (.getfield 482, 3) := by decide +kernel
theorem dX1_judge_13 : decode cX1_judge 13 = .ok (.baload, 1) := by decide +kernel
theorem dX1_judge_14 : decode cX1_judge 14 = .ok (.ifCond .ne 4, 3) := by decide +kernel
theorem dX1_judge_17 : decode cX1_judge 17 = .ok (.return_, 1) := by decide +kernel
theorem dX1_judge_18 : decode cX1_judge 18 = .ok (.sipush 850, 3) := by decide +kernel
theorem dX1_judge_21 : decode cX1_judge 21 = .ok (.aload_n 0, 1) := by decide +kernel
theorem dX1_judge_22 : decode cX1_judge 22 = .ok (.getfield 482, 3) := by decide +kernel
theorem dX1_judge_25 : decode cX1_judge 25 = .ok (.imul, 1) := by decide +kernel
theorem dX1_judge_26 : decode cX1_judge 26 = .ok (.istore_n 1, 1) := by decide +kernel
theorem dX1_judge_27 : decode cX1_judge 27 = .ok (.iload_n 1, 1) := by decide +kernel
theorem dX1_judge_28 : decode cX1_judge 28 = .ok (.sipush 850, 3) := by decide +kernel
theorem dX1_judge_31 : decode cX1_judge 31 = .ok (.aload_n 0, 1) := by decide +kernel
theorem dX1_judge_32 : decode cX1_judge 32 = .ok (.getfield 482, 3) := by decide +kernel
theorem dX1_judge_35 : decode cX1_judge 35 = .ok (.imul, 1) := by decide +kernel
theorem dX1_judge_36 : decode cX1_judge 36 = .ok (.aload_n 0, 1) := by decide +kernel
theorem dX1_judge_37 : decode cX1_judge 37 = .ok (.getfield 143, 3) := by decide +kernel
theorem dX1_judge_40 : decode cX1_judge 40 = .ok (.aload_n 0, 1) := by decide +kernel
theorem dX1_judge_41 : decode cX1_judge 41 = .ok (.getfield 482, 3) := by decide +kernel
theorem dX1_judge_44 : decode cX1_judge 44 = .ok (.iaload, 1) := by decide +kernel
theorem dX1_judge_45 : decode cX1_judge 45 = .ok (.iadd, 1) := by decide +kernel
theorem dX1_judge_46 : decode cX1_judge 46 = .ok (.if_icmp .ge 47, 3) := by decide +kernel
theorem dX1_judge_49 : decode cX1_judge 49 = .ok (.aload_n 0, 1) := by decide +kernel
theorem dX1_judge_50 : decode cX1_judge 50 = .ok (.getfield 140, 3) := by decide +kernel
theorem dX1_judge_53 : decode cX1_judge 53 = .ok (.iload_n 1, 1) := by decide +kernel
theorem dX1_judge_54 : decode cX1_judge 54 = .ok (.iaload, 1) := by decide +kernel
theorem dX1_judge_55 : decode cX1_judge 55 = .ok (.iconst 2, 1) := by decide +kernel
theorem dX1_judge_56 : decode cX1_judge 56 = .ok (.irem, 1) := by decide +kernel
theorem dX1_judge_57 : decode cX1_judge 57 = .ok (.ifCond .ne 18, 3) := by decide +kernel
theorem dX1_judge_60 : decode cX1_judge 60 = .ok (.aload_n 0, 1) := by decide +kernel
theorem dX1_judge_61 : decode cX1_judge 61 = .ok (.aload_n 0, 1) := by decide +kernel
theorem dX1_judge_62 : decode cX1_judge 62 = .ok (.getfield 140, 3) := by decide +kernel
theorem dX1_judge_65 : decode cX1_judge 65 = .ok (.iload_n 1, 1) := by decide +kernel
theorem dX1_judge_66 : decode cX1_judge 66 = .ok (.iaload, 1) := by decide +kernel
theorem dX1_judge_67 : decode cX1_judge 67 = .ok (.iconst 2, 1) := by decide +kernel
theorem dX1_judge_68 : decode cX1_judge 68 = .ok (.idiv, 1) := by decide +kernel
theorem dX1_judge_69 : decode cX1_judge 69 = .ok (.invokevirtual 537, 3) := by decide +kernel
theorem dX1_judge_72 : decode cX1_judge 72 = .ok (.goto 15, 3) := by decide +kernel
theorem dX1_judge_75 : decode cX1_judge 75 = .ok (.aload_n 0, 1) := by decide +kernel
theorem dX1_judge_76 : decode cX1_judge 76 = .ok (.aload_n 0, 1) := by decide +kernel
theorem dX1_judge_77 : decode cX1_judge 77 = .ok (.getfield 140, 3) := by decide +kernel
theorem dX1_judge_80 : decode cX1_judge 80 = .ok (.iload_n 1, 1) := by decide +kernel
theorem dX1_judge_81 : decode cX1_judge 81 = .ok (.iaload, 1) := by decide +kernel
theorem dX1_judge_82 : decode cX1_judge 82 = .ok (.iconst 2, 1) := by decide +kernel
theorem dX1_judge_83 : decode cX1_judge 83 = .ok (.idiv, 1) := by decide +kernel
theorem dX1_judge_84 : decode cX1_judge 84 = .ok (.invokevirtual 540, 3) := by decide +kernel
theorem dX1_judge_87 : decode cX1_judge 87 = .ok (.iinc 1 1, 3) := by decide +kernel
theorem dX1_judge_90 : decode cX1_judge 90 = .ok (.goto (-63), 3) := by decide +kernel
theorem dX1_judge_93 : decode cX1_judge 93 = .ok (.sipush 600, 3) := by decide +kernel
theorem dX1_judge_96 : decode cX1_judge 96 = .ok (.aload_n 0, 1) := by decide +kernel
theorem dX1_judge_97 : decode cX1_judge 97 = .ok (.getfield 482, 3) := by decide +kernel
theorem dX1_judge_100 : decode cX1_judge 100 = .ok (.imul, 1) := by decide +kernel
theorem dX1_judge_101 : decode cX1_judge 101 = .ok (.istore_n 1, 1) := by decide +kernel
theorem dX1_judge_102 : decode cX1_judge 102 = .ok (.aload_n 0, 1) := by decide +kernel
theorem dX1_judge_103 : decode cX1_judge 103 = .ok (.aload_n 0, 1) := by decide +kernel
theorem dX1_judge_104 : decode cX1_judge 104 = .ok (.getfield 37, 3) := by decide +kernel
theorem dX1_judge_107 : decode cX1_judge 107 = .ok (.iload_n 1, 1) := by decide +kernel
theorem dX1_judge_108 : decode cX1_judge 108 = .ok (.iconst 1, 1) := by decide +kernel
theorem dX1_judge_109 : decode cX1_judge 109 = .ok (.iadd, 1) := by decide +kernel
theorem dX1_judge_110 : decode cX1_judge 110 = .ok (.iaload, 1) := by decide +kernel
theorem dX1_judge_111 : decode cX1_judge 111 = .ok (.aload_n 0, 1) := by decide +kernel
theorem dX1_judge_112 : decode cX1_judge 112 = .ok (.getfield 40, 3) := by decide +kernel
theorem dX1_judge_115 : decode cX1_judge 115 = .ok (.iload_n 1, 1) := by decide +kernel
theorem dX1_judge_116 : decode cX1_judge 116 = .ok (.iconst 1, 1) := by decide +kernel
theorem dX1_judge_117 : decode cX1_judge 117 = .ok (.iadd, 1) := by decide +kernel
theorem dX1_judge_118 : decode cX1_judge 118 = .ok (.iaload, 1) := by decide +kernel
theorem dX1_judge_119 : decode cX1_judge 119 = .ok (.aload_n 0, 1) := by decide +kernel
theorem dX1_judge_120 : decode cX1_judge 120 = .ok (.getfield 64, 3) := by decide +kernel
theorem dX1_judge_123 : decode cX1_judge 123 = .ok (.aload_n 0, 1) := by decide +kernel
theorem dX1_judge_124 : decode cX1_judge 124 = .ok (.getfield 482, 3) := by decide +kernel
theorem dX1_judge_127 : decode cX1_judge 127 = .ok (.iaload, 1) := by decide +kernel
theorem dX1_judge_128 : decode cX1_judge 128 = .ok (.aload_n 0, 1) := by decide +kernel
theorem dX1_judge_129 : decode cX1_judge 129 = .ok (.getfield 67, 3) := by decide +kernel
theorem dX1_judge_132 : decode cX1_judge 132 = .ok (.aload_n 0, 1) := by decide +kernel
theorem dX1_judge_133 : decode cX1_judge 133 = .ok (.getfield 482, 3) := by decide +kernel
theorem dX1_judge_136 : decode cX1_judge 136 = .ok (.iaload, 1) := by decide +kernel
theorem dX1_judge_137 : decode cX1_judge 137 = .ok (.invokevirtual 412, 3) := by decide +kernel
theorem dX1_judge_140 : decode cX1_judge 140 = .ok (.ifCond .ne 10, 3) := by decide +kernel
theorem dX1_judge_143 : decode cX1_judge 143 = .ok (.aload_n 0, 1) := by decide +kernel
theorem dX1_judge_144 : decode cX1_judge 144 = .ok (.bipush 6, 2) := by decide +kernel
theorem dX1_judge_146 : decode cX1_judge 146 = .ok (.iconst 1, 1) := by decide +kernel
theorem dX1_judge_147 : decode cX1_judge 147 = .ok (.invokevirtual 519, 3) := by decide +kernel
theorem dX1_judge_150 : decode cX1_judge 150 = .ok (.iconst 0, 1) := by decide +kernel
theorem dX1_judge_151 : decode cX1_judge 151 = .ok (.istore_n 2, 1) := by decide +kernel
theorem dX1_judge_152 : decode cX1_judge 152 = .ok (.iload_n 2, 1) := by decide +kernel
theorem dX1_judge_153 : decode cX1_judge 153 = .ok (.aload_n 0, 1) := by decide +kernel
theorem dX1_judge_154 : decode cX1_judge 154 = .ok (.getfield 27, 3) := by decide +kernel
theorem dX1_judge_157 : decode cX1_judge 157 = .ok (.aload_n 0, 1) := by decide +kernel
theorem dX1_judge_158 : decode cX1_judge 158 = .ok (.getfield 482, 3) := by decide +kernel
theorem dX1_judge_161 : decode cX1_judge 161 = .ok (.iaload, 1) := by decide +kernel
theorem dX1_judge_162 : decode cX1_judge 162 = .ok (.if_icmp .ge 26, 3) := by decide +kernel
theorem dX1_judge_165 : decode cX1_judge 165 = .ok (.aload_n 0, 1) := by decide +kernel
theorem dX1_judge_166 : decode cX1_judge 166 = .ok (.getfield 31, 3) := by decide +kernel
theorem dX1_judge_169 : decode cX1_judge 169 = .ok (.iload_n 1, 1) := by decide +kernel
theorem dX1_judge_170 : decode cX1_judge 170 = .ok (.iload_n 2, 1) := by decide +kernel
theorem dX1_judge_171 : decode cX1_judge 171 = .ok (.iadd, 1) := by decide +kernel
theorem dX1_judge_172 : decode cX1_judge 172 = .ok (.iaload, 1) := by decide +kernel
theorem dX1_judge_173 : decode cX1_judge 173 = .ok (.iconst 1, 1) := by decide +kernel
theorem dX1_judge_174 : decode cX1_judge 174 = .ok (.if_icmp .ne 8, 3) := by decide +kernel
theorem dX1_judge_177 : decode cX1_judge 177 = .ok (.aload_n 0, 1) := by decide +kernel
theorem dX1_judge_178 : decode cX1_judge 178 = .ok (.iload_n 2, 1) := by decide +kernel
theorem dX1_judge_179 : decode cX1_judge 179 = .ok (.invokevirtual 543, 3) := by decide +kernel
theorem dX1_judge_182 : decode cX1_judge 182 = .ok (.iinc 2 1, 3) := by decide +kernel
theorem dX1_judge_185 : decode cX1_judge 185 = .ok (.goto (-33), 3) := by decide +kernel
theorem dX1_judge_188 : decode cX1_judge 188 = .ok (.return_, 1) := by decide +kernel
def m_judge_152 : Nat → MEM → Int → Int → Option zm_O
  | 0, _, _, _ => none
  | n + 1, σ, x1, x2 => ck (0 ≤ (σ (-1) 7) ∧ (σ (-1) 7) < 2) (if (σ 12 (σ (-1) 7)) ≤ x2 then (some (0, σ)) else (ck (0 ≤ (x1 + x2) ∧ (x1 + x2) < 1200) (if (σ 13 (x1 + x2)) = 1 then (bd (m_judgeElement σ x2) (fun _ σ4 => ck (inR (x2 + 1)) (m_judge_152 n σ4 x1 (x2 + 1)))) else (ck (inR (x2 + 1)) (m_judge_152 n σ x1 (x2 + 1))))))
theorem w_judge_152 {C : zv_Cx zm_O} {G : zm_G} (h : zv_Ok C cX1_judge RX1) (hc : zm_C C G 3 (Option.none : Option FieldType) 0 6 140) : ∀ (n : Nat) (σ : MEM) (x1 x2 : Int), inR x1 → inR x2 → VV C (m_judge_152 n σ x1 x2) σ [(0, .ref (zm_h G)), (1, iv x1), (2, iv x2)] [] 152 := by
  have hN : ∀ i, i < 3 → i < zv_n C := fun i q => by rw [hc.2.2.1]; exact q
  intro n
  induction n with
  | zero => intros; exact r_none
  | succ n ih =>
    intro σ x1 x2 hx1 hx2
    rw [m_judge_152]
    refine r_iload_n h 2 dX1_judge_152 rfl rfl ?_
    refine r_aload_n h 0 dX1_judge_153 rfl rfl ?_
    refine zm_getA h hc 12 (by decide) rfl q1492 rfl dX1_judge_154 ?_
    refine r_aload_n h 0 dX1_judge_157 rfl rfl ?_
    refine zm_getI h hc 7 7 (by decide) rfl rfl q1487 rfl dX1_judge_158 (fun hr1 => ?_)
    refine zm_ldI h hc 12 12 2 (by decide) rfl rfl rfl (by decide) dX1_judge_161 (fun _ hr2 => ?_)
    refine r_icmp_ge h hx2 hr2 188 dX1_judge_162 rfl ?_ ?_
    · exact zm_vret h hc rfl dX1_judge_188
    · refine r_aload_n h 0 dX1_judge_165 rfl rfl ?_
      refine zm_getA h hc 13 (by decide) rfl q1493 rfl dX1_judge_166 ?_
      refine r_iload_n h 1 dX1_judge_169 rfl rfl ?_
      refine r_iload_n h 2 dX1_judge_170 rfl rfl ?_
      refine r_iadd h dX1_judge_171 ?_
      refine zm_ldI h hc 13 13 1200 (by decide) rfl rfl rfl (by decide) dX1_judge_172 (fun _ hr3 => ?_)
      refine r_iconst h dX1_judge_173 ?_
      refine r_icmp_ne h hr3 (by decide) 182 dX1_judge_174 rfl ?_ ?_
      · refine r_aload_n h 0 dX1_judge_177 rfl rfl ?_
        refine r_iload_n h 2 dX1_judge_178 rfl rfl ?_
        refine zm_cVv h hc (n := 1) (As := [iv x2]) (fun o1 e1 => w_judgeElement hc.1 _ x2 hx2 o1 e1) q2032 q2034 qs102 q136 q2035 (by decide +kernel) ⟨by decide, by decide⟩ rfl (Nat.le_of_ble_eq_true rfl) rfl dX1_judge_179 (fun σ4  => ?_)
        refine r_iinc (lv' := [(2, iv (x2 + 1)), (0, .ref (zm_h G)), (1, iv x1)]) h 2 dX1_judge_182 rfl (hN _ (by decide)) rfl ?_
        refine r_goto h 152 dX1_judge_185 rfl ?_
        refine r_ck (fun hk5 => ?_)
        exact r_lv [1, 2, 0] rfl (ih _ x1 (x2 + 1) hx1 hk5)
      · refine r_iinc (lv' := [(2, iv (x2 + 1)), (0, .ref (zm_h G)), (1, iv x1)]) h 2 dX1_judge_182 rfl (hN _ (by decide)) rfl ?_
        refine r_goto h 152 dX1_judge_185 rfl ?_
        refine r_ck (fun hk6 => ?_)
        exact r_lv [1, 2, 0] rfl (ih _ x1 (x2 + 1) hx1 hk6)
def m_judge_27 : Nat → MEM → Int → Option zm_O
  | 0, _, _ => none
  | n + 1, σ, x1 => ck (0 ≤ (σ (-1) 7) ∧ (σ (-1) 7) < 2) (ck (inR ((850 * (σ (-1) 7)) + (σ 50 (σ (-1) 7)))) (if ((850 * (σ (-1) 7)) + (σ 50 (σ (-1) 7))) ≤ x1 then (ck (0 ≤ ((600 * (σ (-1) 7)) + 1) ∧ ((600 * (σ (-1) 7)) + 1) < 1200) (ck (0 ≤ ((600 * (σ (-1) 7)) + 1) ∧ ((600 * (σ (-1) 7)) + 1) < 1200) (ck (0 ≤ (σ (-1) 7) ∧ (σ (-1) 7) < 2) (ck (0 ≤ (σ (-1) 7) ∧ (σ (-1) 7) < 2) (bd (m_isSame σ (σ 15 ((600 * (σ (-1) 7)) + 1)) (σ 16 ((600 * (σ (-1) 7)) + 1)) (σ 24 (σ (-1) 7)) (σ 25 (σ (-1) 7))) (fun r12 σ13 => if r12 = 0 then (bd (m_tellFinding σ13 6 1) (fun _ σ15 => ck (inR (600 * (σ (-1) 7))) (m_judge_152 zF σ15 (600 * (σ (-1) 7)) 0))) else (ck (inR (600 * (σ (-1) 7))) (m_judge_152 zF σ13 (600 * (σ (-1) 7)) 0)))))))) else (ck (0 ≤ x1 ∧ x1 < 1700) (if (i_rem (σ 49 x1) 2) = 0 then (ck (0 ≤ x1 ∧ x1 < 1700) (bd (m_judgeDecl σ (i_div (σ 49 x1) 2)) (fun _ σ20 => ck (inR (x1 + 1)) (m_judge_27 n σ20 (x1 + 1))))) else (ck (0 ≤ x1 ∧ x1 < 1700) (bd (m_judgeRule σ (i_div (σ 49 x1) 2)) (fun _ σ23 => ck (inR (x1 + 1)) (m_judge_27 n σ23 (x1 + 1)))))))))
theorem w_judge_27 {C : zv_Cx zm_O} {G : zm_G} (h : zv_Ok C cX1_judge RX1) (hc : zm_C C G 3 (Option.none : Option FieldType) 0 6 140) : ∀ (n : Nat) (σ : MEM) (x1 : Int), inR x1 → VV C (m_judge_27 n σ x1) σ [(0, .ref (zm_h G)), (1, iv x1)] [] 27 := by
  have hN : ∀ i, i < 3 → i < zv_n C := fun i q => by rw [hc.2.2.1]; exact q
  intro n
  induction n with
  | zero => intros; exact r_none
  | succ n ih =>
    intro σ x1 hx1
    rw [m_judge_27]
    refine r_iload_n h 1 dX1_judge_27 rfl rfl ?_
    refine r_sipush h dX1_judge_28 (by decide) ?_
    refine r_aload_n h 0 dX1_judge_31 rfl rfl ?_
    refine zm_getI h hc 7 7 (by decide) rfl rfl q1487 rfl dX1_judge_32 (fun hr1 => ?_)
    refine r_imul h dX1_judge_35 ?_
    refine r_aload_n h 0 dX1_judge_36 rfl rfl ?_
    refine zm_getA h hc 50 (by decide) rfl q1530 rfl dX1_judge_37 ?_
    refine r_aload_n h 0 dX1_judge_40 rfl rfl ?_
    refine zm_getI h hc 7 7 (by decide) rfl rfl q1487 rfl dX1_judge_41 (fun hr2 => ?_)
    refine zm_ldI h hc 50 50 2 (by decide) rfl rfl rfl (by decide) dX1_judge_44 (fun _ hr3 => ?_)
    refine r_iadd h dX1_judge_45 ?_
    refine r_ck (fun hk4 => ?_)
    refine r_icmp_ge h hx1 hk4 93 dX1_judge_46 rfl ?_ ?_
    · refine r_sipush h dX1_judge_93 (by decide) ?_
      refine r_aload_n h 0 dX1_judge_96 rfl rfl ?_
      refine zm_getI h hc 7 7 (by decide) rfl rfl q1487 rfl dX1_judge_97 (fun hr5 => ?_)
      refine r_imul h dX1_judge_100 ?_
      refine r_istore_n (lv' := [(1, iv (600 * (σ (-1) 7))), (0, .ref (zm_h G))]) h dX1_judge_101 rfl (hN _ (by decide)) rfl ?_
      refine r_aload_n h 1 dX1_judge_102 rfl rfl ?_
      refine r_aload_n h 1 dX1_judge_103 rfl rfl ?_
      refine zm_getA h hc 15 (by decide) rfl q1495 rfl dX1_judge_104 ?_
      refine r_iload_n h 0 dX1_judge_107 rfl rfl ?_
      refine r_iconst h dX1_judge_108 ?_
      refine r_iadd h dX1_judge_109 ?_
      refine zm_ldI h hc 15 15 1200 (by decide) rfl rfl rfl (by decide) dX1_judge_110 (fun _ hr6 => ?_)
      refine r_aload_n h 1 dX1_judge_111 rfl rfl ?_
      refine zm_getA h hc 16 (by decide) rfl q1496 rfl dX1_judge_112 ?_
      refine r_iload_n h 0 dX1_judge_115 rfl rfl ?_
      refine r_iconst h dX1_judge_116 ?_
      refine r_iadd h dX1_judge_117 ?_
      refine zm_ldI h hc 16 16 1200 (by decide) rfl rfl rfl (by decide) dX1_judge_118 (fun _ hr7 => ?_)
      refine r_aload_n h 1 dX1_judge_119 rfl rfl ?_
      refine zm_getA h hc 24 (by decide) rfl q1504 rfl dX1_judge_120 ?_
      refine r_aload_n h 1 dX1_judge_123 rfl rfl ?_
      refine zm_getI h hc 7 7 (by decide) rfl rfl q1487 rfl dX1_judge_124 (fun hr8 => ?_)
      refine zm_ldI h hc 24 24 2 (by decide) rfl rfl rfl (by decide) dX1_judge_127 (fun _ hr9 => ?_)
      refine r_aload_n h 1 dX1_judge_128 rfl rfl ?_
      refine zm_getA h hc 25 (by decide) rfl q1505 rfl dX1_judge_129 ?_
      refine r_aload_n h 1 dX1_judge_132 rfl rfl ?_
      refine zm_getI h hc 7 7 (by decide) rfl rfl q1487 rfl dX1_judge_133 (fun hr10 => ?_)
      refine zm_ldI h hc 25 25 2 (by decide) rfl rfl rfl (by decide) dX1_judge_136 (fun _ hr11 => ?_)
      refine zm_cVz h hc (n := 4) (As := [iv (σ 15 ((600 * (σ (-1) 7)) + 1)), iv (σ 16 ((600 * (σ (-1) 7)) + 1)), iv (σ 24 (σ (-1) 7)), iv (σ 25 (σ (-1) 7))]) (fun o1 e1 => w_isSame hc.1 _ (σ 15 ((600 * (σ (-1) 7)) + 1)) (σ 16 ((600 * (σ (-1) 7)) + 1)) (σ 24 (σ (-1) 7)) (σ 25 (σ (-1) 7)) hr6 hr7 hr9 hr11 o1 e1) q1924 q1926 qs79 q136 q1927 (by decide +kernel) ⟨by decide, by decide⟩ rfl (Nat.le_of_ble_eq_true rfl) rfl dX1_judge_137 (fun r12 σ13 hr14 => ?_)
      refine r_if_ne h hr14.r 150 dX1_judge_140 rfl ?_ ?_
      · refine r_aload_n h 1 dX1_judge_143 rfl rfl ?_
        refine r_bipush h dX1_judge_144 (by decide) ?_
        refine r_iconst h dX1_judge_146 ?_
        refine zm_cVv h hc (n := 2) (As := [iv 6, iv 1]) (fun o1 e1 => w_tellFinding hc.1 _ 6 1 (by decide) (by decide) o1 e1) q2006 q2008 qs96 q136 q2009 (by decide +kernel) ⟨by decide, by decide⟩ rfl (Nat.le_of_ble_eq_true rfl) rfl dX1_judge_147 (fun σ15  => ?_)
        refine r_iconst h dX1_judge_150 ?_
        refine r_istore_n (lv' := [(2, iv 0), (1, iv (600 * (σ (-1) 7))), (0, .ref (zm_h G))]) h dX1_judge_151 rfl (hN _ (by decide)) rfl ?_
        refine r_ck (fun hk16 => ?_)
        exact r_lv [2, 1, 0] rfl (w_judge_152 h hc zF _ (600 * (σ (-1) 7)) 0 hk16 (by decide))
      · refine r_iconst h dX1_judge_150 ?_
        refine r_istore_n (lv' := [(2, iv 0), (1, iv (600 * (σ (-1) 7))), (0, .ref (zm_h G))]) h dX1_judge_151 rfl (hN _ (by decide)) rfl ?_
        refine r_ck (fun hk17 => ?_)
        exact r_lv [2, 1, 0] rfl (w_judge_152 h hc zF _ (600 * (σ (-1) 7)) 0 hk17 (by decide))
    · refine r_aload_n h 0 dX1_judge_49 rfl rfl ?_
      refine zm_getA h hc 49 (by decide) rfl q1529 rfl dX1_judge_50 ?_
      refine r_iload_n h 1 dX1_judge_53 rfl rfl ?_
      refine zm_ldI h hc 49 49 1700 (by decide) rfl rfl rfl (by decide) dX1_judge_54 (fun _ hr18 => ?_)
      refine r_iconst h dX1_judge_55 ?_
      refine r_irem h (by decide) (by decide) dX1_judge_56 ?_
      refine r_if_ne h (inR_t _) 75 dX1_judge_57 rfl ?_ ?_
      · refine r_aload_n h 0 dX1_judge_60 rfl rfl ?_
        refine r_aload_n h 0 dX1_judge_61 rfl rfl ?_
        refine zm_getA h hc 49 (by decide) rfl q1529 rfl dX1_judge_62 ?_
        refine r_iload_n h 1 dX1_judge_65 rfl rfl ?_
        refine zm_ldI h hc 49 49 1700 (by decide) rfl rfl rfl (by decide) dX1_judge_66 (fun _ hr19 => ?_)
        refine r_iconst h dX1_judge_67 ?_
        refine r_idiv h (by decide) (by decide) dX1_judge_68 ?_
        refine zm_cVv h hc (n := 1) (As := [iv (i_div (σ 49 x1) 2)]) (fun o1 e1 => w_judgeDecl hc.1 _ (i_div (σ 49 x1) 2) (inR_t _) o1 e1) q1998 q2000 qs94 q136 q2001 (by decide +kernel) ⟨by decide, by decide⟩ rfl (Nat.le_of_ble_eq_true rfl) rfl dX1_judge_69 (fun σ20  => ?_)
        refine r_goto h 87 dX1_judge_72 rfl ?_
        refine r_iinc (lv' := [(1, iv (x1 + 1)), (0, .ref (zm_h G))]) h 1 dX1_judge_87 rfl (hN _ (by decide)) rfl ?_
        refine r_goto h 27 dX1_judge_90 rfl ?_
        refine r_ck (fun hk21 => ?_)
        exact r_lv [1, 0] rfl (ih _ (x1 + 1) hk21)
      · refine r_aload_n h 0 dX1_judge_75 rfl rfl ?_
        refine r_aload_n h 0 dX1_judge_76 rfl rfl ?_
        refine zm_getA h hc 49 (by decide) rfl q1529 rfl dX1_judge_77 ?_
        refine r_iload_n h 1 dX1_judge_80 rfl rfl ?_
        refine zm_ldI h hc 49 49 1700 (by decide) rfl rfl rfl (by decide) dX1_judge_81 (fun _ hr22 => ?_)
        refine r_iconst h dX1_judge_82 ?_
        refine r_idiv h (by decide) (by decide) dX1_judge_83 ?_
        refine zm_cVv h hc (n := 1) (As := [iv (i_div (σ 49 x1) 2)]) (fun o1 e1 => w_judgeRule hc.1 _ (i_div (σ 49 x1) 2) (inR_t _) o1 e1) q2019 q2021 qs99 q136 q2022 (by decide +kernel) ⟨by decide, by decide⟩ rfl (Nat.le_of_ble_eq_true rfl) rfl dX1_judge_84 (fun σ23  => ?_)
        refine r_iinc (lv' := [(1, iv (x1 + 1)), (0, .ref (zm_h G))]) h 1 dX1_judge_87 rfl (hN _ (by decide)) rfl ?_
        refine r_goto h 27 dX1_judge_90 rfl ?_
        refine r_ck (fun hk24 => ?_)
        exact r_lv [1, 0] rfl (ih _ (x1 + 1) hk24)
def m_judge (σ : MEM) : Option zm_O := nu (mup σ (-1) 65 0) (fun σ1 => ck (0 ≤ (σ1 (-1) 7) ∧ (σ1 (-1) 7) < 2) (if (σ1 10 (σ1 (-1) 7)) = 0 then (some (0, σ1)) else (ck (inR (850 * (σ1 (-1) 7))) (m_judge_27 zF σ1 (850 * (σ1 (-1) 7))))))
theorem w_judge {G : zm_G} (hD : zm_D G) (σ : MEM) (o : zm_O) (hd : m_judge σ  = some o) : zm_Met G yX1_judge cX1_judge 3 (Option.none : Option FieldType) 0 6 140 σ [.ref (zm_h G)] o := by
  refine zm_intro hD hd (by decide) rfl (Nat.le_of_ble_eq_true rfl) rfl (fun C h hc => ?_)
  have hN : ∀ i, i < 3 → i < zv_n C := fun i q => by rw [hc.2.2.1]; exact q
  unfold m_judge
  refine r_aload_n h 0 dX1_judge_0 rfl rfl ?_
  refine r_iconst h dX1_judge_1 ?_
  refine zm_putI h hc 65 65 (by decide) rfl rfl q1544 ⟨rfl, rfl, by decide +kernel⟩ (by decide) dX1_judge_2 (fun σ1 _ => ?_)
  refine r_aload_n h 0 dX1_judge_5 rfl rfl ?_
  refine zm_getA h hc 10 (by decide) rfl q1490 rfl dX1_judge_6 ?_
  refine r_aload_n h 0 dX1_judge_9 rfl rfl ?_
  refine zm_getI h hc 7 7 (by decide) rfl rfl q1487 rfl dX1_judge_10 (fun hr2 => ?_)
  refine zm_ldZ h hc 10 10 2 (by decide) rfl rfl rfl (by decide) dX1_judge_13 (fun _ hr3 => ?_)
  refine r_if_ne h hr3.r 18 dX1_judge_14 rfl ?_ ?_
  · exact zm_vret h hc rfl dX1_judge_17
  · refine r_sipush h dX1_judge_18 (by decide) ?_
    refine r_aload_n h 0 dX1_judge_21 rfl rfl ?_
    refine zm_getI h hc 7 7 (by decide) rfl rfl q1487 rfl dX1_judge_22 (fun hr4 => ?_)
    refine r_imul h dX1_judge_25 ?_
    refine r_istore_n (lv' := [(1, iv (850 * (σ1 (-1) 7))), (0, .ref (zm_h G))]) h dX1_judge_26 rfl (hN _ (by decide)) rfl ?_
    refine r_ck (fun hk5 => ?_)
    exact r_lv [1, 0] rfl (w_judge_27 h hc zF _ (850 * (σ1 (-1) 7)) hk5)
theorem dX1_read_0 : decode cX1_read 0 = .ok (.iload_n 1, 1) := by decide +kernel
theorem dX1_read_1 : decode cX1_read 1 = .ok (.i2l, 1) := by decide +kernel
theorem dX1_read_2 : decode cX1_read 2 = .ok (.lconst 0, 1) := by decide +kernel
theorem dX1_read_3 : decode cX1_read 3 = .ok (.aload_n 0, 1) := by decide +kernel
theorem dX1_read_4 : decode cX1_read 4 = .ok (.getfield 476, 3) := by decide +kernel
theorem dX1_read_7 : decode cX1_read 7 = .ok (.i2l, 1) := by decide +kernel
theorem dX1_read_8 : decode cX1_read 8 = .ok (.invokestatic 256, 3) := by decide +kernel
theorem dX1_read_11 : decode cX1_read 11 = .ok (.ifCond .ne 5, 3) := by decide +kernel
theorem dX1_read_14 : decode cX1_read 14 = .ok (.iconst 0, 1) := by decide +kernel
theorem dX1_read_15 : decode cX1_read 15 = .ok (.ireturn, 1) := by decide +kernel
theorem dX1_read_16 : decode cX1_read 16 = .ok (.aload_n 0, 1) := by decide +kernel
theorem dX1_read_17 : decode cX1_read 17 = .ok (.iload_n 1, 1) := by decide +kernel
theorem dX1_read_18 : decode cX1_read 18 = .ok (.invokevirtual 479, 3) := by decide +kernel
theorem dX1_read_21 : decode cX1_read 21 = .ok (.aload_n 0, 1) := by decide +kernel
theorem dX1_read_22 : decode cX1_read 22 = .ok (.iconst 1, 1) := by decide +kernel
theorem dX1_read_23 : decode cX1_read 23 = .ok (.aload_n 0, 1) := by decide +kernel
theorem dX1_read_24 : decode cX1_read 24 = .ok (.getfield 482, 3) := by decide +kernel
theorem dX1_read_27 : decode cX1_read 27 = .ok (.isub, 1) := by decide +kernel
theorem dX1_read_28 : decode cX1_read 28 = .ok (.putfield 328, 3) := by decide +kernel
theorem dX1_read_31 : decode cX1_read 31 = .ok (.iconst 0, 1) := by decide +kernel
theorem dX1_read_32 : decode cX1_read 32 = .ok (.istore_n 2, 1) := by decide +kernel
theorem dX1_read_33 : decode cX1_read 33 = .ok (.iload_n 2, 1) := by decide +kernel
theorem dX1_read_34 : decode cX1_read 34 = .ok (.iload_n 1, 1) := by decide +kernel
theorem dX1_read_35 : decode cX1_read 35 = .ok (.if_icmp .ge 30, 3) := by decide +kernel
theorem dX1_read_38 : decode cX1_read 38 = .ok (.aload_n 0, 1) := by decide +kernel
theorem dX1_read_39 : decode cX1_read 39 = .ok (.getfield 24, 3) := by decide +kernel
theorem dX1_read_42 : decode cX1_read 42 = .ok (.sipush 6000, 3) := by decide +kernel
theorem dX1_read_45 : decode cX1_read 45 = .ok (.aload_n 0, 1) := by decide +kernel
theorem dX1_read_46 : decode cX1_read 46 = .ok (.getfield 328, 3) := by decide +kernel
theorem dX1_read_49 : decode cX1_read 49 = .ok (.imul, 1) := by decide +kernel
theorem dX1_read_50 : decode cX1_read 50 = .ok (.iload_n 2, 1) := by decide +kernel
theorem dX1_read_51 : decode cX1_read 51 = .ok (.iadd, 1) := by decide +kernel
theorem dX1_read_52 : decode cX1_read 52 = .ok (.aload_n 0, 1) := by decide +kernel
theorem dX1_read_53 : decode cX1_read 53 = .ok (.getfield 13, 3) := by decide +kernel
theorem dX1_read_56 : decode cX1_read 56 = .ok (.iload_n 2, 1) := by decide +kernel
theorem dX1_read_57 : decode cX1_read 57 = .ok (.baload, 1) := by decide +kernel
theorem dX1_read_58 : decode cX1_read 58 = .ok (.bastore, 1) := by decide +kernel
theorem dX1_read_59 : decode cX1_read 59 = .ok (.iinc 2 1, 3) := by decide +kernel
theorem dX1_read_62 : decode cX1_read 62 = .ok (.goto (-29), 3) := by decide +kernel
theorem dX1_read_65 : decode cX1_read 65 = .ok (.aload_n 0, 1) := by decide +kernel
theorem dX1_read_66 : decode cX1_read 66 = .ok (.getfield 27, 3) := by decide +kernel
theorem dX1_read_69 : decode cX1_read 69 = .ok (.aload_n 0, 1) := by decide +kernel
theorem dX1_read_70 : decode cX1_read 70 = .ok (.getfield 328, 3) := by decide +kernel
theorem dX1_read_73 : decode cX1_read 73 = .ok (.iconst 0, 1) := by decide +kernel
theorem dX1_read_74 : decode cX1_read 74 = .ok (.iastore, 1) := by decide +kernel
theorem dX1_read_75 : decode cX1_read 75 = .ok (.aload_n 0, 1) := by decide +kernel
theorem dX1_read_76 : decode cX1_read 76 = .ok (.getfield 58, 3) := by decide +kernel
theorem dX1_read_79 : decode cX1_read 79 = .ok (.aload_n 0, 1) := by decide +kernel
theorem dX1_read_80 : decode cX1_read 80 = .ok (.getfield 328, 3) := by decide +kernel
theorem dX1_read_83 : decode cX1_read 83 = .ok (.iconst 0, 1) := by decide +kernel
theorem dX1_read_84 : decode cX1_read 84 = .ok (.iastore, 1) := by decide +kernel
theorem dX1_read_85 : decode cX1_read 85 = .ok (.aload_n 0, 1) := by decide +kernel
theorem dX1_read_86 : decode cX1_read 86 = .ok (.getfield 61, 3) := by decide +kernel
theorem dX1_read_89 : decode cX1_read 89 = .ok (.aload_n 0, 1) := by decide +kernel
theorem dX1_read_90 : decode cX1_read 90 = .ok (.getfield 328, 3) := by decide +kernel
theorem dX1_read_93 : decode cX1_read 93 = .ok (.iconst 0, 1) := by decide +kernel
theorem dX1_read_94 : decode cX1_read 94 = .ok (.iastore, 1) := by decide +kernel
theorem dX1_read_95 : decode cX1_read 95 = .ok (.aload_n 0, 1) := by decide +kernel
theorem dX1_read_96 : decode cX1_read 96 = .ok (.getfield 70, 3) := by decide +kernel
theorem dX1_read_99 : decode cX1_read 99 = .ok (.aload_n 0, 1) := by decide +kernel
theorem dX1_read_100 : decode cX1_read 100 = .ok (.getfield 328, 3) := by decide +kernel
theorem dX1_read_103 : decode cX1_read 103 = .ok (.iconst 0, 1) := by decide +kernel
theorem dX1_read_104 : decode cX1_read 104 = .ok (.iastore, 1) := by decide +kernel
theorem dX1_read_105 : decode cX1_read 105 = .ok (.aload_n 0, 1) := by decide +kernel
theorem dX1_read_106 : decode cX1_read 106 = .ok (.getfield 104, 3) := by decide +kernel
theorem dX1_read_109 : decode cX1_read 109 = .ok (.aload_n 0, 1) := by decide +kernel
theorem dX1_read_110 : decode cX1_read 110 = .ok (.getfield 328, 3) := by decide +kernel
theorem dX1_read_113 : decode cX1_read 113 = .ok (.iconst 0, 1) := by decide +kernel
theorem dX1_read_114 : decode cX1_read 114 = .ok (.iastore, 1) := by decide +kernel
theorem dX1_read_115 : decode cX1_read 115 = .ok (.aload_n 0, 1) := by decide +kernel
theorem dX1_read_116 : decode cX1_read 116 = .ok (.getfield 143, 3) := by decide +kernel
theorem dX1_read_119 : decode cX1_read 119 = .ok (.aload_n 0, 1) := by decide +kernel
theorem dX1_read_120 : decode cX1_read 120 = .ok (.getfield 328, 3) := by decide +kernel
theorem dX1_read_123 : decode cX1_read 123 = .ok (.iconst 0, 1) := by decide +kernel
theorem dX1_read_124 : decode cX1_read 124 = .ok (.iastore, 1) := by decide +kernel
theorem dX1_read_125 : decode cX1_read 125 = .ok (.aload_n 0, 1) := by decide +kernel
theorem dX1_read_126 : decode cX1_read 126 = .ok (.getfield 20, 3) := by decide +kernel
theorem dX1_read_129 : decode cX1_read 129 = .ok (.aload_n 0, 1) := by decide +kernel
theorem dX1_read_130 : decode cX1_read 130 = .ok (.getfield 328, 3) := by decide +kernel
theorem dX1_read_133 : decode cX1_read 133 = .ok (.iconst 0, 1) := by decide +kernel
theorem dX1_read_134 : decode cX1_read 134 = .ok (.bastore, 1) := by decide +kernel
theorem dX1_read_135 : decode cX1_read 135 = .ok (.aload_n 0, 1) := by decide +kernel
theorem dX1_read_136 : decode cX1_read 136 = .ok (.iconst 0, 1) := by decide +kernel
theorem dX1_read_137 : decode cX1_read 137 = .ok (.putfield 443, 3) := by decide +kernel
theorem dX1_read_140 : decode cX1_read 140 = .ok (.aload_n 0, 1) := by decide +kernel
theorem dX1_read_141 : decode cX1_read 141 = .ok (.iconst 0, 1) := by decide +kernel
theorem dX1_read_142 : decode cX1_read 142 = .ok (.iconst 0, 1) := by decide +kernel
theorem dX1_read_143 : decode cX1_read 143 = .ok (.invokevirtual 446, 3) := by decide +kernel
theorem dX1_read_146 : decode cX1_read 146 = .ok (.istore_n 2, 1) := by decide +kernel
theorem dX1_read_147 : decode cX1_read 147 = .ok (.aload_n 0, 1) := by decide +kernel
theorem dX1_read_148 : decode cX1_read 148 = .ok (.invokevirtual 485, 3) := by decide +kernel
theorem dX1_read_151 : decode cX1_read 151 = .ok (.aload_n 0, 1) := by decide +kernel
theorem dX1_read_152 : decode cX1_read 152 = .ok (.invokevirtual 289, 3) := by decide +kernel
theorem dX1_read_155 : decode cX1_read 155 = .ok (.ifCond .eq 25, 3) := by decide +kernel
theorem dX1_read_158 : decode cX1_read 158 = .ok (.aload_n 0, 1) := by decide +kernel
theorem dX1_read_159 : decode cX1_read 159 = .ok (.ldc2_w 488, 3) := by decide +kernel
theorem dX1_read_162 : decode cX1_read 162 = .ok (.ldc2_w 490, 3) := by decide +kernel
theorem dX1_read_165 : decode cX1_read 165 = .ok (.iconst 1, 1) := by decide +kernel
theorem dX1_read_166 : decode cX1_read 166 = .ok (.invokevirtual 358, 3) := by decide +kernel
theorem dX1_read_169 : decode cX1_read 169 = .ok (.ifCond .eq 11, 3) := by decide +kernel
theorem dX1_read_172 : decode cX1_read 172 = .ok (.aload_n 0, 1) := by decide +kernel
theorem dX1_read_173 : decode cX1_read 173 = .ok (.invokevirtual 492, 3) := by decide +kernel
theorem dX1_read_176 : decode cX1_read 176 = .ok (.aload_n 0, 1) := by decide +kernel
theorem dX1_read_177 : decode cX1_read 177 = .ok (.invokevirtual 485, 3) := by decide +kernel
theorem dX1_read_180 : decode cX1_read 180 = .ok (.aload_n 0, 1) := by decide +kernel
theorem dX1_read_181 : decode cX1_read 181 = .ok (.invokevirtual 470, 3) := by decide +kernel
theorem dX1_read_184 : decode cX1_read 184 = .ok (.aload_n 0, 1) := by decide +kernel
theorem dX1_read_185 : decode cX1_read 185 = .ok (.invokevirtual 495, 3) := by decide +kernel
theorem dX1_read_188 : decode cX1_read 188 = .ok (.aload_n 0, 1) := by decide +kernel
theorem dX1_read_189 : decode cX1_read 189 = .ok (.invokevirtual 485, 3) := by decide +kernel
theorem dX1_read_192 : decode cX1_read 192 = .ok (.aload_n 0, 1) := by decide +kernel
theorem dX1_read_193 : decode cX1_read 193 = .ok (.invokevirtual 289, 3) := by decide +kernel
theorem dX1_read_196 : decode cX1_read 196 = .ok (.ifCond .eq 23, 3) := by decide +kernel
theorem dX1_read_199 : decode cX1_read 199 = .ok (.aload_n 0, 1) := by decide +kernel
theorem dX1_read_200 : decode cX1_read 200 = .ok (.getfield 276, 3) := by decide +kernel
theorem dX1_read_203 : decode cX1_read 203 = .ok (.aload_n 0, 1) := by decide +kernel
theorem dX1_read_204 : decode cX1_read 204 = .ok (.getfield 249, 3) := by decide +kernel
theorem dX1_read_207 : decode cX1_read 207 = .ok (.if_icmp .ge 12, 3) := by decide +kernel
theorem dX1_read_210 : decode cX1_read 210 = .ok (.aload_n 0, 1) := by decide +kernel
theorem dX1_read_211 : decode cX1_read 211 = .ok (.iconst (-1), 1) := by decide +kernel
theorem dX1_read_212 : decode cX1_read 212 = .ok (.aload_n 0, 1) := by decide +kernel
theorem dX1_read_213 : decode cX1_read 213 = .ok (.getfield 276, 3) := by decide +kernel
theorem dX1_read_216 : decode cX1_read 216 = .ok (.invokevirtual 293, 3) := by decide +kernel
theorem dX1_read_219 : decode cX1_read 219 = .ok (.aload_n 0, 1) := by decide +kernel
theorem dX1_read_220 : decode cX1_read 220 = .ok (.invokevirtual 289, 3) := by decide +kernel
theorem dX1_read_223 : decode cX1_read 223 = .ok (.ifCond .ne 8, 3) := by decide +kernel
theorem dX1_read_226 : decode cX1_read 226 = .ok (.aload_n 0, 1) := by decide +kernel
theorem dX1_read_227 : decode cX1_read 227 = .ok (.getfield 246, 3) := by decide +kernel
theorem dX1_read_230 : decode cX1_read 230 = .ok (.ireturn, 1) := by decide +kernel
theorem dX1_read_231 : decode cX1_read 231 = .ok (.aload_n 0, 1) := by decide +kernel
theorem dX1_read_232 : decode cX1_read 232 = .ok (.aload_n 0, 1) := by decide +kernel
theorem dX1_read_233 : decode cX1_read 233 = .ok (.getfield 328, 3) := by decide +kernel
theorem dX1_read_236 : decode cX1_read 236 = .ok (.putfield 482, 3) := by decide +kernel
theorem dX1_read_239 : decode cX1_read 239 = .ok (.aload_n 0, 1) := by decide +kernel
theorem dX1_read_240 : decode cX1_read 240 = .ok (.iconst 1, 1) := by decide +kernel
theorem dX1_read_241 : decode cX1_read 241 = .ok (.putfield 498, 3) := by decide +kernel
theorem dX1_read_244 : decode cX1_read 244 = .ok (.aload_n 0, 1) := by decide +kernel
theorem dX1_read_245 : decode cX1_read 245 = .ok (.iconst 0, 1) := by decide +kernel
theorem dX1_read_246 : decode cX1_read 246 = .ok (.putfield 501, 3) := by decide +kernel
theorem dX1_read_249 : decode cX1_read 249 = .ok (.aload_n 0, 1) := by decide +kernel
theorem dX1_read_250 : decode cX1_read 250 = .ok (.iconst 0, 1) := by decide +kernel
theorem dX1_read_251 : decode cX1_read 251 = .ok (.putfield 504, 3) := by decide +kernel
theorem dX1_read_254 : decode cX1_read 254 = .ok (.aload_n 0, 1) := by decide +kernel
theorem dX1_read_255 : decode cX1_read 255 = .ok (.invokevirtual 507, 3) := by decide +kernel
theorem dX1_read_258 : decode cX1_read 258 = .ok (.aload_n 0, 1) := by decide +kernel
theorem dX1_read_259 : decode cX1_read 259 = .ok (.getfield 27, 3) := by decide +kernel
theorem dX1_read_262 : decode cX1_read 262 = .ok (.aload_n 0, 1) := by decide +kernel
theorem dX1_read_263 : decode cX1_read 263 = .ok (.getfield 328, 3) := by decide +kernel
theorem dX1_read_266 : decode cX1_read 266 = .ok (.iaload, 1) := by decide +kernel
theorem dX1_read_267 : decode cX1_read 267 = .ok (.ireturn, 1) := by decide +kernel
def m_read_219 (σ : MEM) : Option zm_O := bd (m_isGood σ) (fun r1 σ2 => if r1 = 0 then (some ((σ2 (-1) 5), σ2)) else (nu (mup σ2 (-1) 7 (σ2 (-1) 8)) (fun σ6 => nu (mup σ6 (-1) 9 1) (fun σ7 => nu (mup σ7 (-1) 86 0) (fun σ8 => nu (mup σ8 (-1) 68 0) (fun σ9 => bd (m_judge σ9) (fun _ σ10 => ck (0 ≤ (σ10 (-1) 8) ∧ (σ10 (-1) 8) < 2) (some ((σ10 12 (σ10 (-1) 8)), σ10)))))))))
theorem w_read_219 {C : zv_Cx zm_O} {G : zm_G} (h : zv_Ok C cX1_read RX1) (hc : zm_C C G 3 (Option.some FieldType.int) 1 8 187) (σ : MEM) : VV C (m_read_219 σ ) σ [(0, .ref (zm_h G))] [] 219 := by
  have hN : ∀ i, i < 3 → i < zv_n C := fun i q => by rw [hc.2.2.1]; exact q
  unfold m_read_219
  refine r_aload_n h 0 dX1_read_219 rfl rfl ?_
  refine zm_cVz h hc (n := 0) (As := []) (fun o1 e1 => w_isGood hc.1 _ o1 e1) q1801 q1803 qs56 q136 q1804 (by decide +kernel) ⟨by decide, by decide⟩ rfl (Nat.le_of_ble_eq_true rfl) rfl dX1_read_220 (fun r1 σ2 hr3 => ?_)
  refine r_if_ne h hr3.r 231 dX1_read_223 rfl ?_ ?_
  · refine r_aload_n h 0 dX1_read_226 rfl rfl ?_
    refine zm_getI h hc 5 5 (by decide) rfl rfl q1485 rfl dX1_read_227 (fun hr4 => ?_)
    exact zm_iret h hc rfl hr4 dX1_read_230
  · refine r_aload_n h 0 dX1_read_231 rfl rfl ?_
    refine r_aload_n h 0 dX1_read_232 rfl rfl ?_
    refine zm_getI h hc 8 8 (by decide) rfl rfl q1488 rfl dX1_read_233 (fun hr5 => ?_)
    refine zm_putI h hc 7 7 (by decide) rfl rfl q1487 ⟨rfl, rfl, by decide +kernel⟩ hr5 dX1_read_236 (fun σ6 _ => ?_)
    refine r_aload_n h 0 dX1_read_239 rfl rfl ?_
    refine r_iconst h dX1_read_240 ?_
    refine zm_putZ h hc 9 9 (by decide) rfl rfl q1489 ⟨rfl, rfl, by decide +kernel⟩ (by decide) dX1_read_241 (fun σ7 _ => ?_)
    refine r_aload_n h 0 dX1_read_244 rfl rfl ?_
    refine r_iconst h dX1_read_245 ?_
    refine zm_putI h hc 86 86 (by decide) rfl rfl q1565 ⟨rfl, rfl, by decide +kernel⟩ (by decide) dX1_read_246 (fun σ8 _ => ?_)
    refine r_aload_n h 0 dX1_read_249 rfl rfl ?_
    refine r_iconst h dX1_read_250 ?_
    refine zm_putI h hc 68 68 (by decide) rfl rfl q1547 ⟨rfl, rfl, by decide +kernel⟩ (by decide) dX1_read_251 (fun σ9 _ => ?_)
    refine r_aload_n h 0 dX1_read_254 rfl rfl ?_
    refine zm_cVv h hc (n := 0) (As := []) (fun o1 e1 => w_judge hc.1 _ o1 e1) q1994 q1996 qs93 q136 q1997 (by decide +kernel) ⟨by decide, by decide⟩ rfl (Nat.le_of_ble_eq_true rfl) rfl dX1_read_255 (fun σ10  => ?_)
    refine r_aload_n h 0 dX1_read_258 rfl rfl ?_
    refine zm_getA h hc 12 (by decide) rfl q1492 rfl dX1_read_259 ?_
    refine r_aload_n h 0 dX1_read_262 rfl rfl ?_
    refine zm_getI h hc 8 8 (by decide) rfl rfl q1488 rfl dX1_read_263 (fun hr11 => ?_)
    refine zm_ldI h hc 12 12 2 (by decide) rfl rfl rfl (by decide) dX1_read_266 (fun _ hr12 => ?_)
    exact zm_iret h hc rfl hr12 dX1_read_267
def m_read_180 (σ : MEM) : Option zm_O := bd (m_element σ) (fun _ σ1 => bd (m_content σ1) (fun _ σ2 => bd (m_misc σ2) (fun _ σ3 => bd (m_isGood σ3) (fun r4 σ5 => if r4 = 0 then (m_read_219 σ5) else (if (σ5 (-1) 3) ≤ (σ5 (-1) 4) then (m_read_219 σ5) else (bd (m_fail σ5 (-1) (σ5 (-1) 4)) (fun _ σ10 => m_read_219 σ10)))))))
theorem w_read_180 {C : zv_Cx zm_O} {G : zm_G} (h : zv_Ok C cX1_read RX1) (hc : zm_C C G 3 (Option.some FieldType.int) 1 8 187) (σ : MEM) : VV C (m_read_180 σ ) σ [(0, .ref (zm_h G))] [] 180 := by
  have hN : ∀ i, i < 3 → i < zv_n C := fun i q => by rw [hc.2.2.1]; exact q
  unfold m_read_180
  refine r_aload_n h 0 dX1_read_180 rfl rfl ?_
  refine zm_cVv h hc (n := 0) (As := []) (fun o1 e1 => w_element hc.1 _ o1 e1) q1960 q1962 qs85 q136 q1963 (by decide +kernel) ⟨by decide, by decide⟩ rfl (Nat.le_of_ble_eq_true rfl) rfl dX1_read_181 (fun σ1  => ?_)
  refine r_aload_n h 0 dX1_read_184 rfl rfl ?_
  refine zm_cVv h hc (n := 0) (As := []) (fun o1 e1 => w_content hc.1 _ o1 e1) q1981 q1983 qs90 q136 q1984 (by decide +kernel) ⟨by decide, by decide⟩ rfl (Nat.le_of_ble_eq_true rfl) rfl dX1_read_185 (fun σ2  => ?_)
  refine r_aload_n h 0 dX1_read_188 rfl rfl ?_
  refine zm_cVv h hc (n := 0) (As := []) (fun o1 e1 => w_misc hc.1 _ o1 e1) q1809 q1811 qs58 q136 q1812 (by decide +kernel) ⟨by decide, by decide⟩ rfl (Nat.le_of_ble_eq_true rfl) rfl dX1_read_189 (fun σ3  => ?_)
  refine r_aload_n h 0 dX1_read_192 rfl rfl ?_
  refine zm_cVz h hc (n := 0) (As := []) (fun o1 e1 => w_isGood hc.1 _ o1 e1) q1801 q1803 qs56 q136 q1804 (by decide +kernel) ⟨by decide, by decide⟩ rfl (Nat.le_of_ble_eq_true rfl) rfl dX1_read_193 (fun r4 σ5 hr6 => ?_)
  refine r_if_eq h hr6.r 219 dX1_read_196 rfl ?_ ?_
  · exact r_lv [0] rfl (w_read_219 h hc _)
  · refine r_aload_n h 0 dX1_read_199 rfl rfl ?_
    refine zm_getI h hc 4 4 (by decide) rfl rfl q1484 rfl dX1_read_200 (fun hr7 => ?_)
    refine r_aload_n h 0 dX1_read_203 rfl rfl ?_
    refine zm_getI h hc 3 3 (by decide) rfl rfl q1483 rfl dX1_read_204 (fun hr8 => ?_)
    refine r_icmp_ge h hr7 hr8 219 dX1_read_207 rfl ?_ ?_
    · exact r_lv [0] rfl (w_read_219 h hc _)
    · refine r_aload_n h 0 dX1_read_210 rfl rfl ?_
      refine r_iconst h dX1_read_211 ?_
      refine r_aload_n h 0 dX1_read_212 rfl rfl ?_
      refine zm_getI h hc 4 4 (by decide) rfl rfl q1484 rfl dX1_read_213 (fun hr9 => ?_)
      refine zm_cVv h hc (n := 2) (As := [iv (-1), iv (σ5 (-1) 4)]) (fun o1 e1 => w_fail hc.1 _ (-1) (σ5 (-1) 4) (by decide) hr9 o1 e1) q1805 q1807 qs57 q136 q1808 (by decide +kernel) ⟨by decide, by decide⟩ rfl (Nat.le_of_ble_eq_true rfl) rfl dX1_read_216 (fun σ10  => ?_)
      exact r_lv [0] rfl (w_read_219 h hc _)
def m_read_33 : Nat → MEM → Int → Int → Option zm_O
  | 0, _, _, _ => none
  | n + 1, σ, x1, x2 => if x1 ≤ x2 then (ck (0 ≤ (σ (-1) 8) ∧ (σ (-1) 8) < 2) (nu (mup σ 12 (σ (-1) 8) 0) (fun σ2 => ck (0 ≤ (σ2 (-1) 8) ∧ (σ2 (-1) 8) < 2) (nu (mup σ2 22 (σ2 (-1) 8) 0) (fun σ4 => ck (0 ≤ (σ4 (-1) 8) ∧ (σ4 (-1) 8) < 2) (nu (mup σ4 23 (σ4 (-1) 8) 0) (fun σ6 => ck (0 ≤ (σ6 (-1) 8) ∧ (σ6 (-1) 8) < 2) (nu (mup σ6 26 (σ6 (-1) 8) 0) (fun σ8 => ck (0 ≤ (σ8 (-1) 8) ∧ (σ8 (-1) 8) < 2) (nu (mup σ8 37 (σ8 (-1) 8) 0) (fun σ10 => ck (0 ≤ (σ10 (-1) 8) ∧ (σ10 (-1) 8) < 2) (nu (mup σ10 50 (σ10 (-1) 8) 0) (fun σ12 => ck (0 ≤ (σ12 (-1) 8) ∧ (σ12 (-1) 8) < 2) (nu (mup σ12 10 (σ12 (-1) 8) 0) (fun σ14 => nu (mup σ14 (-1) 64 0) (fun σ15 => bd (m_newNode σ15 0 0) (fun r16 σ17 => bd (m_misc σ17) (fun _ σ19 => bd (m_isGood σ19) (fun r20 σ21 => if r20 = 0 then (m_read_180 σ21) else (bd (m_stands2 σ21 4332819423729834320 69 1) (fun r23 σ24 => if r23 = 0 then (m_read_180 σ24) else (bd (m_doctype σ24) (fun _ σ26 => bd (m_misc σ26) (fun _ σ27 => m_read_180 σ27)))))))))))))))))))))))) else (ck (0 ≤ x2 ∧ x2 < 6000) (ck (0 ≤ ((6000 * (σ (-1) 8)) + x2) ∧ ((6000 * (σ (-1) 8)) + x2) < 12000) (nu (mup σ 11 ((6000 * (σ (-1) 8)) + x2) (σ 2 x2)) (fun σ30 => ck (inR (x2 + 1)) (m_read_33 n σ30 x1 (x2 + 1))))))
theorem w_read_33 {C : zv_Cx zm_O} {G : zm_G} (h : zv_Ok C cX1_read RX1) (hc : zm_C C G 3 (Option.some FieldType.int) 1 8 187) : ∀ (n : Nat) (σ : MEM) (x1 x2 : Int), inR x1 → inR x2 → VV C (m_read_33 n σ x1 x2) σ [(0, .ref (zm_h G)), (1, iv x1), (2, iv x2)] [] 33 := by
  have hN : ∀ i, i < 3 → i < zv_n C := fun i q => by rw [hc.2.2.1]; exact q
  intro n
  induction n with
  | zero => intros; exact r_none
  | succ n ih =>
    intro σ x1 x2 hx1 hx2
    rw [m_read_33]
    refine r_iload_n h 2 dX1_read_33 rfl rfl ?_
    refine r_iload_n h 1 dX1_read_34 rfl rfl ?_
    refine r_icmp_ge h hx2 hx1 65 dX1_read_35 rfl ?_ ?_
    · refine r_aload_n h 0 dX1_read_65 rfl rfl ?_
      refine zm_getA h hc 12 (by decide) rfl q1492 rfl dX1_read_66 ?_
      refine r_aload_n h 0 dX1_read_69 rfl rfl ?_
      refine zm_getI h hc 8 8 (by decide) rfl rfl q1488 rfl dX1_read_70 (fun hr1 => ?_)
      refine r_iconst h dX1_read_73 ?_
      refine zm_stI h hc 12 12 2 (by decide) rfl rfl rfl (by decide) (by decide) dX1_read_74 (fun _ σ2 _ => ?_)
      refine r_aload_n h 0 dX1_read_75 rfl rfl ?_
      refine zm_getA h hc 22 (by decide) rfl q1502 rfl dX1_read_76 ?_
      refine r_aload_n h 0 dX1_read_79 rfl rfl ?_
      refine zm_getI h hc 8 8 (by decide) rfl rfl q1488 rfl dX1_read_80 (fun hr3 => ?_)
      refine r_iconst h dX1_read_83 ?_
      refine zm_stI h hc 22 22 2 (by decide) rfl rfl rfl (by decide) (by decide) dX1_read_84 (fun _ σ4 _ => ?_)
      refine r_aload_n h 0 dX1_read_85 rfl rfl ?_
      refine zm_getA h hc 23 (by decide) rfl q1503 rfl dX1_read_86 ?_
      refine r_aload_n h 0 dX1_read_89 rfl rfl ?_
      refine zm_getI h hc 8 8 (by decide) rfl rfl q1488 rfl dX1_read_90 (fun hr5 => ?_)
      refine r_iconst h dX1_read_93 ?_
      refine zm_stI h hc 23 23 2 (by decide) rfl rfl rfl (by decide) (by decide) dX1_read_94 (fun _ σ6 _ => ?_)
      refine r_aload_n h 0 dX1_read_95 rfl rfl ?_
      refine zm_getA h hc 26 (by decide) rfl q1506 rfl dX1_read_96 ?_
      refine r_aload_n h 0 dX1_read_99 rfl rfl ?_
      refine zm_getI h hc 8 8 (by decide) rfl rfl q1488 rfl dX1_read_100 (fun hr7 => ?_)
      refine r_iconst h dX1_read_103 ?_
      refine zm_stI h hc 26 26 2 (by decide) rfl rfl rfl (by decide) (by decide) dX1_read_104 (fun _ σ8 _ => ?_)
      refine r_aload_n h 0 dX1_read_105 rfl rfl ?_
      refine zm_getA h hc 37 (by decide) rfl q1517 rfl dX1_read_106 ?_
      refine r_aload_n h 0 dX1_read_109 rfl rfl ?_
      refine zm_getI h hc 8 8 (by decide) rfl rfl q1488 rfl dX1_read_110 (fun hr9 => ?_)
      refine r_iconst h dX1_read_113 ?_
      refine zm_stI h hc 37 37 2 (by decide) rfl rfl rfl (by decide) (by decide) dX1_read_114 (fun _ σ10 _ => ?_)
      refine r_aload_n h 0 dX1_read_115 rfl rfl ?_
      refine zm_getA h hc 50 (by decide) rfl q1530 rfl dX1_read_116 ?_
      refine r_aload_n h 0 dX1_read_119 rfl rfl ?_
      refine zm_getI h hc 8 8 (by decide) rfl rfl q1488 rfl dX1_read_120 (fun hr11 => ?_)
      refine r_iconst h dX1_read_123 ?_
      refine zm_stI h hc 50 50 2 (by decide) rfl rfl rfl (by decide) (by decide) dX1_read_124 (fun _ σ12 _ => ?_)
      refine r_aload_n h 0 dX1_read_125 rfl rfl ?_
      refine zm_getA h hc 10 (by decide) rfl q1490 rfl dX1_read_126 ?_
      refine r_aload_n h 0 dX1_read_129 rfl rfl ?_
      refine zm_getI h hc 8 8 (by decide) rfl rfl q1488 rfl dX1_read_130 (fun hr13 => ?_)
      refine r_iconst h dX1_read_133 ?_
      refine zm_stZ h hc 10 10 2 (by decide) rfl rfl rfl (by decide) (by decide) dX1_read_134 (fun _ σ14 _ => ?_)
      refine r_aload_n h 0 dX1_read_135 rfl rfl ?_
      refine r_iconst h dX1_read_136 ?_
      refine zm_putI h hc 64 64 (by decide) rfl rfl q1543 ⟨rfl, rfl, by decide +kernel⟩ (by decide) dX1_read_137 (fun σ15 _ => ?_)
      refine r_aload_n h 0 dX1_read_140 rfl rfl ?_
      refine r_iconst h dX1_read_141 ?_
      refine r_iconst h dX1_read_142 ?_
      refine zm_cVi h hc (n := 2) (As := [iv 0, iv 0]) (fun o1 e1 => w_newNode hc.1 _ 0 0 (by decide) (by decide) o1 e1) q1797 q1799 qs55 q136 q1800 (by decide +kernel) ⟨by decide, by decide⟩ rfl (Nat.le_of_ble_eq_true rfl) rfl dX1_read_143 (fun r16 σ17 hr18 => ?_)
      refine r_istore_n (lv' := [(2, iv r16), (0, .ref (zm_h G)), (1, iv x1)]) h dX1_read_146 rfl (hN _ (by decide)) rfl ?_
      refine r_aload_n h 1 dX1_read_147 rfl rfl ?_
      refine zm_cVv h hc (n := 0) (As := []) (fun o1 e1 => w_misc hc.1 _ o1 e1) q1809 q1811 qs58 q136 q1812 (by decide +kernel) ⟨by decide, by decide⟩ rfl (Nat.le_of_ble_eq_true rfl) rfl dX1_read_148 (fun σ19  => ?_)
      refine r_aload_n h 1 dX1_read_151 rfl rfl ?_
      refine zm_cVz h hc (n := 0) (As := []) (fun o1 e1 => w_isGood hc.1 _ o1 e1) q1801 q1803 qs56 q136 q1804 (by decide +kernel) ⟨by decide, by decide⟩ rfl (Nat.le_of_ble_eq_true rfl) rfl dX1_read_152 (fun r20 σ21 hr22 => ?_)
      refine r_if_eq h hr22.r 180 dX1_read_155 rfl ?_ ?_
      · exact r_lv [1] rfl (w_read_180 h hc _)
      · refine r_aload_n h 1 dX1_read_158 rfl rfl ?_
        refine r_ldc2 (x := 4332819423729834320) h q1844 (by decide) dX1_read_159 ?_
        refine r_ldc2 (x := 69) h q1845 (by decide) dX1_read_162 ?_
        refine r_iconst h dX1_read_165 ?_
        refine zm_cVz h hc (n := 3) (As := [jv 4332819423729834320, jv 69, iv 1]) (fun o1 e1 => w_stands2 hc.1 _ 4332819423729834320 69 1 (by decide) (by decide) (by decide) o1 e1) q1846 q1848 qs64 q136 q1849 (by decide +kernel) ⟨by decide, by decide⟩ rfl (Nat.le_of_ble_eq_true rfl) rfl dX1_read_166 (fun r23 σ24 hr25 => ?_)
        refine r_if_eq h hr25.r 180 dX1_read_169 rfl ?_ ?_
        · exact r_lv [1] rfl (w_read_180 h hc _)
        · refine r_aload_n h 1 dX1_read_172 rfl rfl ?_
          refine zm_cVv h hc (n := 0) (As := []) (fun o1 e1 => w_doctype hc.1 _ o1 e1) q1850 q1852 qs65 q136 q1853 (by decide +kernel) ⟨by decide, by decide⟩ rfl (Nat.le_of_ble_eq_true rfl) rfl dX1_read_173 (fun σ26  => ?_)
          refine r_aload_n h 1 dX1_read_176 rfl rfl ?_
          refine zm_cVv h hc (n := 0) (As := []) (fun o1 e1 => w_misc hc.1 _ o1 e1) q1809 q1811 qs58 q136 q1812 (by decide +kernel) ⟨by decide, by decide⟩ rfl (Nat.le_of_ble_eq_true rfl) rfl dX1_read_177 (fun σ27  => ?_)
          exact r_lv [1] rfl (w_read_180 h hc _)
    · refine r_aload_n h 0 dX1_read_38 rfl rfl ?_
      refine zm_getA h hc 11 (by decide) rfl q1491 rfl dX1_read_39 ?_
      refine r_sipush h dX1_read_42 (by decide) ?_
      refine r_aload_n h 0 dX1_read_45 rfl rfl ?_
      refine zm_getI h hc 8 8 (by decide) rfl rfl q1488 rfl dX1_read_46 (fun hr28 => ?_)
      refine r_imul h dX1_read_49 ?_
      refine r_iload_n h 2 dX1_read_50 rfl rfl ?_
      refine r_iadd h dX1_read_51 ?_
      refine r_aload_n h 0 dX1_read_52 rfl rfl ?_
      refine zm_getA h hc 2 (by decide) rfl q1482 rfl dX1_read_53 ?_
      refine r_iload_n h 2 dX1_read_56 rfl rfl ?_
      refine zm_ldB h hc 2 2 6000 (by decide) rfl rfl rfl (by decide) dX1_read_57 (fun _ hr29 => ?_)
      refine zm_stB h hc 11 11 12000 (by decide) rfl rfl rfl (by decide) hr29 dX1_read_58 (fun _ σ30 _ => ?_)
      refine r_iinc (lv' := [(2, iv (x2 + 1)), (0, .ref (zm_h G)), (1, iv x1)]) h 2 dX1_read_59 rfl (hN _ (by decide)) rfl ?_
      refine r_goto h 33 dX1_read_62 rfl ?_
      refine r_ck (fun hk31 => ?_)
      exact r_lv [1, 2, 0] rfl (ih _ x1 (x2 + 1) hx1 hk31)
def m_read (σ : MEM) (a0 : Int) : Option zm_O := bd (m_in σ a0 0 (σ (-1) 1)) (fun r2 σ3 => if r2 = 0 then (some (0, σ3)) else (bd (m_begin σ3 a0) (fun _ σ5 => ck (inR (1 - (σ5 (-1) 7))) (nu (mup σ5 (-1) 8 (1 - (σ5 (-1) 7))) (fun σ8 => m_read_33 zF σ8 a0 0)))))
theorem w_read {G : zm_G} (hD : zm_D G) (σ : MEM) (a0 : Int) (ha0 : inR a0) (o : zm_O) (hd : m_read σ a0 = some o) : zm_Met G yX1_read cX1_read 3 (Option.some FieldType.int) 1 8 187 σ [.ref (zm_h G), iv a0] o := by
  refine zm_intro hD hd (by decide) rfl (Nat.le_of_ble_eq_true rfl) rfl (fun C h hc => ?_)
  have hN : ∀ i, i < 3 → i < zv_n C := fun i q => by rw [hc.2.2.1]; exact q
  unfold m_read
  refine r_iload_n h 1 dX1_read_0 rfl rfl ?_
  refine r_i2l h ha0 dX1_read_1 ?_
  refine r_lconst (x := 0) h dX1_read_2 (by decide) ?_
  refine r_aload_n h 0 dX1_read_3 rfl rfl ?_
  refine zm_getI h hc 1 1 (by decide) rfl rfl q1481 rfl dX1_read_4 (fun hr1 => ?_)
  refine r_i2l h hr1 dX1_read_7 ?_
  refine zm_cSz h hc (n := 3) (As := [jv a0, jv 0, jv (σ (-1) 1)]) (fun o1 e1 => w_in hc.1 _ a0 0 (σ (-1) 1) ha0.l (by decide) hr1.l o1 e1) q1790 q1791 q136 q1792 (by decide +kernel) ⟨by decide, by decide⟩ rfl (Nat.le_of_ble_eq_true rfl) rfl dX1_read_8 (fun r2 σ3 hr4 => ?_)
  refine r_if_ne h hr4.r 16 dX1_read_11 rfl ?_ ?_
  · refine r_iconst h dX1_read_14 ?_
    exact zm_iret h hc rfl (by decide) dX1_read_15
  · refine r_aload_n h 0 dX1_read_16 rfl rfl ?_
    refine r_iload_n h 1 dX1_read_17 rfl rfl ?_
    refine zm_cVv h hc (n := 1) (As := [iv a0]) (fun o1 e1 => w_begin hc.1 _ a0 ha0 o1 e1) q1793 q1795 qs54 q136 q1796 (by decide +kernel) ⟨by decide, by decide⟩ rfl (Nat.le_of_ble_eq_true rfl) rfl dX1_read_18 (fun σ5  => ?_)
    refine r_aload_n h 0 dX1_read_21 rfl rfl ?_
    refine r_iconst h dX1_read_22 ?_
    refine r_aload_n h 0 dX1_read_23 rfl rfl ?_
    refine zm_getI h hc 7 7 (by decide) rfl rfl q1487 rfl dX1_read_24 (fun hr6 => ?_)
    refine r_isub h dX1_read_27 ?_
    refine r_ck (fun hk7 => ?_)
    refine zm_putI h hc 8 8 (by decide) rfl rfl q1488 ⟨rfl, rfl, by decide +kernel⟩ hk7 dX1_read_28 (fun σ8 _ => ?_)
    refine r_iconst h dX1_read_31 ?_
    refine r_istore_n (lv' := [(2, iv 0), (0, .ref (zm_h G)), (1, iv a0)]) h dX1_read_32 rfl (hN _ (by decide)) rfl ?_
    exact r_lv [1, 2, 0] rfl (w_read_33 h hc zF _ a0 0 ha0 (by decide))
theorem dX1_quoted_0 : decode cX1_quoted 0 = .ok (.aload_n 0, 1) := by decide +kernel
theorem dX1_quoted_1 : decode cX1_quoted 1 = .ok (.aload_n 0, 1) := by decide +kernel
theorem dX1_quoted_2 : decode cX1_quoted 2 = .ok (.getfield 276, 3) := by decide +kernel
theorem dX1_quoted_5 : decode cX1_quoted 5 = .ok (.invokevirtual 279, 3) := by decide +kernel
theorem dX1_quoted_8 : decode cX1_quoted 8 = .ok (.istore_n 2, 1) := by decide +kernel
theorem dX1_quoted_9 : decode cX1_quoted 9 = .ok (.aload_n 0, 1) := by decide +kernel
theorem dX1_quoted_10 : decode cX1_quoted 10 = .ok (.invokevirtual 289, 3) := by decide +kernel
theorem dX1_quoted_13 : decode cX1_quoted 13 = .ok (.ifCond .eq 24, 3) := by decide +kernel
theorem dX1_quoted_16 : decode cX1_quoted 16 = .ok (.iload_n 2, 1) := by decide +kernel
theorem dX1_quoted_17 : decode cX1_quoted 17 = .ok (.bipush 34, 2) := by decide +kernel
theorem dX1_quoted_19 : decode cX1_quoted 19 = .ok (.if_icmp .eq 18, 3) := by decide +kernel
theorem dX1_quoted_22 : decode cX1_quoted 22 = .ok (.iload_n 2, 1) := by decide +kernel
theorem dX1_quoted_23 : decode cX1_quoted 23 = .ok (.bipush 39, 2) := by decide +kernel
theorem dX1_quoted_25 : decode cX1_quoted 25 = .ok (.if_icmp .eq 12, 3) := by decide +kernel
theorem dX1_quoted_28 : decode cX1_quoted 28 = .ok (.aload_n 0, 1) := by decide +kernel
theorem dX1_quoted_29 : decode cX1_quoted 29 = .ok (.iconst (-1), 1) := by decide +kernel
theorem dX1_quoted_30 : decode cX1_quoted 30 = .ok (.aload_n 0, 1) := by decide +kernel
theorem dX1_quoted_31 : decode cX1_quoted 31 = .ok (.getfield 276, 3) := by decide +kernel
theorem dX1_quoted_34 : decode cX1_quoted 34 = .ok (.invokevirtual 293, 3) := by decide +kernel
theorem dX1_quoted_37 : decode cX1_quoted 37 = .ok (.aload_n 0, 1) := by decide +kernel
theorem dX1_quoted_38 : decode cX1_quoted 38 = .ok (.dup, 1) := by decide +kernel
theorem dX1_quoted_39 : decode cX1_quoted 39 = .ok (.getfield 276, 3) := by decide +kernel
theorem dX1_quoted_42 : decode cX1_quoted 42 = .ok (.iconst 1, 1) := by decide +kernel
theorem dX1_quoted_43 : decode cX1_quoted 43 = .ok (.iadd, 1) := by decide +kernel
theorem dX1_quoted_44 : decode cX1_quoted 44 = .ok (.putfield 276, 3) := by decide +kernel
theorem dX1_quoted_47 : decode cX1_quoted 47 = .ok (.aload_n 0, 1) := by decide +kernel
theorem dX1_quoted_48 : decode cX1_quoted 48 = .ok (.getfield 209, 3) := by decide +kernel
theorem dX1_quoted_51 : decode cX1_quoted 51 = .ok (.iload_n 1, 1) := by decide +kernel
theorem dX1_quoted_52 : decode cX1_quoted 52 = .ok (.aload_n 0, 1) := by decide +kernel
theorem dX1_quoted_53 : decode cX1_quoted 53 = .ok (.getfield 276, 3) := by decide +kernel
theorem dX1_quoted_56 : decode cX1_quoted 56 = .ok (.iastore, 1) := by decide +kernel
theorem dX1_quoted_57 : decode cX1_quoted 57 = .ok (.aload_n 0, 1) := by decide +kernel
theorem dX1_quoted_58 : decode cX1_quoted 58 = .ok (.invokevirtual 289, 3) := by decide +kernel
theorem dX1_quoted_61 : decode cX1_quoted 61 = .ok (.ifCond .eq 51, 3) := by decide +kernel
theorem dX1_quoted_64 : decode cX1_quoted 64 = .ok (.aload_n 0, 1) := by decide +kernel
theorem dX1_quoted_65 : decode cX1_quoted 65 = .ok (.aload_n 0, 1) := by decide +kernel
theorem dX1_quoted_66 : decode cX1_quoted 66 = .ok (.getfield 276, 3) := by decide +kernel
theorem dX1_quoted_69 : decode cX1_quoted 69 = .ok (.invokevirtual 279, 3) := by decide +kernel
theorem dX1_quoted_72 : decode cX1_quoted 72 = .ok (.iload_n 2, 1) := by decide +kernel
theorem dX1_quoted_73 : decode cX1_quoted 73 = .ok (.if_icmp .eq 39, 3) := by decide +kernel
theorem dX1_quoted_76 : decode cX1_quoted 76 = .ok (.aload_n 0, 1) := by decide +kernel
theorem dX1_quoted_77 : decode cX1_quoted 77 = .ok (.aload_n 0, 1) := by decide +kernel
theorem dX1_quoted_78 : decode cX1_quoted 78 = .ok (.getfield 276, 3) := by decide +kernel
theorem dX1_quoted_81 : decode cX1_quoted 81 = .ok (.invokevirtual 279, 3) := by decide +kernel
theorem dX1_quoted_84 : decode cX1_quoted 84 = .ok (.invokestatic 313, 3) := by decide +kernel
theorem dX1_quoted_87 : decode cX1_quoted 87 = .ok (.ifCond .ne 12, 3) := by decide +kernel
theorem dX1_quoted_90 : decode cX1_quoted 90 = .ok (.aload_n 0, 1) := by decide +kernel
theorem dX1_quoted_91 : decode cX1_quoted 91 = .ok (.iconst (-1), 1) := by decide +kernel
theorem dX1_quoted_92 : decode cX1_quoted 92 = .ok (.aload_n 0, 1) := by decide +kernel
theorem dX1_quoted_93 : decode cX1_quoted 93 = .ok (.getfield 276, 3) := by decide +kernel
theorem dX1_quoted_96 : decode cX1_quoted 96 = .ok (.invokevirtual 293, 3) := by decide +kernel
theorem dX1_quoted_99 : decode cX1_quoted 99 = .ok (.aload_n 0, 1) := by decide +kernel
theorem dX1_quoted_100 : decode cX1_quoted 100 = .ok (.dup, 1) := by decide +kernel
theorem dX1_quoted_101 : decode cX1_quoted 101 = .ok (.getfield 276, 3) := by decide +kernel
theorem dX1_quoted_104 : decode cX1_quoted 104 = .ok (.iconst 1, 1) := by decide +kernel
theorem dX1_quoted_105 : decode cX1_quoted 105 = .ok (.iadd, 1) := by decide +kernel
theorem dX1_quoted_106 : decode cX1_quoted 106 = .ok (.putfield 276, 3) := by decide +kernel
theorem dX1_quoted_109 : decode cX1_quoted 109 = .ok (.goto (-52), 3) := by decide +kernel
theorem dX1_quoted_112 : decode cX1_quoted 112 = .ok (.aload_n 0, 1) := by decide +kernel
theorem dX1_quoted_113 : decode cX1_quoted 113 = .ok (.getfield 212, 3) := by decide +kernel
theorem dX1_quoted_116 : decode cX1_quoted 116 = .ok (.iload_n 1, 1) := by decide +kernel
theorem dX1_quoted_117 : decode cX1_quoted 117 = .ok (.aload_n 0, 1) := by decide +kernel
theorem dX1_quoted_118 : decode cX1_quoted 118 = .ok (.getfield 276, 3) := by decide +kernel
theorem dX1_quoted_121 : decode cX1_quoted 121 = .ok (.aload_n 0, 1) := by decide +kernel
theorem dX1_quoted_122 : decode cX1_quoted 122 = .ok (.getfield 209, 3) := by decide +kernel
theorem dX1_quoted_125 : decode cX1_quoted 125 = .ok (.iload_n 1, 1) := by decide +kernel
theorem dX1_quoted_126 : decode cX1_quoted 126 = .ok (.iaload, 1) := by decide +kernel
theorem dX1_quoted_127 : decode cX1_quoted 127 = .ok (.isub, 1) := by decide +kernel
theorem dX1_quoted_128 : decode cX1_quoted 128 = .ok (.iastore, 1) := by decide +kernel
theorem dX1_quoted_129 : decode cX1_quoted 129 = .ok (.aload_n 0, 1) := by decide +kernel
theorem dX1_quoted_130 : decode cX1_quoted 130 = .ok (.dup, 1) := by decide +kernel
theorem dX1_quoted_131 : decode cX1_quoted 131 = .ok (.getfield 276, 3) := by decide +kernel
theorem dX1_quoted_134 : decode cX1_quoted 134 = .ok (.iconst 1, 1) := by decide +kernel
theorem dX1_quoted_135 : decode cX1_quoted 135 = .ok (.iadd, 1) := by decide +kernel
theorem dX1_quoted_136 : decode cX1_quoted 136 = .ok (.putfield 276, 3) := by decide +kernel
theorem dX1_quoted_139 : decode cX1_quoted 139 = .ok (.return_, 1) := by decide +kernel
def m_quoted_112 (σ : MEM) (x1 : Int) : Option zm_O := ck (0 ≤ x1 ∧ x1 < 48) (ck (inR ((σ (-1) 4) - (σ 82 x1))) (ck (0 ≤ x1 ∧ x1 < 48) (nu (mup σ 83 x1 ((σ (-1) 4) - (σ 82 x1))) (fun σ4 => ck (inR ((σ4 (-1) 4) + 1)) (nu (mup σ4 (-1) 4 ((σ4 (-1) 4) + 1)) (fun σ7 => some (0, σ7)))))))
theorem w_quoted_112 {C : zv_Cx zm_O} {G : zm_G} (h : zv_Ok C cX1_quoted RX1) (hc : zm_C C G 3 (Option.none : Option FieldType) 0 2 45) (σ : MEM) (x1 : Int) (hx1 : inR x1) : VV C (m_quoted_112 σ x1) σ [(0, .ref (zm_h G)), (1, iv x1)] [] 112 := by
  have hN : ∀ i, i < 3 → i < zv_n C := fun i q => by rw [hc.2.2.1]; exact q
  unfold m_quoted_112
  refine r_aload_n h 0 dX1_quoted_112 rfl rfl ?_
  refine zm_getA h hc 83 (by decide) rfl q1562 rfl dX1_quoted_113 ?_
  refine r_iload_n h 1 dX1_quoted_116 rfl rfl ?_
  refine r_aload_n h 0 dX1_quoted_117 rfl rfl ?_
  refine zm_getI h hc 4 4 (by decide) rfl rfl q1484 rfl dX1_quoted_118 (fun hr1 => ?_)
  refine r_aload_n h 0 dX1_quoted_121 rfl rfl ?_
  refine zm_getA h hc 82 (by decide) rfl q1561 rfl dX1_quoted_122 ?_
  refine r_iload_n h 1 dX1_quoted_125 rfl rfl ?_
  refine zm_ldI h hc 82 82 48 (by decide) rfl rfl rfl (by decide) dX1_quoted_126 (fun _ hr2 => ?_)
  refine r_isub h dX1_quoted_127 ?_
  refine r_ck (fun hk3 => ?_)
  refine zm_stI h hc 83 83 48 (by decide) rfl rfl rfl (by decide) hk3 dX1_quoted_128 (fun _ σ4 _ => ?_)
  refine r_aload_n h 0 dX1_quoted_129 rfl rfl ?_
  refine r_dup h dX1_quoted_130 rfl ?_
  refine zm_getI h hc 4 4 (by decide) rfl rfl q1484 rfl dX1_quoted_131 (fun hr5 => ?_)
  refine r_iconst h dX1_quoted_134 ?_
  refine r_iadd h dX1_quoted_135 ?_
  refine r_ck (fun hk6 => ?_)
  refine zm_putI h hc 4 4 (by decide) rfl rfl q1484 ⟨rfl, rfl, by decide +kernel⟩ hk6 dX1_quoted_136 (fun σ7 _ => ?_)
  exact zm_vret h hc rfl dX1_quoted_139
def m_quoted_99 (lp57 : MEM → Int → Int → Option zm_O) (σ : MEM) (x1 x2 : Int) : Option zm_O := ck (inR ((σ (-1) 4) + 1)) (nu (mup σ (-1) 4 ((σ (-1) 4) + 1)) (fun σ3 => lp57 σ3 x1 x2))
theorem w_quoted_99 {C : zv_Cx zm_O} {G : zm_G} (h : zv_Ok C cX1_quoted RX1) (hc : zm_C C G 3 (Option.none : Option FieldType) 0 2 45) (lp57 : MEM → Int → Int → Option zm_O) (hlp57 : ∀ (σ : MEM) (x1 x2 : Int), inR x1 → inR x2 → VV C (lp57 σ x1 x2) σ [(0, .ref (zm_h G)), (1, iv x1), (2, iv x2)] [] 57) (σ : MEM) (x1 x2 : Int) (hx1 : inR x1) (hx2 : inR x2) : VV C (m_quoted_99 lp57 σ x1 x2) σ [(0, .ref (zm_h G)), (1, iv x1), (2, iv x2)] [] 99 := by
  have hN : ∀ i, i < 3 → i < zv_n C := fun i q => by rw [hc.2.2.1]; exact q
  unfold m_quoted_99
  refine r_aload_n h 0 dX1_quoted_99 rfl rfl ?_
  refine r_dup h dX1_quoted_100 rfl ?_
  refine zm_getI h hc 4 4 (by decide) rfl rfl q1484 rfl dX1_quoted_101 (fun hr1 => ?_)
  refine r_iconst h dX1_quoted_104 ?_
  refine r_iadd h dX1_quoted_105 ?_
  refine r_ck (fun hk2 => ?_)
  refine zm_putI h hc 4 4 (by decide) rfl rfl q1484 ⟨rfl, rfl, by decide +kernel⟩ hk2 dX1_quoted_106 (fun σ3 _ => ?_)
  refine r_goto h 57 dX1_quoted_109 rfl ?_
  exact r_lv [0, 1, 2] rfl (hlp57 _ x1 x2 hx1 hx2)
def m_quoted_57 : Nat → MEM → Int → Int → Option zm_O
  | 0, _, _, _ => none
  | n + 1, σ, x1, x2 => bd (m_isGood σ) (fun r1 σ2 => if r1 = 0 then (m_quoted_112 σ2 x1) else (bd (m_octet σ2 (σ2 (-1) 4)) (fun r5 σ6 => if r5 = x2 then (m_quoted_112 σ6 x1) else (bd (m_octet σ6 (σ6 (-1) 4)) (fun r9 σ10 => bd (m_isChar σ10 r9) (fun r12 σ13 => if r12 = 0 then (bd (m_fail σ13 (-1) (σ13 (-1) 4)) (fun _ σ16 => m_quoted_99 (m_quoted_57 n) σ16 x1 x2)) else (m_quoted_99 (m_quoted_57 n) σ13 x1 x2)))))))
theorem w_quoted_57 {C : zv_Cx zm_O} {G : zm_G} (h : zv_Ok C cX1_quoted RX1) (hc : zm_C C G 3 (Option.none : Option FieldType) 0 2 45) : ∀ (n : Nat) (σ : MEM) (x1 x2 : Int), inR x1 → inR x2 → VV C (m_quoted_57 n σ x1 x2) σ [(0, .ref (zm_h G)), (1, iv x1), (2, iv x2)] [] 57 := by
  have hN : ∀ i, i < 3 → i < zv_n C := fun i q => by rw [hc.2.2.1]; exact q
  intro n
  induction n with
  | zero => intros; exact r_none
  | succ n ih =>
    intro σ x1 x2 hx1 hx2
    rw [m_quoted_57]
    refine r_aload_n h 0 dX1_quoted_57 rfl rfl ?_
    refine zm_cVz h hc (n := 0) (As := []) (fun o1 e1 => w_isGood hc.1 _ o1 e1) q1801 q1803 qs56 q136 q1804 (by decide +kernel) ⟨by decide, by decide⟩ rfl (Nat.le_of_ble_eq_true rfl) rfl dX1_quoted_58 (fun r1 σ2 hr3 => ?_)
    refine r_if_eq h hr3.r 112 dX1_quoted_61 rfl ?_ ?_
    · exact r_lv [0, 1] rfl (w_quoted_112 h hc _ x1 hx1)
    · refine r_aload_n h 0 dX1_quoted_64 rfl rfl ?_
      refine r_aload_n h 0 dX1_quoted_65 rfl rfl ?_
      refine zm_getI h hc 4 4 (by decide) rfl rfl q1484 rfl dX1_quoted_66 (fun hr4 => ?_)
      refine zm_cVi h hc (n := 1) (As := [iv (σ2 (-1) 4)]) (fun o1 e1 => w_octet hc.1 _ (σ2 (-1) 4) hr4 o1 e1) q1817 q1819 qs60 q136 q1820 (by decide +kernel) ⟨by decide, by decide⟩ rfl (Nat.le_of_ble_eq_true rfl) rfl dX1_quoted_69 (fun r5 σ6 hr7 => ?_)
      refine r_iload_n h 2 dX1_quoted_72 rfl rfl ?_
      refine r_icmp_eq h hr7 hx2 112 dX1_quoted_73 rfl ?_ ?_
      · exact r_lv [0, 1] rfl (w_quoted_112 h hc _ x1 hx1)
      · refine r_aload_n h 0 dX1_quoted_76 rfl rfl ?_
        refine r_aload_n h 0 dX1_quoted_77 rfl rfl ?_
        refine zm_getI h hc 4 4 (by decide) rfl rfl q1484 rfl dX1_quoted_78 (fun hr8 => ?_)
        refine zm_cVi h hc (n := 1) (As := [iv (σ6 (-1) 4)]) (fun o1 e1 => w_octet hc.1 _ (σ6 (-1) 4) hr8 o1 e1) q1817 q1819 qs60 q136 q1820 (by decide +kernel) ⟨by decide, by decide⟩ rfl (Nat.le_of_ble_eq_true rfl) rfl dX1_quoted_81 (fun r9 σ10 hr11 => ?_)
        refine zm_cSz h hc (n := 1) (As := [iv r9]) (fun o1 e1 => w_isChar hc.1 _ r9 hr11 o1 e1) q1835 q1836 q136 q1837 (by decide +kernel) ⟨by decide, by decide⟩ rfl (Nat.le_of_ble_eq_true rfl) rfl dX1_quoted_84 (fun r12 σ13 hr14 => ?_)
        refine r_if_ne h hr14.r 99 dX1_quoted_87 rfl ?_ ?_
        · refine r_aload_n h 0 dX1_quoted_90 rfl rfl ?_
          refine r_iconst h dX1_quoted_91 ?_
          refine r_aload_n h 0 dX1_quoted_92 rfl rfl ?_
          refine zm_getI h hc 4 4 (by decide) rfl rfl q1484 rfl dX1_quoted_93 (fun hr15 => ?_)
          refine zm_cVv h hc (n := 2) (As := [iv (-1), iv (σ13 (-1) 4)]) (fun o1 e1 => w_fail hc.1 _ (-1) (σ13 (-1) 4) (by decide) hr15 o1 e1) q1805 q1807 qs57 q136 q1808 (by decide +kernel) ⟨by decide, by decide⟩ rfl (Nat.le_of_ble_eq_true rfl) rfl dX1_quoted_96 (fun σ16  => ?_)
          exact r_lv [0, 1, 2] rfl (w_quoted_99 h hc (m_quoted_57 n) ih _ x1 x2 hx1 hx2)
        · exact r_lv [0, 1, 2] rfl (w_quoted_99 h hc (m_quoted_57 n) ih _ x1 x2 hx1 hx2)
def m_quoted_37 (σ : MEM) (x1 x2 : Int) : Option zm_O := ck (inR ((σ (-1) 4) + 1)) (nu (mup σ (-1) 4 ((σ (-1) 4) + 1)) (fun σ3 => ck (0 ≤ x1 ∧ x1 < 48) (nu (mup σ3 82 x1 (σ3 (-1) 4)) (fun σ5 => m_quoted_57 zF σ5 x1 x2))))
theorem w_quoted_37 {C : zv_Cx zm_O} {G : zm_G} (h : zv_Ok C cX1_quoted RX1) (hc : zm_C C G 3 (Option.none : Option FieldType) 0 2 45) (σ : MEM) (x1 x2 : Int) (hx1 : inR x1) (hx2 : inR x2) : VV C (m_quoted_37 σ x1 x2) σ [(0, .ref (zm_h G)), (1, iv x1), (2, iv x2)] [] 37 := by
  have hN : ∀ i, i < 3 → i < zv_n C := fun i q => by rw [hc.2.2.1]; exact q
  unfold m_quoted_37
  refine r_aload_n h 0 dX1_quoted_37 rfl rfl ?_
  refine r_dup h dX1_quoted_38 rfl ?_
  refine zm_getI h hc 4 4 (by decide) rfl rfl q1484 rfl dX1_quoted_39 (fun hr1 => ?_)
  refine r_iconst h dX1_quoted_42 ?_
  refine r_iadd h dX1_quoted_43 ?_
  refine r_ck (fun hk2 => ?_)
  refine zm_putI h hc 4 4 (by decide) rfl rfl q1484 ⟨rfl, rfl, by decide +kernel⟩ hk2 dX1_quoted_44 (fun σ3 _ => ?_)
  refine r_aload_n h 0 dX1_quoted_47 rfl rfl ?_
  refine zm_getA h hc 82 (by decide) rfl q1561 rfl dX1_quoted_48 ?_
  refine r_iload_n h 1 dX1_quoted_51 rfl rfl ?_
  refine r_aload_n h 0 dX1_quoted_52 rfl rfl ?_
  refine zm_getI h hc 4 4 (by decide) rfl rfl q1484 rfl dX1_quoted_53 (fun hr4 => ?_)
  refine zm_stI h hc 82 82 48 (by decide) rfl rfl rfl (by decide) hr4 dX1_quoted_56 (fun _ σ5 _ => ?_)
  exact r_lv [0, 1, 2] rfl (w_quoted_57 h hc zF _ x1 x2 hx1 hx2)
def m_quoted (σ : MEM) (a0 : Int) : Option zm_O := bd (m_octet σ (σ (-1) 4)) (fun r2 σ3 => bd (m_isGood σ3) (fun r5 σ6 => if r5 = 0 then (m_quoted_37 σ6 a0 r2) else (if r2 = 34 then (m_quoted_37 σ6 a0 r2) else (if r2 = 39 then (m_quoted_37 σ6 a0 r2) else (bd (m_fail σ6 (-1) (σ6 (-1) 4)) (fun _ σ9 => m_quoted_37 σ9 a0 r2))))))
theorem w_quoted {G : zm_G} (hD : zm_D G) (σ : MEM) (a0 : Int) (ha0 : inR a0) (o : zm_O) (hd : m_quoted σ a0 = some o) : zm_Met G yX1_quoted cX1_quoted 3 (Option.none : Option FieldType) 0 2 45 σ [.ref (zm_h G), iv a0] o := by
  refine zm_intro hD hd (by decide) rfl (Nat.le_of_ble_eq_true rfl) rfl (fun C h hc => ?_)
  have hN : ∀ i, i < 3 → i < zv_n C := fun i q => by rw [hc.2.2.1]; exact q
  unfold m_quoted
  refine r_aload_n h 0 dX1_quoted_0 rfl rfl ?_
  refine r_aload_n h 0 dX1_quoted_1 rfl rfl ?_
  refine zm_getI h hc 4 4 (by decide) rfl rfl q1484 rfl dX1_quoted_2 (fun hr1 => ?_)
  refine zm_cVi h hc (n := 1) (As := [iv (σ (-1) 4)]) (fun o1 e1 => w_octet hc.1 _ (σ (-1) 4) hr1 o1 e1) q1817 q1819 qs60 q136 q1820 (by decide +kernel) ⟨by decide, by decide⟩ rfl (Nat.le_of_ble_eq_true rfl) rfl dX1_quoted_5 (fun r2 σ3 hr4 => ?_)
  refine r_istore_n (lv' := [(2, iv r2), (0, .ref (zm_h G)), (1, iv a0)]) h dX1_quoted_8 rfl (hN _ (by decide)) rfl ?_
  refine r_aload_n h 1 dX1_quoted_9 rfl rfl ?_
  refine zm_cVz h hc (n := 0) (As := []) (fun o1 e1 => w_isGood hc.1 _ o1 e1) q1801 q1803 qs56 q136 q1804 (by decide +kernel) ⟨by decide, by decide⟩ rfl (Nat.le_of_ble_eq_true rfl) rfl dX1_quoted_10 (fun r5 σ6 hr7 => ?_)
  refine r_if_eq h hr7.r 37 dX1_quoted_13 rfl ?_ ?_
  · exact r_lv [1, 2, 0] rfl (w_quoted_37 h hc _ a0 r2 ha0 hr4)
  · refine r_iload_n h 0 dX1_quoted_16 rfl rfl ?_
    refine r_bipush h dX1_quoted_17 (by decide) ?_
    refine r_icmp_eq h hr4 (by decide) 37 dX1_quoted_19 rfl ?_ ?_
    · exact r_lv [1, 2, 0] rfl (w_quoted_37 h hc _ a0 r2 ha0 hr4)
    · refine r_iload_n h 0 dX1_quoted_22 rfl rfl ?_
      refine r_bipush h dX1_quoted_23 (by decide) ?_
      refine r_icmp_eq h hr4 (by decide) 37 dX1_quoted_25 rfl ?_ ?_
      · exact r_lv [1, 2, 0] rfl (w_quoted_37 h hc _ a0 r2 ha0 hr4)
      · refine r_aload_n h 1 dX1_quoted_28 rfl rfl ?_
        refine r_iconst h dX1_quoted_29 ?_
        refine r_aload_n h 1 dX1_quoted_30 rfl rfl ?_
        refine zm_getI h hc 4 4 (by decide) rfl rfl q1484 rfl dX1_quoted_31 (fun hr8 => ?_)
        refine zm_cVv h hc (n := 2) (As := [iv (-1), iv (σ6 (-1) 4)]) (fun o1 e1 => w_fail hc.1 _ (-1) (σ6 (-1) 4) (by decide) hr8 o1 e1) q1805 q1807 qs57 q136 q1808 (by decide +kernel) ⟨by decide, by decide⟩ rfl (Nat.le_of_ble_eq_true rfl) rfl dX1_quoted_34 (fun σ9  => ?_)
        exact r_lv [1, 2, 0] rfl (w_quoted_37 h hc _ a0 r2 ha0 hr4)
theorem dX1_filter_0 : decode cX1_filter 0 = .ok (.aload_n 0, 1) := by decide +kernel
theorem dX1_filter_1 : decode cX1_filter 1 = .ok (.getfield 194, 3) := by decide +kernel
theorem dX1_filter_4 : decode cX1_filter 4 = .ok (.iload_n 1, 1) := by decide +kernel
theorem dX1_filter_5 : decode cX1_filter 5 = .ok (.iaload, 1) := by decide +kernel
theorem dX1_filter_6 : decode cX1_filter 6 = .ok (.iconst 4, 1) := by decide +kernel
theorem dX1_filter_7 : decode cX1_filter 7 = .ok (.if_icmp .ne 14, 3) := by decide +kernel
theorem dX1_filter_10 : decode cX1_filter 10 = .ok (.aload_n 0, 1) := by decide +kernel
theorem dX1_filter_11 : decode cX1_filter 11 = .ok (.bipush (-3), 2) := by decide +kernel
theorem dX1_filter_13 : decode cX1_filter 13 = .ok (.aload_n 0, 1) := by decide +kernel
theorem dX1_filter_14 : decode cX1_filter 14 = .ok (.getfield 276, 3) := by decide +kernel
theorem dX1_filter_17 : decode cX1_filter 17 = .ok (.invokevirtual 293, 3) := by decide +kernel
theorem dX1_filter_20 : decode cX1_filter 20 = .ok (.return_, 1) := by decide +kernel
theorem dX1_filter_21 : decode cX1_filter 21 = .ok (.aload_n 0, 1) := by decide +kernel
theorem dX1_filter_22 : decode cX1_filter 22 = .ok (.dup, 1) := by decide +kernel
theorem dX1_filter_23 : decode cX1_filter 23 = .ok (.getfield 276, 3) := by decide +kernel
theorem dX1_filter_26 : decode cX1_filter 26 = .ok (.iconst 1, 1) := by decide +kernel
theorem dX1_filter_27 : decode cX1_filter 27 = .ok (.iadd, 1) := by decide +kernel
theorem dX1_filter_28 : decode cX1_filter 28 = .ok (.putfield 276, 3) := by decide +kernel
theorem dX1_filter_31 : decode cX1_filter 31 = .ok (.iconst 4, 1) := by decide +kernel
theorem dX1_filter_32 : decode cX1_filter 32 = .ok (.iload_n 1, 1) := by decide +kernel
theorem dX1_filter_33 : decode cX1_filter 33 = .ok (.imul, 1) := by decide +kernel
theorem dX1_filter_34 : decode cX1_filter 34 = .ok (.aload_n 0, 1) := by decide +kernel
theorem dX1_filter_35 : decode cX1_filter 35 = .ok (.getfield 194, 3) := by decide +kernel
theorem dX1_filter_38 : decode cX1_filter 38 = .ok (.iload_n 1, 1) := by decide +kernel
theorem dX1_filter_39 : decode cX1_filter 39 = .ok (.iaload, 1) := by decide +kernel
theorem dX1_filter_40 : decode cX1_filter 40 = .ok (.iadd, 1) := by decide +kernel
theorem dX1_filter_41 : decode cX1_filter 41 = .ok (.istore_n 2, 1) := by decide +kernel
theorem dX1_filter_42 : decode cX1_filter 42 = .ok (.aload_n 0, 1) := by decide +kernel
theorem dX1_filter_43 : decode cX1_filter 43 = .ok (.getfield 194, 3) := by decide +kernel
theorem dX1_filter_46 : decode cX1_filter 46 = .ok (.iload_n 1, 1) := by decide +kernel
theorem dX1_filter_47 : decode cX1_filter 47 = .ok (.dup2, 1) := by decide +kernel
theorem dX1_filter_48 : decode cX1_filter 48 = .ok (.iaload, 1) := by decide +kernel
theorem dX1_filter_49 : decode cX1_filter 49 = .ok (.iconst 1, 1) := by decide +kernel
theorem dX1_filter_50 : decode cX1_filter 50 = .ok (.iadd, 1) := by decide +kernel
theorem dX1_filter_51 : decode cX1_filter 51 = .ok (.iastore, 1) := by decide +kernel
theorem dX1_filter_52 : decode cX1_filter 52 = .ok (.aload_n 0, 1) := by decide +kernel
theorem dX1_filter_53 : decode cX1_filter 53 = .ok (.getfield 206, 3) := by decide +kernel
theorem dX1_filter_56 : decode cX1_filter 56 = .ok (.iload_n 2, 1) := by decide +kernel
theorem dX1_filter_57 : decode cX1_filter 57 = .ok (.iconst 0, 1) := by decide +kernel
theorem dX1_filter_58 : decode cX1_filter 58 = .ok (.bastore, 1) := by decide +kernel
theorem dX1_filter_59 : decode cX1_filter 59 = .ok (.aload_n 0, 1) := by decide +kernel
theorem dX1_filter_60 : decode cX1_filter 60 = .ok (.aload_n 0, 1) := by decide +kernel
theorem dX1_filter_61 : decode cX1_filter 61 = .ok (.getfield 276, 3) := by decide +kernel
theorem dX1_filter_64 : decode cX1_filter 64 = .ok (.invokevirtual 279, 3) := by decide +kernel
theorem dX1_filter_67 : decode cX1_filter 67 = .ok (.i2l, 1) := by decide +kernel
theorem dX1_filter_68 : decode cX1_filter 68 = .ok (.ldc2_w 272, 3) := by decide +kernel
theorem dX1_filter_71 : decode cX1_filter 71 = .ok (.ldc2_w 274, 3) := by decide +kernel
theorem dX1_filter_74 : decode cX1_filter 74 = .ok (.invokestatic 256, 3) := by decide +kernel
theorem dX1_filter_77 : decode cX1_filter 77 = .ok (.ifCond .eq 85, 3) := by decide +kernel
theorem dX1_filter_80 : decode cX1_filter 80 = .ok (.iconst 0, 1) := by decide +kernel
theorem dX1_filter_81 : decode cX1_filter 81 = .ok (.istore_n 3, 1) := by decide +kernel
theorem dX1_filter_82 : decode cX1_filter 82 = .ok (.iconst 0, 1) := by decide +kernel
theorem dX1_filter_83 : decode cX1_filter 83 = .ok (.istore 4, 2) := by decide +kernel
theorem dX1_filter_85 : decode cX1_filter 85 = .ok (.iload 4, 2) := by decide +kernel
theorem dX1_filter_87 : decode cX1_filter 87 = .ok (.iconst 4, 1) := by decide +kernel
theorem dX1_filter_88 : decode cX1_filter 88 = .ok (.if_icmp .ge 57, 3) := by decide +kernel
theorem dX1_filter_91 : decode cX1_filter 91 = .ok (.aload_n 0, 1) := by decide +kernel
theorem dX1_filter_92 : decode cX1_filter 92 = .ok (.aload_n 0, 1) := by decide +kernel
theorem dX1_filter_93 : decode cX1_filter 93 = .ok (.getfield 276, 3) := by decide +kernel
theorem dX1_filter_96 : decode cX1_filter 96 = .ok (.invokevirtual 279, 3) := by decide +kernel
theorem dX1_filter_99 : decode cX1_filter 99 = .ok (.i2l, 1) := by decide +kernel
theorem dX1_filter_100 : decode cX1_filter 100 = .ok (.ldc2_w 272, 3) := by decide +kernel
theorem dX1_filter_103 : decode cX1_filter 103 = .ok (.ldc2_w 274, 3) := by decide +kernel
theorem dX1_filter_106 : decode cX1_filter 106 = .ok (.invokestatic 256, 3) := by decide +kernel
theorem dX1_filter_109 : decode cX1_filter 109 = .ok (.ifCond .eq 36, 3) := by decide +kernel
theorem dX1_filter_112 : decode cX1_filter 112 = .ok (.bipush 10, 2) := by decide +kernel
theorem dX1_filter_114 : decode cX1_filter 114 = .ok (.iload_n 3, 1) := by decide +kernel
theorem dX1_filter_115 : decode cX1_filter 115 = .ok (.imul, 1) := by decide +kernel
theorem dX1_filter_116 : decode cX1_filter 116 = .ok (.aload_n 0, 1) := by decide +kernel
theorem dX1_filter_117 : decode cX1_filter 117 = .ok (.aload_n 0, 1) := by decide +kernel
theorem dX1_filter_118 : decode cX1_filter 118 = .ok (.getfield 276, 3) := by decide +kernel
theorem dX1_filter_121 : decode cX1_filter 121 = .ok (.invokevirtual 279, 3) := by decide +kernel
theorem dX1_filter_124 : decode cX1_filter 124 = .ok (.iadd, 1) := by decide +kernel
theorem dX1_filter_125 : decode cX1_filter 125 = .ok (.bipush 48, 2) := by decide +kernel
theorem dX1_filter_127 : decode cX1_filter 127 = .ok (.isub, 1) := by decide +kernel
theorem dX1_filter_128 : decode cX1_filter 128 = .ok (.istore_n 3, 1) := by decide +kernel
theorem dX1_filter_129 : decode cX1_filter 129 = .ok (.aload_n 0, 1) := by decide +kernel
theorem dX1_filter_130 : decode cX1_filter 130 = .ok (.dup, 1) := by decide +kernel
theorem dX1_filter_131 : decode cX1_filter 131 = .ok (.getfield 276, 3) := by decide +kernel
theorem dX1_filter_134 : decode cX1_filter 134 = .ok (.iconst 1, 1) := by decide +kernel
theorem dX1_filter_135 : decode cX1_filter 135 = .ok (.iadd, 1) := by decide +kernel
theorem dX1_filter_136 : decode cX1_filter 136 = .ok (.putfield 276, 3) := by decide +kernel
theorem dX1_filter_139 : decode cX1_filter 139 = .ok (.iinc 4 1, 3) := by decide +kernel
theorem dX1_filter_142 : decode cX1_filter 142 = .ok (.goto (-57), 3) := by decide +kernel
theorem dX1_filter_145 : decode cX1_filter 145 = .ok (.aload_n 0, 1) := by decide +kernel
theorem dX1_filter_146 : decode cX1_filter 146 = .ok (.getfield 197, 3) := by decide +kernel
theorem dX1_filter_149 : decode cX1_filter 149 = .ok (.iload_n 2, 1) := by decide +kernel
theorem dX1_filter_150 : decode cX1_filter 150 = .ok (.iconst 0, 1) := by decide +kernel
theorem dX1_filter_151 : decode cX1_filter 151 = .ok (.iastore, 1) := by decide +kernel
theorem dX1_filter_152 : decode cX1_filter 152 = .ok (.aload_n 0, 1) := by decide +kernel
theorem dX1_filter_153 : decode cX1_filter 153 = .ok (.getfield 200, 3) := by decide +kernel
theorem dX1_filter_156 : decode cX1_filter 156 = .ok (.iload_n 2, 1) := by decide +kernel
theorem dX1_filter_157 : decode cX1_filter 157 = .ok (.iload_n 3, 1) := by decide +kernel
theorem dX1_filter_158 : decode cX1_filter 158 = .ok (.iastore, 1) := by decide +kernel
theorem dX1_filter_159 : decode cX1_filter 159 = .ok (.goto 231, 3) := by decide +kernel
theorem dX1_filter_162 : decode cX1_filter 162 = .ok (.aload_n 0, 1) := by decide +kernel
theorem dX1_filter_163 : decode cX1_filter 163 = .ok (.ldc2_w 562, 3) := by decide +kernel
theorem dX1_filter_166 : decode cX1_filter 166 = .ok (.bipush 6, 2) := by decide +kernel
theorem dX1_filter_168 : decode cX1_filter 168 = .ok (.invokevirtual 285, 3) := by decide +kernel
theorem dX1_filter_171 : decode cX1_filter 171 = .ok (.ifCond .eq 24, 3) := by decide +kernel
theorem dX1_filter_174 : decode cX1_filter 174 = .ok (.aload_n 0, 1) := by decide +kernel
theorem dX1_filter_175 : decode cX1_filter 175 = .ok (.dup, 1) := by decide +kernel
theorem dX1_filter_176 : decode cX1_filter 176 = .ok (.getfield 276, 3) := by decide +kernel
theorem dX1_filter_179 : decode cX1_filter 179 = .ok (.bipush 6, 2) := by decide +kernel
theorem dX1_filter_181 : decode cX1_filter 181 = .ok (.iadd, 1) := by decide +kernel
theorem dX1_filter_182 : decode cX1_filter 182 = .ok (.putfield 276, 3) := by decide +kernel
theorem dX1_filter_185 : decode cX1_filter 185 = .ok (.aload_n 0, 1) := by decide +kernel
theorem dX1_filter_186 : decode cX1_filter 186 = .ok (.getfield 197, 3) := by decide +kernel
theorem dX1_filter_189 : decode cX1_filter 189 = .ok (.iload_n 2, 1) := by decide +kernel
theorem dX1_filter_190 : decode cX1_filter 190 = .ok (.iconst 1, 1) := by decide +kernel
theorem dX1_filter_191 : decode cX1_filter 191 = .ok (.iastore, 1) := by decide +kernel
theorem dX1_filter_192 : decode cX1_filter 192 = .ok (.goto 198, 3) := by decide +kernel
theorem dX1_filter_195 : decode cX1_filter 195 = .ok (.aload_n 0, 1) := by decide +kernel
theorem dX1_filter_196 : decode cX1_filter 196 = .ok (.aload_n 0, 1) := by decide +kernel
theorem dX1_filter_197 : decode cX1_filter 197 = .ok (.getfield 276, 3) := by decide +kernel
theorem dX1_filter_200 : decode cX1_filter 200 = .ok (.invokevirtual 279, 3) := by decide +kernel
theorem dX1_filter_203 : decode cX1_filter 203 = .ok (.bipush 64, 2) := by decide +kernel
theorem dX1_filter_205 : decode cX1_filter 205 = .ok (.if_icmp .eq 17, 3) := by decide +kernel
theorem dX1_filter_208 : decode cX1_filter 208 = .ok (.aload_n 0, 1) := by decide +kernel
theorem dX1_filter_209 : decode cX1_filter 209 = .ok (.aload_n 0, 1) := by decide +kernel
theorem dX1_filter_210 : decode cX1_filter 210 = .ok (.getfield 276, 3) := by decide +kernel
theorem dX1_filter_213 : decode cX1_filter 213 = .ok (.invokevirtual 279, 3) := by decide +kernel
theorem dX1_filter_216 : decode cX1_filter 216 = .ok (.invokestatic 268, 3) := by decide +kernel
theorem dX1_filter_219 : decode cX1_filter 219 = .ok (.ifCond .eq 126, 3) := by decide +kernel
theorem dX1_filter_222 : decode cX1_filter 222 = .ok (.aload_n 0, 1) := by decide +kernel
theorem dX1_filter_223 : decode cX1_filter 223 = .ok (.getfield 206, 3) := by decide +kernel
theorem dX1_filter_226 : decode cX1_filter 226 = .ok (.iload_n 2, 1) := by decide +kernel
theorem dX1_filter_227 : decode cX1_filter 227 = .ok (.aload_n 0, 1) := by decide +kernel
theorem dX1_filter_228 : decode cX1_filter 228 = .ok (.aload_n 0, 1) := by decide +kernel
theorem dX1_filter_229 : decode cX1_filter 229 = .ok (.getfield 276, 3) := by decide +kernel
theorem dX1_filter_232 : decode cX1_filter 232 = .ok (.invokevirtual 279, 3) := by decide +kernel
theorem dX1_filter_235 : decode cX1_filter 235 = .ok (.bipush 64, 2) := by decide +kernel
theorem dX1_filter_237 : decode cX1_filter 237 = .ok (.if_icmp .ne 7, 3) := by decide +kernel
theorem dX1_filter_240 : decode cX1_filter 240 = .ok (.iconst 1, 1) := by decide +kernel
theorem dX1_filter_241 : decode cX1_filter 241 = .ok (.goto 4, 3) := by decide +kernel
theorem dX1_filter_244 : decode cX1_filter 244 = .ok (.iconst 0, 1) := by decide +kernel
theorem dX1_filter_245 : decode cX1_filter 245 = .ok (.bastore, 1) := by decide +kernel
theorem dX1_filter_246 : decode cX1_filter 246 = .ok (.aload_n 0, 1) := by decide +kernel
theorem dX1_filter_247 : decode cX1_filter 247 = .ok (.dup, 1) := by decide +kernel
theorem dX1_filter_248 : decode cX1_filter 248 = .ok (.getfield 276, 3) := by decide +kernel
theorem dX1_filter_251 : decode cX1_filter 251 = .ok (.aload_n 0, 1) := by decide +kernel
theorem dX1_filter_252 : decode cX1_filter 252 = .ok (.aload_n 0, 1) := by decide +kernel
theorem dX1_filter_253 : decode cX1_filter 253 = .ok (.getfield 276, 3) := by decide +kernel
theorem dX1_filter_256 : decode cX1_filter 256 = .ok (.invokevirtual 279, 3) := by decide +kernel
theorem dX1_filter_259 : decode cX1_filter 259 = .ok (.bipush 64, 2) := by decide +kernel
theorem dX1_filter_261 : decode cX1_filter 261 = .ok (.if_icmp .ne 7, 3) := by decide +kernel
theorem dX1_filter_264 : decode cX1_filter 264 = .ok (.iconst 1, 1) := by decide +kernel
theorem dX1_filter_265 : decode cX1_filter 265 = .ok (.goto 4, 3) := by decide +kernel
theorem dX1_filter_268 : decode cX1_filter 268 = .ok (.iconst 0, 1) := by decide +kernel
theorem dX1_filter_269 : decode cX1_filter 269 = .ok (.iadd, 1) := by decide +kernel
theorem dX1_filter_270 : decode cX1_filter 270 = .ok (.putfield 276, 3) := by decide +kernel
theorem dX1_filter_273 : decode cX1_filter 273 = .ok (.aload_n 0, 1) := by decide +kernel
theorem dX1_filter_274 : decode cX1_filter 274 = .ok (.getfield 200, 3) := by decide +kernel
theorem dX1_filter_277 : decode cX1_filter 277 = .ok (.iload_n 2, 1) := by decide +kernel
theorem dX1_filter_278 : decode cX1_filter 278 = .ok (.aload_n 0, 1) := by decide +kernel
theorem dX1_filter_279 : decode cX1_filter 279 = .ok (.invokevirtual 351, 3) := by decide +kernel
theorem dX1_filter_282 : decode cX1_filter 282 = .ok (.iastore, 1) := by decide +kernel
theorem dX1_filter_283 : decode cX1_filter 283 = .ok (.aload_n 0, 1) := by decide +kernel
theorem dX1_filter_284 : decode cX1_filter 284 = .ok (.getfield 203, 3) := by decide +kernel
theorem dX1_filter_287 : decode cX1_filter 287 = .ok (.iload_n 2, 1) := by decide +kernel
theorem dX1_filter_288 : decode cX1_filter 288 = .ok (.aload_n 0, 1) := by decide +kernel
theorem dX1_filter_289 : decode cX1_filter 289 = .ok (.getfield 306, 3) := by decide +kernel
theorem dX1_filter_292 : decode cX1_filter 292 = .ok (.iastore, 1) := by decide +kernel
theorem dX1_filter_293 : decode cX1_filter 293 = .ok (.aload_n 0, 1) := by decide +kernel
theorem dX1_filter_294 : decode cX1_filter 294 = .ok (.getfield 197, 3) := by decide +kernel
theorem dX1_filter_297 : decode cX1_filter 297 = .ok (.iload_n 2, 1) := by decide +kernel
theorem dX1_filter_298 : decode cX1_filter 298 = .ok (.iconst 2, 1) := by decide +kernel
theorem dX1_filter_299 : decode cX1_filter 299 = .ok (.iastore, 1) := by decide +kernel
theorem dX1_filter_300 : decode cX1_filter 300 = .ok (.aload_n 0, 1) := by decide +kernel
theorem dX1_filter_301 : decode cX1_filter 301 = .ok (.invokevirtual 289, 3) := by decide +kernel
theorem dX1_filter_304 : decode cX1_filter 304 = .ok (.ifCond .eq 86, 3) := by decide +kernel
theorem dX1_filter_307 : decode cX1_filter 307 = .ok (.aload_n 0, 1) := by decide +kernel
theorem dX1_filter_308 : decode cX1_filter 308 = .ok (.aload_n 0, 1) := by decide +kernel
theorem dX1_filter_309 : decode cX1_filter 309 = .ok (.getfield 276, 3) := by decide +kernel
theorem dX1_filter_312 : decode cX1_filter 312 = .ok (.invokevirtual 279, 3) := by decide +kernel
theorem dX1_filter_315 : decode cX1_filter 315 = .ok (.bipush 61, 2) := by decide +kernel
theorem dX1_filter_317 : decode cX1_filter 317 = .ok (.if_icmp .ne 73, 3) := by decide +kernel
theorem dX1_filter_320 : decode cX1_filter 320 = .ok (.aload_n 0, 1) := by decide +kernel
theorem dX1_filter_321 : decode cX1_filter 321 = .ok (.dup, 1) := by decide +kernel
theorem dX1_filter_322 : decode cX1_filter 322 = .ok (.getfield 276, 3) := by decide +kernel
theorem dX1_filter_325 : decode cX1_filter 325 = .ok (.iconst 1, 1) := by decide +kernel
theorem dX1_filter_326 : decode cX1_filter 326 = .ok (.iadd, 1) := by decide +kernel
theorem dX1_filter_327 : decode cX1_filter 327 = .ok (.putfield 276, 3) := by decide +kernel
theorem dX1_filter_330 : decode cX1_filter 330 = .ok (.aload_n 0, 1) := by decide +kernel
theorem dX1_filter_331 : decode cX1_filter 331 = .ok (.getfield 197, 3) := by decide +kernel
theorem dX1_filter_334 : decode cX1_filter 334 = .ok (.iload_n 2, 1) := by decide +kernel
theorem dX1_filter_335 : decode cX1_filter 335 = .ok (.iconst 3, 1) := by decide +kernel
theorem dX1_filter_336 : decode cX1_filter 336 = .ok (.iastore, 1) := by decide +kernel
theorem dX1_filter_337 : decode cX1_filter 337 = .ok (.aload_n 0, 1) := by decide +kernel
theorem dX1_filter_338 : decode cX1_filter 338 = .ok (.iload_n 2, 1) := by decide +kernel
theorem dX1_filter_339 : decode cX1_filter 339 = .ok (.invokevirtual 564, 3) := by decide +kernel
theorem dX1_filter_342 : decode cX1_filter 342 = .ok (.goto 48, 3) := by decide +kernel
theorem dX1_filter_345 : decode cX1_filter 345 = .ok (.aload_n 0, 1) := by decide +kernel
theorem dX1_filter_346 : decode cX1_filter 346 = .ok (.ldc2_w 567, 3) := by decide +kernel
theorem dX1_filter_349 : decode cX1_filter 349 = .ok (.iconst 2, 1) := by decide +kernel
theorem dX1_filter_350 : decode cX1_filter 350 = .ok (.invokevirtual 285, 3) := by decide +kernel
theorem dX1_filter_353 : decode cX1_filter 353 = .ok (.ifCond .eq 28, 3) := by decide +kernel
theorem dX1_filter_356 : decode cX1_filter 356 = .ok (.aload_n 0, 1) := by decide +kernel
theorem dX1_filter_357 : decode cX1_filter 357 = .ok (.dup, 1) := by decide +kernel
theorem dX1_filter_358 : decode cX1_filter 358 = .ok (.getfield 276, 3) := by decide +kernel
theorem dX1_filter_361 : decode cX1_filter 361 = .ok (.iconst 2, 1) := by decide +kernel
theorem dX1_filter_362 : decode cX1_filter 362 = .ok (.iadd, 1) := by decide +kernel
theorem dX1_filter_363 : decode cX1_filter 363 = .ok (.putfield 276, 3) := by decide +kernel
theorem dX1_filter_366 : decode cX1_filter 366 = .ok (.aload_n 0, 1) := by decide +kernel
theorem dX1_filter_367 : decode cX1_filter 367 = .ok (.getfield 197, 3) := by decide +kernel
theorem dX1_filter_370 : decode cX1_filter 370 = .ok (.iload_n 2, 1) := by decide +kernel
theorem dX1_filter_371 : decode cX1_filter 371 = .ok (.iconst 4, 1) := by decide +kernel
theorem dX1_filter_372 : decode cX1_filter 372 = .ok (.iastore, 1) := by decide +kernel
theorem dX1_filter_373 : decode cX1_filter 373 = .ok (.aload_n 0, 1) := by decide +kernel
theorem dX1_filter_374 : decode cX1_filter 374 = .ok (.iload_n 2, 1) := by decide +kernel
theorem dX1_filter_375 : decode cX1_filter 375 = .ok (.invokevirtual 564, 3) := by decide +kernel
theorem dX1_filter_378 : decode cX1_filter 378 = .ok (.goto 12, 3) := by decide +kernel
theorem dX1_filter_381 : decode cX1_filter 381 = .ok (.aload_n 0, 1) := by decide +kernel
theorem dX1_filter_382 : decode cX1_filter 382 = .ok (.iconst (-1), 1) := by decide +kernel
theorem dX1_filter_383 : decode cX1_filter 383 = .ok (.aload_n 0, 1) := by decide +kernel
theorem dX1_filter_384 : decode cX1_filter 384 = .ok (.getfield 276, 3) := by decide +kernel
theorem dX1_filter_387 : decode cX1_filter 387 = .ok (.invokevirtual 293, 3) := by decide +kernel
theorem dX1_filter_390 : decode cX1_filter 390 = .ok (.aload_n 0, 1) := by decide +kernel
theorem dX1_filter_391 : decode cX1_filter 391 = .ok (.bipush 93, 2) := by decide +kernel
theorem dX1_filter_393 : decode cX1_filter 393 = .ok (.invokevirtual 340, 3) := by decide +kernel
theorem dX1_filter_396 : decode cX1_filter 396 = .ok (.istore_n 3, 1) := by decide +kernel
theorem dX1_filter_397 : decode cX1_filter 397 = .ok (.return_, 1) := by decide +kernel
def m_filter_269 (σ : MEM) (x2 s1 s2 : Int) : Option zm_O := ck (inR (s1 + s2)) (nu (mup σ (-1) 4 (s1 + s2)) (fun σ2 => bd (m_takeName σ2) (fun r3 σ4 => ck (0 ≤ x2 ∧ x2 < 48) (nu (mup σ4 79 x2 r3) (fun σ6 => ck (0 ≤ x2 ∧ x2 < 48) (nu (mup σ6 80 x2 (σ6 (-1) 51)) (fun σ8 => ck (0 ≤ x2 ∧ x2 < 48) (nu (mup σ8 78 x2 2) (fun σ9 => bd (m_isGood σ9) (fun r10 σ11 => if r10 = 0 then (bd (m_passes σ11 93) (fun r13 σ14 => some (0, σ14))) else (bd (m_octet σ11 (σ11 (-1) 4)) (fun r17 σ18 => if r17 = 61 then (ck (inR ((σ18 (-1) 4) + 1)) (nu (mup σ18 (-1) 4 ((σ18 (-1) 4) + 1)) (fun σ22 => ck (0 ≤ x2 ∧ x2 < 48) (nu (mup σ22 78 x2 3) (fun σ23 => bd (m_quoted σ23 x2) (fun _ σ24 => bd (m_passes σ24 93) (fun r25 σ26 => some (0, σ26)))))))) else (bd (m_passes σ18 93) (fun r28 σ29 => some (0, σ29)))))))))))))))
theorem w_filter_269 {C : zv_Cx zm_O} {G : zm_G} (h : zv_Ok C cX1_filter RX1) (hc : zm_C C G 5 (Option.none : Option FieldType) 0 4 86) (σ : MEM) (x2 s1 s2 : Int) (hx2 : inR x2) (hs1 : inR s1) (hs2 : isB s2) : VV C (m_filter_269 σ x2 s1 s2) σ [(0, .ref (zm_h G)), (2, iv x2)] [iv s2, iv s1, .ref (zm_h G)] 269 := by
  have hN : ∀ i, i < 5 → i < zv_n C := fun i q => by rw [hc.2.2.1]; exact q
  unfold m_filter_269
  refine r_iadd h dX1_filter_269 ?_
  refine r_ck (fun hk1 => ?_)
  refine zm_putI h hc 4 4 (by decide) rfl rfl q1484 ⟨rfl, rfl, by decide +kernel⟩ hk1 dX1_filter_270 (fun σ2 _ => ?_)
  refine r_aload_n h 0 dX1_filter_273 rfl rfl ?_
  refine zm_getA h hc 79 (by decide) rfl q1558 rfl dX1_filter_274 ?_
  refine r_iload_n h 1 dX1_filter_277 rfl rfl ?_
  refine r_aload_n h 0 dX1_filter_278 rfl rfl ?_
  refine zm_cVi h hc (n := 0) (As := []) (fun o1 e1 => w_takeName hc.1 _ o1 e1) q1858 q1860 qs67 q136 q1861 (by decide +kernel) ⟨by decide, by decide⟩ rfl (Nat.le_of_ble_eq_true rfl) rfl dX1_filter_279 (fun r3 σ4 hr5 => ?_)
  refine zm_stI h hc 79 79 48 (by decide) rfl rfl rfl (by decide) hr5 dX1_filter_282 (fun _ σ6 _ => ?_)
  refine r_aload_n h 0 dX1_filter_283 rfl rfl ?_
  refine zm_getA h hc 80 (by decide) rfl q1559 rfl dX1_filter_284 ?_
  refine r_iload_n h 1 dX1_filter_287 rfl rfl ?_
  refine r_aload_n h 0 dX1_filter_288 rfl rfl ?_
  refine zm_getI h hc 51 51 (by decide) rfl rfl q1531 rfl dX1_filter_289 (fun hr7 => ?_)
  refine zm_stI h hc 80 80 48 (by decide) rfl rfl rfl (by decide) hr7 dX1_filter_292 (fun _ σ8 _ => ?_)
  refine r_aload_n h 0 dX1_filter_293 rfl rfl ?_
  refine zm_getA h hc 78 (by decide) rfl q1557 rfl dX1_filter_294 ?_
  refine r_iload_n h 1 dX1_filter_297 rfl rfl ?_
  refine r_iconst h dX1_filter_298 ?_
  refine zm_stI h hc 78 78 48 (by decide) rfl rfl rfl (by decide) (by decide) dX1_filter_299 (fun _ σ9 _ => ?_)
  refine r_aload_n h 0 dX1_filter_300 rfl rfl ?_
  refine zm_cVz h hc (n := 0) (As := []) (fun o1 e1 => w_isGood hc.1 _ o1 e1) q1801 q1803 qs56 q136 q1804 (by decide +kernel) ⟨by decide, by decide⟩ rfl (Nat.le_of_ble_eq_true rfl) rfl dX1_filter_301 (fun r10 σ11 hr12 => ?_)
  refine r_if_eq h hr12.r 390 dX1_filter_304 rfl ?_ ?_
  · refine r_aload_n h 0 dX1_filter_390 rfl rfl ?_
    refine r_bipush h dX1_filter_391 (by decide) ?_
    refine zm_cVz h hc (n := 1) (As := [iv 93]) (fun o1 e1 => w_passes hc.1 _ 93 (by decide) o1 e1) q1840 q1842 qs63 q136 q1843 (by decide +kernel) ⟨by decide, by decide⟩ rfl (Nat.le_of_ble_eq_true rfl) rfl dX1_filter_393 (fun r13 σ14 hr15 => ?_)
    refine r_istore_n (lv' := [(3, iv r13), (0, .ref (zm_h G)), (2, iv x2)]) h dX1_filter_396 rfl (hN _ (by decide)) rfl ?_
    exact zm_vret h hc rfl dX1_filter_397
  · refine r_aload_n h 0 dX1_filter_307 rfl rfl ?_
    refine r_aload_n h 0 dX1_filter_308 rfl rfl ?_
    refine zm_getI h hc 4 4 (by decide) rfl rfl q1484 rfl dX1_filter_309 (fun hr16 => ?_)
    refine zm_cVi h hc (n := 1) (As := [iv (σ11 (-1) 4)]) (fun o1 e1 => w_octet hc.1 _ (σ11 (-1) 4) hr16 o1 e1) q1817 q1819 qs60 q136 q1820 (by decide +kernel) ⟨by decide, by decide⟩ rfl (Nat.le_of_ble_eq_true rfl) rfl dX1_filter_312 (fun r17 σ18 hr19 => ?_)
    refine r_bipush h dX1_filter_315 (by decide) ?_
    refine r_icmp_ne h hr19 (by decide) 390 dX1_filter_317 rfl ?_ ?_
    · refine r_aload_n h 0 dX1_filter_320 rfl rfl ?_
      refine r_dup h dX1_filter_321 rfl ?_
      refine zm_getI h hc 4 4 (by decide) rfl rfl q1484 rfl dX1_filter_322 (fun hr20 => ?_)
      refine r_iconst h dX1_filter_325 ?_
      refine r_iadd h dX1_filter_326 ?_
      refine r_ck (fun hk21 => ?_)
      refine zm_putI h hc 4 4 (by decide) rfl rfl q1484 ⟨rfl, rfl, by decide +kernel⟩ hk21 dX1_filter_327 (fun σ22 _ => ?_)
      refine r_aload_n h 0 dX1_filter_330 rfl rfl ?_
      refine zm_getA h hc 78 (by decide) rfl q1557 rfl dX1_filter_331 ?_
      refine r_iload_n h 1 dX1_filter_334 rfl rfl ?_
      refine r_iconst h dX1_filter_335 ?_
      refine zm_stI h hc 78 78 48 (by decide) rfl rfl rfl (by decide) (by decide) dX1_filter_336 (fun _ σ23 _ => ?_)
      refine r_aload_n h 0 dX1_filter_337 rfl rfl ?_
      refine r_iload_n h 1 dX1_filter_338 rfl rfl ?_
      refine zm_cVv h hc (n := 1) (As := [iv x2]) (fun o1 e1 => w_quoted hc.1 _ x2 hx2 o1 e1) q2076 q2078 qs111 q136 q2079 (by decide +kernel) ⟨by decide, by decide⟩ rfl (Nat.le_of_ble_eq_true rfl) rfl dX1_filter_339 (fun σ24  => ?_)
      refine r_goto h 390 dX1_filter_342 rfl ?_
      refine r_aload_n h 0 dX1_filter_390 rfl rfl ?_
      refine r_bipush h dX1_filter_391 (by decide) ?_
      refine zm_cVz h hc (n := 1) (As := [iv 93]) (fun o1 e1 => w_passes hc.1 _ 93 (by decide) o1 e1) q1840 q1842 qs63 q136 q1843 (by decide +kernel) ⟨by decide, by decide⟩ rfl (Nat.le_of_ble_eq_true rfl) rfl dX1_filter_393 (fun r25 σ26 hr27 => ?_)
      refine r_istore_n (lv' := [(3, iv r25), (0, .ref (zm_h G)), (2, iv x2)]) h dX1_filter_396 rfl (hN _ (by decide)) rfl ?_
      exact zm_vret h hc rfl dX1_filter_397
    · refine r_aload_n h 0 dX1_filter_390 rfl rfl ?_
      refine r_bipush h dX1_filter_391 (by decide) ?_
      refine zm_cVz h hc (n := 1) (As := [iv 93]) (fun o1 e1 => w_passes hc.1 _ 93 (by decide) o1 e1) q1840 q1842 qs63 q136 q1843 (by decide +kernel) ⟨by decide, by decide⟩ rfl (Nat.le_of_ble_eq_true rfl) rfl dX1_filter_393 (fun r28 σ29 hr30 => ?_)
      refine r_istore_n (lv' := [(3, iv r28), (0, .ref (zm_h G)), (2, iv x2)]) h dX1_filter_396 rfl (hN _ (by decide)) rfl ?_
      exact zm_vret h hc rfl dX1_filter_397
def m_filter_245 (σ : MEM) (x2 s1 s2 : Int) : Option zm_O := ck (0 ≤ s1 ∧ s1 < 48) (nu (mup σ 81 s1 s2) (fun σ1 => bd (m_octet σ1 (σ1 (-1) 4)) (fun r4 σ5 => if r4 = 64 then (m_filter_269 σ5 x2 (σ1 (-1) 4) 1) else (m_filter_269 σ5 x2 (σ1 (-1) 4) 0))))
theorem w_filter_245 {C : zv_Cx zm_O} {G : zm_G} (h : zv_Ok C cX1_filter RX1) (hc : zm_C C G 5 (Option.none : Option FieldType) 0 4 86) (σ : MEM) (x2 s1 s2 : Int) (hx2 : inR x2) (hs1 : inR s1) (hs2 : isB s2) : VV C (m_filter_245 σ x2 s1 s2) σ [(0, .ref (zm_h G)), (2, iv x2)] [iv s2, iv s1, .ref (zm_al G 81)] 245 := by
  have hN : ∀ i, i < 5 → i < zv_n C := fun i q => by rw [hc.2.2.1]; exact q
  unfold m_filter_245
  refine zm_stZ h hc 81 81 48 (by decide) rfl rfl rfl (by decide) hs2 dX1_filter_245 (fun _ σ1 _ => ?_)
  refine r_aload_n h 0 dX1_filter_246 rfl rfl ?_
  refine r_dup h dX1_filter_247 rfl ?_
  refine zm_getI h hc 4 4 (by decide) rfl rfl q1484 rfl dX1_filter_248 (fun hr2 => ?_)
  refine r_aload_n h 0 dX1_filter_251 rfl rfl ?_
  refine r_aload_n h 0 dX1_filter_252 rfl rfl ?_
  refine zm_getI h hc 4 4 (by decide) rfl rfl q1484 rfl dX1_filter_253 (fun hr3 => ?_)
  refine zm_cVi h hc (n := 1) (As := [iv (σ1 (-1) 4)]) (fun o1 e1 => w_octet hc.1 _ (σ1 (-1) 4) hr3 o1 e1) q1817 q1819 qs60 q136 q1820 (by decide +kernel) ⟨by decide, by decide⟩ rfl (Nat.le_of_ble_eq_true rfl) rfl dX1_filter_256 (fun r4 σ5 hr6 => ?_)
  refine r_bipush h dX1_filter_259 (by decide) ?_
  refine r_icmp_ne h hr6 (by decide) 268 dX1_filter_261 rfl ?_ ?_
  · refine r_iconst h dX1_filter_264 ?_
    refine r_goto h 269 dX1_filter_265 rfl ?_
    exact r_lv [0, 1] rfl (w_filter_269 h hc _ x2 (σ1 (-1) 4) 1 hx2 hr2 (by decide))
  · refine r_iconst h dX1_filter_268 ?_
    exact r_lv [0, 1] rfl (w_filter_269 h hc _ x2 (σ1 (-1) 4) 0 hx2 hr2 (by decide))
def m_filter_222 (σ : MEM) (x2 : Int) : Option zm_O := bd (m_octet σ (σ (-1) 4)) (fun r2 σ3 => if r2 = 64 then (m_filter_245 σ3 x2 x2 1) else (m_filter_245 σ3 x2 x2 0))
theorem w_filter_222 {C : zv_Cx zm_O} {G : zm_G} (h : zv_Ok C cX1_filter RX1) (hc : zm_C C G 5 (Option.none : Option FieldType) 0 4 86) (σ : MEM) (x2 : Int) (hx2 : inR x2) : VV C (m_filter_222 σ x2) σ [(0, .ref (zm_h G)), (2, iv x2)] [] 222 := by
  have hN : ∀ i, i < 5 → i < zv_n C := fun i q => by rw [hc.2.2.1]; exact q
  unfold m_filter_222
  refine r_aload_n h 0 dX1_filter_222 rfl rfl ?_
  refine zm_getA h hc 81 (by decide) rfl q1560 rfl dX1_filter_223 ?_
  refine r_iload_n h 1 dX1_filter_226 rfl rfl ?_
  refine r_aload_n h 0 dX1_filter_227 rfl rfl ?_
  refine r_aload_n h 0 dX1_filter_228 rfl rfl ?_
  refine zm_getI h hc 4 4 (by decide) rfl rfl q1484 rfl dX1_filter_229 (fun hr1 => ?_)
  refine zm_cVi h hc (n := 1) (As := [iv (σ (-1) 4)]) (fun o1 e1 => w_octet hc.1 _ (σ (-1) 4) hr1 o1 e1) q1817 q1819 qs60 q136 q1820 (by decide +kernel) ⟨by decide, by decide⟩ rfl (Nat.le_of_ble_eq_true rfl) rfl dX1_filter_232 (fun r2 σ3 hr4 => ?_)
  refine r_bipush h dX1_filter_235 (by decide) ?_
  refine r_icmp_ne h hr4 (by decide) 244 dX1_filter_237 rfl ?_ ?_
  · refine r_iconst h dX1_filter_240 ?_
    refine r_goto h 245 dX1_filter_241 rfl ?_
    exact r_lv [0, 1] rfl (w_filter_245 h hc _ x2 x2 1 hx2 hx2 (by decide))
  · refine r_iconst h dX1_filter_244 ?_
    exact r_lv [0, 1] rfl (w_filter_245 h hc _ x2 x2 0 hx2 hx2 (by decide))
def m_filter_145 (σ : MEM) (x2 x3 : Int) : Option zm_O := ck (0 ≤ x2 ∧ x2 < 48) (nu (mup σ 78 x2 0) (fun σ1 => ck (0 ≤ x2 ∧ x2 < 48) (nu (mup σ1 79 x2 x3) (fun σ2 => bd (m_passes σ2 93) (fun r3 σ4 => some (0, σ4))))))
theorem w_filter_145 {C : zv_Cx zm_O} {G : zm_G} (h : zv_Ok C cX1_filter RX1) (hc : zm_C C G 5 (Option.none : Option FieldType) 0 4 86) (σ : MEM) (x2 x3 : Int) (hx2 : inR x2) (hx3 : inR x3) : VV C (m_filter_145 σ x2 x3) σ [(0, .ref (zm_h G)), (2, iv x2), (3, iv x3)] [] 145 := by
  have hN : ∀ i, i < 5 → i < zv_n C := fun i q => by rw [hc.2.2.1]; exact q
  unfold m_filter_145
  refine r_aload_n h 0 dX1_filter_145 rfl rfl ?_
  refine zm_getA h hc 78 (by decide) rfl q1557 rfl dX1_filter_146 ?_
  refine r_iload_n h 1 dX1_filter_149 rfl rfl ?_
  refine r_iconst h dX1_filter_150 ?_
  refine zm_stI h hc 78 78 48 (by decide) rfl rfl rfl (by decide) (by decide) dX1_filter_151 (fun _ σ1 _ => ?_)
  refine r_aload_n h 0 dX1_filter_152 rfl rfl ?_
  refine zm_getA h hc 79 (by decide) rfl q1558 rfl dX1_filter_153 ?_
  refine r_iload_n h 1 dX1_filter_156 rfl rfl ?_
  refine r_iload_n h 2 dX1_filter_157 rfl rfl ?_
  refine zm_stI h hc 79 79 48 (by decide) rfl rfl rfl (by decide) hx3 dX1_filter_158 (fun _ σ2 _ => ?_)
  refine r_goto h 390 dX1_filter_159 rfl ?_
  refine r_aload_n h 0 dX1_filter_390 rfl rfl ?_
  refine r_bipush h dX1_filter_391 (by decide) ?_
  refine zm_cVz h hc (n := 1) (As := [iv 93]) (fun o1 e1 => w_passes hc.1 _ 93 (by decide) o1 e1) q1840 q1842 qs63 q136 q1843 (by decide +kernel) ⟨by decide, by decide⟩ rfl (Nat.le_of_ble_eq_true rfl) rfl dX1_filter_393 (fun r3 σ4 hr5 => ?_)
  refine r_istore_n (lv' := [(3, iv r3), (0, .ref (zm_h G)), (2, iv x2)]) h dX1_filter_396 rfl (hN _ (by decide)) rfl ?_
  exact zm_vret h hc rfl dX1_filter_397
def m_filter_85 : Nat → MEM → Int → Int → Int → Option zm_O
  | 0, _, _, _, _ => none
  | n + 1, σ, x2, x3, x4 => if 4 ≤ x4 then (m_filter_145 σ x2 x3) else (bd (m_octet σ (σ (-1) 4)) (fun r2 σ3 => bd (m_in σ3 r2 48 57) (fun r5 σ6 => if r5 = 0 then (m_filter_145 σ6 x2 x3) else (bd (m_octet σ6 (σ6 (-1) 4)) (fun r9 σ10 => ck (inR ((σ10 (-1) 4) + 1)) (nu (mup σ10 (-1) 4 ((σ10 (-1) 4) + 1)) (fun σ14 => ck (inR (((10 * x3) + r9) - 48)) (ck (inR (x4 + 1)) (m_filter_85 n σ14 x2 (((10 * x3) + r9) - 48) (x4 + 1))))))))))
theorem w_filter_85 {C : zv_Cx zm_O} {G : zm_G} (h : zv_Ok C cX1_filter RX1) (hc : zm_C C G 5 (Option.none : Option FieldType) 0 4 86) : ∀ (n : Nat) (σ : MEM) (x2 x3 x4 : Int), inR x2 → inR x3 → inR x4 → VV C (m_filter_85 n σ x2 x3 x4) σ [(0, .ref (zm_h G)), (2, iv x2), (3, iv x3), (4, iv x4)] [] 85 := by
  have hN : ∀ i, i < 5 → i < zv_n C := fun i q => by rw [hc.2.2.1]; exact q
  intro n
  induction n with
  | zero => intros; exact r_none
  | succ n ih =>
    intro σ x2 x3 x4 hx2 hx3 hx4
    rw [m_filter_85]
    refine r_iload h 3 dX1_filter_85 rfl ?_
    refine r_iconst h dX1_filter_87 ?_
    refine r_icmp_ge h hx4 (by decide) 145 dX1_filter_88 rfl ?_ ?_
    · exact r_lv [0, 1, 2] rfl (w_filter_145 h hc _ x2 x3 hx2 hx3)
    · refine r_aload_n h 0 dX1_filter_91 rfl rfl ?_
      refine r_aload_n h 0 dX1_filter_92 rfl rfl ?_
      refine zm_getI h hc 4 4 (by decide) rfl rfl q1484 rfl dX1_filter_93 (fun hr1 => ?_)
      refine zm_cVi h hc (n := 1) (As := [iv (σ (-1) 4)]) (fun o1 e1 => w_octet hc.1 _ (σ (-1) 4) hr1 o1 e1) q1817 q1819 qs60 q136 q1820 (by decide +kernel) ⟨by decide, by decide⟩ rfl (Nat.le_of_ble_eq_true rfl) rfl dX1_filter_96 (fun r2 σ3 hr4 => ?_)
      refine r_i2l h hr4 dX1_filter_99 ?_
      refine r_ldc2 (x := 48) h q1872 (by decide) dX1_filter_100 ?_
      refine r_ldc2 (x := 57) h q1873 (by decide) dX1_filter_103 ?_
      refine zm_cSz h hc (n := 3) (As := [jv r2, jv 48, jv 57]) (fun o1 e1 => w_in hc.1 _ r2 48 57 hr4.l (by decide) (by decide) o1 e1) q1790 q1791 q136 q1792 (by decide +kernel) ⟨by decide, by decide⟩ rfl (Nat.le_of_ble_eq_true rfl) rfl dX1_filter_106 (fun r5 σ6 hr7 => ?_)
      refine r_if_eq h hr7.r 145 dX1_filter_109 rfl ?_ ?_
      · exact r_lv [0, 1, 2] rfl (w_filter_145 h hc _ x2 x3 hx2 hx3)
      · refine r_bipush h dX1_filter_112 (by decide) ?_
        refine r_iload_n h 2 dX1_filter_114 rfl rfl ?_
        refine r_imul h dX1_filter_115 ?_
        refine r_aload_n h 0 dX1_filter_116 rfl rfl ?_
        refine r_aload_n h 0 dX1_filter_117 rfl rfl ?_
        refine zm_getI h hc 4 4 (by decide) rfl rfl q1484 rfl dX1_filter_118 (fun hr8 => ?_)
        refine zm_cVi h hc (n := 1) (As := [iv (σ6 (-1) 4)]) (fun o1 e1 => w_octet hc.1 _ (σ6 (-1) 4) hr8 o1 e1) q1817 q1819 qs60 q136 q1820 (by decide +kernel) ⟨by decide, by decide⟩ rfl (Nat.le_of_ble_eq_true rfl) rfl dX1_filter_121 (fun r9 σ10 hr11 => ?_)
        refine r_iadd h dX1_filter_124 ?_
        refine r_bipush h dX1_filter_125 (by decide) ?_
        refine r_isub h dX1_filter_127 ?_
        refine r_istore_n (lv' := [(3, iv (((10 * x3) + r9) - 48)), (0, .ref (zm_h G)), (2, iv x2), (4, iv x4)]) h dX1_filter_128 rfl (hN _ (by decide)) rfl ?_
        refine r_aload_n h 1 dX1_filter_129 rfl rfl ?_
        refine r_dup h dX1_filter_130 rfl ?_
        refine zm_getI h hc 4 4 (by decide) rfl rfl q1484 rfl dX1_filter_131 (fun hr12 => ?_)
        refine r_iconst h dX1_filter_134 ?_
        refine r_iadd h dX1_filter_135 ?_
        refine r_ck (fun hk13 => ?_)
        refine zm_putI h hc 4 4 (by decide) rfl rfl q1484 ⟨rfl, rfl, by decide +kernel⟩ hk13 dX1_filter_136 (fun σ14 _ => ?_)
        refine r_iinc (lv' := [(4, iv (x4 + 1)), (3, iv (((10 * x3) + r9) - 48)), (0, .ref (zm_h G)), (2, iv x2)]) h 3 dX1_filter_139 rfl (hN _ (by decide)) rfl ?_
        refine r_goto h 85 dX1_filter_142 rfl ?_
        refine r_ck (fun hk15 => ?_)
        refine r_ck (fun hk16 => ?_)
        exact r_lv [2, 3, 1, 0] rfl (ih _ x2 (((10 * x3) + r9) - 48) (x4 + 1) hx2 hk15 hk16)
def m_filter (σ : MEM) (a0 : Int) : Option zm_O := ck (0 ≤ a0 ∧ a0 < 12) (if (σ 77 a0) = 4 then (bd (m_fail σ (-3) (σ (-1) 4)) (fun _ σ3 => some (0, σ3))) else (ck (inR ((σ (-1) 4) + 1)) (nu (mup σ (-1) 4 ((σ (-1) 4) + 1)) (fun σ6 => ck (0 ≤ a0 ∧ a0 < 12) (ck (0 ≤ a0 ∧ a0 < 12) (ck (inR ((σ6 77 a0) + 1)) (ck (0 ≤ a0 ∧ a0 < 12) (nu (mup σ6 77 a0 ((σ6 77 a0) + 1)) (fun σ10 => ck (0 ≤ ((4 * a0) + (σ6 77 a0)) ∧ ((4 * a0) + (σ6 77 a0)) < 48) (nu (mup σ10 81 ((4 * a0) + (σ6 77 a0)) 0) (fun σ11 => bd (m_octet σ11 (σ11 (-1) 4)) (fun r13 σ14 => bd (m_in σ14 r13 48 57) (fun r16 σ17 => if r16 = 0 then (bd (m_stands σ17 119165804619817 6) (fun r19 σ20 => if r19 = 0 then (bd (m_octet σ20 (σ20 (-1) 4)) (fun r23 σ24 => if r23 = 64 then (ck (inR ((4 * a0) + (σ6 77 a0))) (m_filter_222 σ24 ((4 * a0) + (σ6 77 a0)))) else (bd (m_octet σ24 (σ24 (-1) 4)) (fun r28 σ29 => bd (m_isFirst σ29 r28) (fun r31 σ32 => if r31 = 0 then (bd (m_stands σ32 11837 2) (fun r34 σ35 => if r34 = 0 then (bd (m_fail σ35 (-1) (σ35 (-1) 4)) (fun _ σ38 => bd (m_passes σ38 93) (fun r39 σ40 => some (0, σ40)))) else (ck (inR ((σ35 (-1) 4) + 2)) (nu (mup σ35 (-1) 4 ((σ35 (-1) 4) + 2)) (fun σ44 => ck (0 ≤ ((4 * a0) + (σ6 77 a0)) ∧ ((4 * a0) + (σ6 77 a0)) < 48) (nu (mup σ44 78 ((4 * a0) + (σ6 77 a0)) 4) (fun σ45 => ck (inR ((4 * a0) + (σ6 77 a0))) (bd (m_quoted σ45 ((4 * a0) + (σ6 77 a0))) (fun _ σ47 => bd (m_passes σ47 93) (fun r48 σ49 => some (0, σ49))))))))))) else (ck (inR ((4 * a0) + (σ6 77 a0))) (m_filter_222 σ32 ((4 * a0) + (σ6 77 a0))))))))) else (ck (inR ((σ20 (-1) 4) + 6)) (nu (mup σ20 (-1) 4 ((σ20 (-1) 4) + 6)) (fun σ54 => ck (0 ≤ ((4 * a0) + (σ6 77 a0)) ∧ ((4 * a0) + (σ6 77 a0)) < 48) (nu (mup σ54 78 ((4 * a0) + (σ6 77 a0)) 1) (fun σ55 => bd (m_passes σ55 93) (fun r56 σ57 => some (0, σ57))))))))) else (ck (inR ((4 * a0) + (σ6 77 a0))) (m_filter_85 zF σ17 ((4 * a0) + (σ6 77 a0)) 0 0)))))))))))))))
theorem w_filter {G : zm_G} (hD : zm_D G) (σ : MEM) (a0 : Int) (ha0 : inR a0) (o : zm_O) (hd : m_filter σ a0 = some o) : zm_Met G yX1_filter cX1_filter 5 (Option.none : Option FieldType) 0 4 86 σ [.ref (zm_h G), iv a0] o := by
  refine zm_intro hD hd (by decide) rfl (Nat.le_of_ble_eq_true rfl) rfl (fun C h hc => ?_)
  have hN : ∀ i, i < 5 → i < zv_n C := fun i q => by rw [hc.2.2.1]; exact q
  unfold m_filter
  refine r_aload_n h 0 dX1_filter_0 rfl rfl ?_
  refine zm_getA h hc 77 (by decide) rfl q1556 rfl dX1_filter_1 ?_
  refine r_iload_n h 1 dX1_filter_4 rfl rfl ?_
  refine zm_ldI h hc 77 77 12 (by decide) rfl rfl rfl (by decide) dX1_filter_5 (fun _ hr1 => ?_)
  refine r_iconst h dX1_filter_6 ?_
  refine r_icmp_ne h hr1 (by decide) 21 dX1_filter_7 rfl ?_ ?_
  · refine r_aload_n h 0 dX1_filter_10 rfl rfl ?_
    refine r_bipush h dX1_filter_11 (by decide) ?_
    refine r_aload_n h 0 dX1_filter_13 rfl rfl ?_
    refine zm_getI h hc 4 4 (by decide) rfl rfl q1484 rfl dX1_filter_14 (fun hr2 => ?_)
    refine zm_cVv h hc (n := 2) (As := [iv (-3), iv (σ (-1) 4)]) (fun o1 e1 => w_fail hc.1 _ (-3) (σ (-1) 4) (by decide) hr2 o1 e1) q1805 q1807 qs57 q136 q1808 (by decide +kernel) ⟨by decide, by decide⟩ rfl (Nat.le_of_ble_eq_true rfl) rfl dX1_filter_17 (fun σ3  => ?_)
    exact zm_vret h hc rfl dX1_filter_20
  · refine r_aload_n h 0 dX1_filter_21 rfl rfl ?_
    refine r_dup h dX1_filter_22 rfl ?_
    refine zm_getI h hc 4 4 (by decide) rfl rfl q1484 rfl dX1_filter_23 (fun hr4 => ?_)
    refine r_iconst h dX1_filter_26 ?_
    refine r_iadd h dX1_filter_27 ?_
    refine r_ck (fun hk5 => ?_)
    refine zm_putI h hc 4 4 (by decide) rfl rfl q1484 ⟨rfl, rfl, by decide +kernel⟩ hk5 dX1_filter_28 (fun σ6 _ => ?_)
    refine r_iconst h dX1_filter_31 ?_
    refine r_iload_n h 1 dX1_filter_32 rfl rfl ?_
    refine r_imul h dX1_filter_33 ?_
    refine r_aload_n h 0 dX1_filter_34 rfl rfl ?_
    refine zm_getA h hc 77 (by decide) rfl q1556 rfl dX1_filter_35 ?_
    refine r_iload_n h 1 dX1_filter_38 rfl rfl ?_
    refine zm_ldI h hc 77 77 12 (by decide) rfl rfl rfl (by decide) dX1_filter_39 (fun _ hr7 => ?_)
    refine r_iadd h dX1_filter_40 ?_
    refine r_istore_n (lv' := [(2, iv ((4 * a0) + (σ6 77 a0))), (0, .ref (zm_h G)), (1, iv a0)]) h dX1_filter_41 rfl (hN _ (by decide)) rfl ?_
    refine r_aload_n h 1 dX1_filter_42 rfl rfl ?_
    refine zm_getA h hc 77 (by decide) rfl q1556 rfl dX1_filter_43 ?_
    refine r_iload_n h 2 dX1_filter_46 rfl rfl ?_
    refine r_dup2 h dX1_filter_47 rfl rfl ?_
    refine zm_ldI h hc 77 77 12 (by decide) rfl rfl rfl (by decide) dX1_filter_48 (fun _ hr8 => ?_)
    refine r_iconst h dX1_filter_49 ?_
    refine r_iadd h dX1_filter_50 ?_
    refine r_ck (fun hk9 => ?_)
    refine zm_stI h hc 77 77 12 (by decide) rfl rfl rfl (by decide) hk9 dX1_filter_51 (fun _ σ10 _ => ?_)
    refine r_aload_n h 1 dX1_filter_52 rfl rfl ?_
    refine zm_getA h hc 81 (by decide) rfl q1560 rfl dX1_filter_53 ?_
    refine r_iload_n h 0 dX1_filter_56 rfl rfl ?_
    refine r_iconst h dX1_filter_57 ?_
    refine zm_stZ h hc 81 81 48 (by decide) rfl rfl rfl (by decide) (by decide) dX1_filter_58 (fun _ σ11 _ => ?_)
    refine r_aload_n h 1 dX1_filter_59 rfl rfl ?_
    refine r_aload_n h 1 dX1_filter_60 rfl rfl ?_
    refine zm_getI h hc 4 4 (by decide) rfl rfl q1484 rfl dX1_filter_61 (fun hr12 => ?_)
    refine zm_cVi h hc (n := 1) (As := [iv (σ11 (-1) 4)]) (fun o1 e1 => w_octet hc.1 _ (σ11 (-1) 4) hr12 o1 e1) q1817 q1819 qs60 q136 q1820 (by decide +kernel) ⟨by decide, by decide⟩ rfl (Nat.le_of_ble_eq_true rfl) rfl dX1_filter_64 (fun r13 σ14 hr15 => ?_)
    refine r_i2l h hr15 dX1_filter_67 ?_
    refine r_ldc2 (x := 48) h q1872 (by decide) dX1_filter_68 ?_
    refine r_ldc2 (x := 57) h q1873 (by decide) dX1_filter_71 ?_
    refine zm_cSz h hc (n := 3) (As := [jv r13, jv 48, jv 57]) (fun o1 e1 => w_in hc.1 _ r13 48 57 hr15.l (by decide) (by decide) o1 e1) q1790 q1791 q136 q1792 (by decide +kernel) ⟨by decide, by decide⟩ rfl (Nat.le_of_ble_eq_true rfl) rfl dX1_filter_74 (fun r16 σ17 hr18 => ?_)
    refine r_if_eq h hr18.r 162 dX1_filter_77 rfl ?_ ?_
    · refine r_aload_n h 1 dX1_filter_162 rfl rfl ?_
      refine r_ldc2 (x := 119165804619817) h q2075 (by decide) dX1_filter_163 ?_
      refine r_bipush h dX1_filter_166 (by decide) ?_
      refine zm_cVz h hc (n := 2) (As := [jv 119165804619817, iv 6]) (fun o1 e1 => w_stands hc.1 _ 119165804619817 6 (by decide) (by decide) o1 e1) q1825 q1827 qs61 q136 q1828 (by decide +kernel) ⟨by decide, by decide⟩ rfl (Nat.le_of_ble_eq_true rfl) rfl dX1_filter_168 (fun r19 σ20 hr21 => ?_)
      refine r_if_eq h hr21.r 195 dX1_filter_171 rfl ?_ ?_
      · refine r_aload_n h 1 dX1_filter_195 rfl rfl ?_
        refine r_aload_n h 1 dX1_filter_196 rfl rfl ?_
        refine zm_getI h hc 4 4 (by decide) rfl rfl q1484 rfl dX1_filter_197 (fun hr22 => ?_)
        refine zm_cVi h hc (n := 1) (As := [iv (σ20 (-1) 4)]) (fun o1 e1 => w_octet hc.1 _ (σ20 (-1) 4) hr22 o1 e1) q1817 q1819 qs60 q136 q1820 (by decide +kernel) ⟨by decide, by decide⟩ rfl (Nat.le_of_ble_eq_true rfl) rfl dX1_filter_200 (fun r23 σ24 hr25 => ?_)
        refine r_bipush h dX1_filter_203 (by decide) ?_
        refine r_icmp_eq h hr25 (by decide) 222 dX1_filter_205 rfl ?_ ?_
        · refine r_ck (fun hk26 => ?_)
          exact r_lv [1, 0] rfl (w_filter_222 h hc _ ((4 * a0) + (σ6 77 a0)) hk26)
        · refine r_aload_n h 1 dX1_filter_208 rfl rfl ?_
          refine r_aload_n h 1 dX1_filter_209 rfl rfl ?_
          refine zm_getI h hc 4 4 (by decide) rfl rfl q1484 rfl dX1_filter_210 (fun hr27 => ?_)
          refine zm_cVi h hc (n := 1) (As := [iv (σ24 (-1) 4)]) (fun o1 e1 => w_octet hc.1 _ (σ24 (-1) 4) hr27 o1 e1) q1817 q1819 qs60 q136 q1820 (by decide +kernel) ⟨by decide, by decide⟩ rfl (Nat.le_of_ble_eq_true rfl) rfl dX1_filter_213 (fun r28 σ29 hr30 => ?_)
          refine zm_cSz h hc (n := 1) (As := [iv r28]) (fun o1 e1 => w_isFirst hc.1 _ r28 hr30 o1 e1) q1862 q1863 q136 q1864 (by decide +kernel) ⟨by decide, by decide⟩ rfl (Nat.le_of_ble_eq_true rfl) rfl dX1_filter_216 (fun r31 σ32 hr33 => ?_)
          refine r_if_eq h hr33.r 345 dX1_filter_219 rfl ?_ ?_
          · refine r_aload_n h 1 dX1_filter_345 rfl rfl ?_
            refine r_ldc2 (x := 11837) h q2080 (by decide) dX1_filter_346 ?_
            refine r_iconst h dX1_filter_349 ?_
            refine zm_cVz h hc (n := 2) (As := [jv 11837, iv 2]) (fun o1 e1 => w_stands hc.1 _ 11837 2 (by decide) (by decide) o1 e1) q1825 q1827 qs61 q136 q1828 (by decide +kernel) ⟨by decide, by decide⟩ rfl (Nat.le_of_ble_eq_true rfl) rfl dX1_filter_350 (fun r34 σ35 hr36 => ?_)
            refine r_if_eq h hr36.r 381 dX1_filter_353 rfl ?_ ?_
            · refine r_aload_n h 1 dX1_filter_381 rfl rfl ?_
              refine r_iconst h dX1_filter_382 ?_
              refine r_aload_n h 1 dX1_filter_383 rfl rfl ?_
              refine zm_getI h hc 4 4 (by decide) rfl rfl q1484 rfl dX1_filter_384 (fun hr37 => ?_)
              refine zm_cVv h hc (n := 2) (As := [iv (-1), iv (σ35 (-1) 4)]) (fun o1 e1 => w_fail hc.1 _ (-1) (σ35 (-1) 4) (by decide) hr37 o1 e1) q1805 q1807 qs57 q136 q1808 (by decide +kernel) ⟨by decide, by decide⟩ rfl (Nat.le_of_ble_eq_true rfl) rfl dX1_filter_387 (fun σ38  => ?_)
              refine r_aload_n h 1 dX1_filter_390 rfl rfl ?_
              refine r_bipush h dX1_filter_391 (by decide) ?_
              refine zm_cVz h hc (n := 1) (As := [iv 93]) (fun o1 e1 => w_passes hc.1 _ 93 (by decide) o1 e1) q1840 q1842 qs63 q136 q1843 (by decide +kernel) ⟨by decide, by decide⟩ rfl (Nat.le_of_ble_eq_true rfl) rfl dX1_filter_393 (fun r39 σ40 hr41 => ?_)
              refine r_istore_n (lv' := [(3, iv r39), (2, iv ((4 * a0) + (σ6 77 a0))), (0, .ref (zm_h G)), (1, iv a0)]) h dX1_filter_396 rfl (hN _ (by decide)) rfl ?_
              exact zm_vret h hc rfl dX1_filter_397
            · refine r_aload_n h 1 dX1_filter_356 rfl rfl ?_
              refine r_dup h dX1_filter_357 rfl ?_
              refine zm_getI h hc 4 4 (by decide) rfl rfl q1484 rfl dX1_filter_358 (fun hr42 => ?_)
              refine r_iconst h dX1_filter_361 ?_
              refine r_iadd h dX1_filter_362 ?_
              refine r_ck (fun hk43 => ?_)
              refine zm_putI h hc 4 4 (by decide) rfl rfl q1484 ⟨rfl, rfl, by decide +kernel⟩ hk43 dX1_filter_363 (fun σ44 _ => ?_)
              refine r_aload_n h 1 dX1_filter_366 rfl rfl ?_
              refine zm_getA h hc 78 (by decide) rfl q1557 rfl dX1_filter_367 ?_
              refine r_iload_n h 0 dX1_filter_370 rfl rfl ?_
              refine r_iconst h dX1_filter_371 ?_
              refine zm_stI h hc 78 78 48 (by decide) rfl rfl rfl (by decide) (by decide) dX1_filter_372 (fun _ σ45 _ => ?_)
              refine r_aload_n h 1 dX1_filter_373 rfl rfl ?_
              refine r_iload_n h 0 dX1_filter_374 rfl rfl ?_
              refine r_ck (fun hk46 => ?_)
              refine zm_cVv h hc (n := 1) (As := [iv ((4 * a0) + (σ6 77 a0))]) (fun o1 e1 => w_quoted hc.1 _ ((4 * a0) + (σ6 77 a0)) hk46 o1 e1) q2076 q2078 qs111 q136 q2079 (by decide +kernel) ⟨by decide, by decide⟩ rfl (Nat.le_of_ble_eq_true rfl) rfl dX1_filter_375 (fun σ47  => ?_)
              refine r_goto h 390 dX1_filter_378 rfl ?_
              refine r_aload_n h 1 dX1_filter_390 rfl rfl ?_
              refine r_bipush h dX1_filter_391 (by decide) ?_
              refine zm_cVz h hc (n := 1) (As := [iv 93]) (fun o1 e1 => w_passes hc.1 _ 93 (by decide) o1 e1) q1840 q1842 qs63 q136 q1843 (by decide +kernel) ⟨by decide, by decide⟩ rfl (Nat.le_of_ble_eq_true rfl) rfl dX1_filter_393 (fun r48 σ49 hr50 => ?_)
              refine r_istore_n (lv' := [(3, iv r48), (2, iv ((4 * a0) + (σ6 77 a0))), (0, .ref (zm_h G)), (1, iv a0)]) h dX1_filter_396 rfl (hN _ (by decide)) rfl ?_
              exact zm_vret h hc rfl dX1_filter_397
          · refine r_ck (fun hk51 => ?_)
            exact r_lv [1, 0] rfl (w_filter_222 h hc _ ((4 * a0) + (σ6 77 a0)) hk51)
      · refine r_aload_n h 1 dX1_filter_174 rfl rfl ?_
        refine r_dup h dX1_filter_175 rfl ?_
        refine zm_getI h hc 4 4 (by decide) rfl rfl q1484 rfl dX1_filter_176 (fun hr52 => ?_)
        refine r_bipush h dX1_filter_179 (by decide) ?_
        refine r_iadd h dX1_filter_181 ?_
        refine r_ck (fun hk53 => ?_)
        refine zm_putI h hc 4 4 (by decide) rfl rfl q1484 ⟨rfl, rfl, by decide +kernel⟩ hk53 dX1_filter_182 (fun σ54 _ => ?_)
        refine r_aload_n h 1 dX1_filter_185 rfl rfl ?_
        refine zm_getA h hc 78 (by decide) rfl q1557 rfl dX1_filter_186 ?_
        refine r_iload_n h 0 dX1_filter_189 rfl rfl ?_
        refine r_iconst h dX1_filter_190 ?_
        refine zm_stI h hc 78 78 48 (by decide) rfl rfl rfl (by decide) (by decide) dX1_filter_191 (fun _ σ55 _ => ?_)
        refine r_goto h 390 dX1_filter_192 rfl ?_
        refine r_aload_n h 1 dX1_filter_390 rfl rfl ?_
        refine r_bipush h dX1_filter_391 (by decide) ?_
        refine zm_cVz h hc (n := 1) (As := [iv 93]) (fun o1 e1 => w_passes hc.1 _ 93 (by decide) o1 e1) q1840 q1842 qs63 q136 q1843 (by decide +kernel) ⟨by decide, by decide⟩ rfl (Nat.le_of_ble_eq_true rfl) rfl dX1_filter_393 (fun r56 σ57 hr58 => ?_)
        refine r_istore_n (lv' := [(3, iv r56), (2, iv ((4 * a0) + (σ6 77 a0))), (0, .ref (zm_h G)), (1, iv a0)]) h dX1_filter_396 rfl (hN _ (by decide)) rfl ?_
        exact zm_vret h hc rfl dX1_filter_397
    · refine r_iconst h dX1_filter_80 ?_
      refine r_istore_n (lv' := [(3, iv 0), (2, iv ((4 * a0) + (σ6 77 a0))), (0, .ref (zm_h G)), (1, iv a0)]) h dX1_filter_81 rfl (hN _ (by decide)) rfl ?_
      refine r_iconst h dX1_filter_82 ?_
      refine r_istore (lv' := [(4, iv 0), (3, iv 0), (2, iv ((4 * a0) + (σ6 77 a0))), (0, .ref (zm_h G)), (1, iv a0)]) h dX1_filter_83 (hN _ (by decide)) rfl ?_
      refine r_ck (fun hk59 => ?_)
      exact r_lv [3, 2, 1, 0] rfl (w_filter_85 h hc zF _ ((4 * a0) + (σ6 77 a0)) 0 0 hk59 (by decide) (by decide))
theorem dX1_step_0 : decode cX1_step 0 = .ok (.aload_n 0, 1) := by decide +kernel
theorem dX1_step_1 : decode cX1_step 1 = .ok (.getfield 569, 3) := by decide +kernel
theorem dX1_step_4 : decode cX1_step 4 = .ok (.bipush 12, 2) := by decide +kernel
theorem dX1_step_6 : decode cX1_step 6 = .ok (.if_icmp .ne 81, 3) := by decide +kernel
theorem dX1_step_9 : decode cX1_step 9 = .ok (.aload_n 0, 1) := by decide +kernel
theorem dX1_step_10 : decode cX1_step 10 = .ok (.aload_n 0, 1) := by decide +kernel
theorem dX1_step_11 : decode cX1_step 11 = .ok (.getfield 276, 3) := by decide +kernel
theorem dX1_step_14 : decode cX1_step 14 = .ok (.invokevirtual 279, 3) := by decide +kernel
theorem dX1_step_17 : decode cX1_step 17 = .ok (.bipush 46, 2) := by decide +kernel
theorem dX1_step_19 : decode cX1_step 19 = .ok (.if_icmp .eq 43, 3) := by decide +kernel
theorem dX1_step_22 : decode cX1_step 22 = .ok (.aload_n 0, 1) := by decide +kernel
theorem dX1_step_23 : decode cX1_step 23 = .ok (.aload_n 0, 1) := by decide +kernel
theorem dX1_step_24 : decode cX1_step 24 = .ok (.getfield 276, 3) := by decide +kernel
theorem dX1_step_27 : decode cX1_step 27 = .ok (.invokevirtual 279, 3) := by decide +kernel
theorem dX1_step_30 : decode cX1_step 30 = .ok (.bipush 64, 2) := by decide +kernel
theorem dX1_step_32 : decode cX1_step 32 = .ok (.if_icmp .eq 30, 3) := by decide +kernel
theorem dX1_step_35 : decode cX1_step 35 = .ok (.aload_n 0, 1) := by decide +kernel
theorem dX1_step_36 : decode cX1_step 36 = .ok (.aload_n 0, 1) := by decide +kernel
theorem dX1_step_37 : decode cX1_step 37 = .ok (.getfield 276, 3) := by decide +kernel
theorem dX1_step_40 : decode cX1_step 40 = .ok (.invokevirtual 279, 3) := by decide +kernel
theorem dX1_step_43 : decode cX1_step 43 = .ok (.bipush 42, 2) := by decide +kernel
theorem dX1_step_45 : decode cX1_step 45 = .ok (.if_icmp .eq 17, 3) := by decide +kernel
theorem dX1_step_48 : decode cX1_step 48 = .ok (.aload_n 0, 1) := by decide +kernel
theorem dX1_step_49 : decode cX1_step 49 = .ok (.aload_n 0, 1) := by decide +kernel
theorem dX1_step_50 : decode cX1_step 50 = .ok (.getfield 276, 3) := by decide +kernel
theorem dX1_step_53 : decode cX1_step 53 = .ok (.invokevirtual 279, 3) := by decide +kernel
theorem dX1_step_56 : decode cX1_step 56 = .ok (.invokestatic 268, 3) := by decide +kernel
theorem dX1_step_59 : decode cX1_step 59 = .ok (.ifCond .eq 7, 3) := by decide +kernel
theorem dX1_step_62 : decode cX1_step 62 = .ok (.iconst 1, 1) := by decide +kernel
theorem dX1_step_63 : decode cX1_step 63 = .ok (.goto 4, 3) := by decide +kernel
theorem dX1_step_66 : decode cX1_step 66 = .ok (.iconst 0, 1) := by decide +kernel
theorem dX1_step_67 : decode cX1_step 67 = .ok (.istore_n 2, 1) := by decide +kernel
theorem dX1_step_68 : decode cX1_step 68 = .ok (.aload_n 0, 1) := by decide +kernel
theorem dX1_step_69 : decode cX1_step 69 = .ok (.iload_n 2, 1) := by decide +kernel
theorem dX1_step_70 : decode cX1_step 70 = .ok (.ifCond .eq 8, 3) := by decide +kernel
theorem dX1_step_73 : decode cX1_step 73 = .ok (.bipush (-3), 2) := by decide +kernel
theorem dX1_step_75 : decode cX1_step 75 = .ok (.goto 4, 3) := by decide +kernel
theorem dX1_step_78 : decode cX1_step 78 = .ok (.iconst (-1), 1) := by decide +kernel
theorem dX1_step_79 : decode cX1_step 79 = .ok (.aload_n 0, 1) := by decide +kernel
theorem dX1_step_80 : decode cX1_step 80 = .ok (.getfield 276, 3) := by decide +kernel
theorem dX1_step_83 : decode cX1_step 83 = .ok (.invokevirtual 293, 3) := by decide +kernel
theorem dX1_step_86 : decode cX1_step 86 = .ok (.return_, 1) := by decide +kernel
theorem dX1_step_87 : decode cX1_step 87 = .ok (.aload_n 0, 1) := by decide +kernel
theorem dX1_step_88 : decode cX1_step 88 = .ok (.getfield 569, 3) := by decide +kernel
theorem dX1_step_91 : decode cX1_step 91 = .ok (.istore_n 2, 1) := by decide +kernel
theorem dX1_step_92 : decode cX1_step 92 = .ok (.aload_n 0, 1) := by decide +kernel
theorem dX1_step_93 : decode cX1_step 93 = .ok (.dup, 1) := by decide +kernel
theorem dX1_step_94 : decode cX1_step 94 = .ok (.getfield 569, 3) := by decide +kernel
theorem dX1_step_97 : decode cX1_step 97 = .ok (.iconst 1, 1) := by decide +kernel
theorem dX1_step_98 : decode cX1_step 98 = .ok (.iadd, 1) := by decide +kernel
theorem dX1_step_99 : decode cX1_step 99 = .ok (.putfield 569, 3) := by decide +kernel
theorem dX1_step_102 : decode cX1_step 102 = .ok (.aload_n 0, 1) := by decide +kernel
theorem dX1_step_103 : decode cX1_step 103 = .ok (.getfield 185, 3) := by decide +kernel
theorem dX1_step_106 : decode cX1_step 106 = .ok (.iload_n 2, 1) := by decide +kernel
theorem dX1_step_107 : decode cX1_step 107 = .ok (.iload_n 1, 1) := by decide +kernel
theorem dX1_step_108 : decode cX1_step 108 = .ok (.bastore, 1) := by decide +kernel
theorem dX1_step_109 : decode cX1_step 109 = .ok (.aload_n 0, 1) := by decide +kernel
theorem dX1_step_110 : decode cX1_step 110 = .ok (.getfield 194, 3) := by decide +kernel
theorem dX1_step_113 : decode cX1_step 113 = .ok (.iload_n 2, 1) := by decide +kernel
theorem dX1_step_114 : decode cX1_step 114 = .ok (.iconst 0, 1) := by decide +kernel
theorem dX1_step_115 : decode cX1_step 115 = .ok (.iastore, 1) := by decide +kernel
theorem dX1_step_116 : decode cX1_step 116 = .ok (.aload_n 0, 1) := by decide +kernel
theorem dX1_step_117 : decode cX1_step 117 = .ok (.ldc2_w 572, 3) := by decide +kernel
theorem dX1_step_120 : decode cX1_step 120 = .ok (.iconst 2, 1) := by decide +kernel
theorem dX1_step_121 : decode cX1_step 121 = .ok (.invokevirtual 285, 3) := by decide +kernel
theorem dX1_step_124 : decode cX1_step 124 = .ok (.ifCond .eq 21, 3) := by decide +kernel
theorem dX1_step_127 : decode cX1_step 127 = .ok (.aload_n 0, 1) := by decide +kernel
theorem dX1_step_128 : decode cX1_step 128 = .ok (.dup, 1) := by decide +kernel
theorem dX1_step_129 : decode cX1_step 129 = .ok (.getfield 276, 3) := by decide +kernel
theorem dX1_step_132 : decode cX1_step 132 = .ok (.iconst 2, 1) := by decide +kernel
theorem dX1_step_133 : decode cX1_step 133 = .ok (.iadd, 1) := by decide +kernel
theorem dX1_step_134 : decode cX1_step 134 = .ok (.putfield 276, 3) := by decide +kernel
theorem dX1_step_137 : decode cX1_step 137 = .ok (.aload_n 0, 1) := by decide +kernel
theorem dX1_step_138 : decode cX1_step 138 = .ok (.getfield 182, 3) := by decide +kernel
theorem dX1_step_141 : decode cX1_step 141 = .ok (.iload_n 2, 1) := by decide +kernel
theorem dX1_step_142 : decode cX1_step 142 = .ok (.iconst 1, 1) := by decide +kernel
theorem dX1_step_143 : decode cX1_step 143 = .ok (.iastore, 1) := by decide +kernel
theorem dX1_step_144 : decode cX1_step 144 = .ok (.return_, 1) := by decide +kernel
theorem dX1_step_145 : decode cX1_step 145 = .ok (.aload_n 0, 1) := by decide +kernel
theorem dX1_step_146 : decode cX1_step 146 = .ok (.aload_n 0, 1) := by decide +kernel
theorem dX1_step_147 : decode cX1_step 147 = .ok (.getfield 276, 3) := by decide +kernel
theorem dX1_step_150 : decode cX1_step 150 = .ok (.invokevirtual 279, 3) := by decide +kernel
theorem dX1_step_153 : decode cX1_step 153 = .ok (.bipush 46, 2) := by decide +kernel
theorem dX1_step_155 : decode cX1_step 155 = .ok (.if_icmp .ne 21, 3) := by decide +kernel
theorem dX1_step_158 : decode cX1_step 158 = .ok (.aload_n 0, 1) := by decide +kernel
theorem dX1_step_159 : decode cX1_step 159 = .ok (.dup, 1) := by decide +kernel
theorem dX1_step_160 : decode cX1_step 160 = .ok (.getfield 276, 3) := by decide +kernel
theorem dX1_step_163 : decode cX1_step 163 = .ok (.iconst 1, 1) := by decide +kernel
theorem dX1_step_164 : decode cX1_step 164 = .ok (.iadd, 1) := by decide +kernel
theorem dX1_step_165 : decode cX1_step 165 = .ok (.putfield 276, 3) := by decide +kernel
theorem dX1_step_168 : decode cX1_step 168 = .ok (.aload_n 0, 1) := by decide +kernel
theorem dX1_step_169 : decode cX1_step 169 = .ok (.getfield 182, 3) := by decide +kernel
theorem dX1_step_172 : decode cX1_step 172 = .ok (.iload_n 2, 1) := by decide +kernel
theorem dX1_step_173 : decode cX1_step 173 = .ok (.iconst 0, 1) := by decide +kernel
theorem dX1_step_174 : decode cX1_step 174 = .ok (.iastore, 1) := by decide +kernel
theorem dX1_step_175 : decode cX1_step 175 = .ok (.return_, 1) := by decide +kernel
theorem dX1_step_176 : decode cX1_step 176 = .ok (.aload_n 0, 1) := by decide +kernel
theorem dX1_step_177 : decode cX1_step 177 = .ok (.ldc2_w 574, 3) := by decide +kernel
theorem dX1_step_180 : decode cX1_step 180 = .ok (.bipush 6, 2) := by decide +kernel
theorem dX1_step_182 : decode cX1_step 182 = .ok (.invokevirtual 285, 3) := by decide +kernel
theorem dX1_step_185 : decode cX1_step 185 = .ok (.ifCond .eq 24, 3) := by decide +kernel
theorem dX1_step_188 : decode cX1_step 188 = .ok (.aload_n 0, 1) := by decide +kernel
theorem dX1_step_189 : decode cX1_step 189 = .ok (.dup, 1) := by decide +kernel
theorem dX1_step_190 : decode cX1_step 190 = .ok (.getfield 276, 3) := by decide +kernel
theorem dX1_step_193 : decode cX1_step 193 = .ok (.bipush 6, 2) := by decide +kernel
theorem dX1_step_195 : decode cX1_step 195 = .ok (.iadd, 1) := by decide +kernel
theorem dX1_step_196 : decode cX1_step 196 = .ok (.putfield 276, 3) := by decide +kernel
theorem dX1_step_199 : decode cX1_step 199 = .ok (.aload_n 0, 1) := by decide +kernel
theorem dX1_step_200 : decode cX1_step 200 = .ok (.getfield 182, 3) := by decide +kernel
theorem dX1_step_203 : decode cX1_step 203 = .ok (.iload_n 2, 1) := by decide +kernel
theorem dX1_step_204 : decode cX1_step 204 = .ok (.iconst 2, 1) := by decide +kernel
theorem dX1_step_205 : decode cX1_step 205 = .ok (.iastore, 1) := by decide +kernel
theorem dX1_step_206 : decode cX1_step 206 = .ok (.goto 98, 3) := by decide +kernel
theorem dX1_step_209 : decode cX1_step 209 = .ok (.aload_n 0, 1) := by decide +kernel
theorem dX1_step_210 : decode cX1_step 210 = .ok (.aload_n 0, 1) := by decide +kernel
theorem dX1_step_211 : decode cX1_step 211 = .ok (.getfield 276, 3) := by decide +kernel
theorem dX1_step_214 : decode cX1_step 214 = .ok (.invokevirtual 279, 3) := by decide +kernel
theorem dX1_step_217 : decode cX1_step 217 = .ok (.bipush 64, 2) := by decide +kernel
theorem dX1_step_219 : decode cX1_step 219 = .ok (.if_icmp .ne 7, 3) := by decide +kernel
theorem dX1_step_222 : decode cX1_step 222 = .ok (.iconst 2, 1) := by decide +kernel
theorem dX1_step_223 : decode cX1_step 223 = .ok (.goto 4, 3) := by decide +kernel
theorem dX1_step_226 : decode cX1_step 226 = .ok (.iconst 0, 1) := by decide +kernel
theorem dX1_step_227 : decode cX1_step 227 = .ok (.istore_n 3, 1) := by decide +kernel
theorem dX1_step_228 : decode cX1_step 228 = .ok (.aload_n 0, 1) := by decide +kernel
theorem dX1_step_229 : decode cX1_step 229 = .ok (.dup, 1) := by decide +kernel
theorem dX1_step_230 : decode cX1_step 230 = .ok (.getfield 276, 3) := by decide +kernel
theorem dX1_step_233 : decode cX1_step 233 = .ok (.iload_n 3, 1) := by decide +kernel
theorem dX1_step_234 : decode cX1_step 234 = .ok (.iconst 2, 1) := by decide +kernel
theorem dX1_step_235 : decode cX1_step 235 = .ok (.idiv, 1) := by decide +kernel
theorem dX1_step_236 : decode cX1_step 236 = .ok (.iadd, 1) := by decide +kernel
theorem dX1_step_237 : decode cX1_step 237 = .ok (.putfield 276, 3) := by decide +kernel
theorem dX1_step_240 : decode cX1_step 240 = .ok (.aload_n 0, 1) := by decide +kernel
theorem dX1_step_241 : decode cX1_step 241 = .ok (.aload_n 0, 1) := by decide +kernel
theorem dX1_step_242 : decode cX1_step 242 = .ok (.getfield 276, 3) := by decide +kernel
theorem dX1_step_245 : decode cX1_step 245 = .ok (.invokevirtual 279, 3) := by decide +kernel
theorem dX1_step_248 : decode cX1_step 248 = .ok (.bipush 42, 2) := by decide +kernel
theorem dX1_step_250 : decode cX1_step 250 = .ok (.if_icmp .ne 25, 3) := by decide +kernel
theorem dX1_step_253 : decode cX1_step 253 = .ok (.aload_n 0, 1) := by decide +kernel
theorem dX1_step_254 : decode cX1_step 254 = .ok (.dup, 1) := by decide +kernel
theorem dX1_step_255 : decode cX1_step 255 = .ok (.getfield 276, 3) := by decide +kernel
theorem dX1_step_258 : decode cX1_step 258 = .ok (.iconst 1, 1) := by decide +kernel
theorem dX1_step_259 : decode cX1_step 259 = .ok (.iadd, 1) := by decide +kernel
theorem dX1_step_260 : decode cX1_step 260 = .ok (.putfield 276, 3) := by decide +kernel
theorem dX1_step_263 : decode cX1_step 263 = .ok (.aload_n 0, 1) := by decide +kernel
theorem dX1_step_264 : decode cX1_step 264 = .ok (.getfield 182, 3) := by decide +kernel
theorem dX1_step_267 : decode cX1_step 267 = .ok (.iload_n 2, 1) := by decide +kernel
theorem dX1_step_268 : decode cX1_step 268 = .ok (.iconst 4, 1) := by decide +kernel
theorem dX1_step_269 : decode cX1_step 269 = .ok (.iload_n 3, 1) := by decide +kernel
theorem dX1_step_270 : decode cX1_step 270 = .ok (.iadd, 1) := by decide +kernel
theorem dX1_step_271 : decode cX1_step 271 = .ok (.iastore, 1) := by decide +kernel
theorem dX1_step_272 : decode cX1_step 272 = .ok (.goto 32, 3) := by decide +kernel
theorem dX1_step_275 : decode cX1_step 275 = .ok (.aload_n 0, 1) := by decide +kernel
theorem dX1_step_276 : decode cX1_step 276 = .ok (.getfield 188, 3) := by decide +kernel
theorem dX1_step_279 : decode cX1_step 279 = .ok (.iload_n 2, 1) := by decide +kernel
theorem dX1_step_280 : decode cX1_step 280 = .ok (.aload_n 0, 1) := by decide +kernel
theorem dX1_step_281 : decode cX1_step 281 = .ok (.invokevirtual 351, 3) := by decide +kernel
theorem dX1_step_284 : decode cX1_step 284 = .ok (.iastore, 1) := by decide +kernel
theorem dX1_step_285 : decode cX1_step 285 = .ok (.aload_n 0, 1) := by decide +kernel
theorem dX1_step_286 : decode cX1_step 286 = .ok (.getfield 191, 3) := by decide +kernel
theorem dX1_step_289 : decode cX1_step 289 = .ok (.iload_n 2, 1) := by decide +kernel
theorem dX1_step_290 : decode cX1_step 290 = .ok (.aload_n 0, 1) := by decide +kernel
theorem dX1_step_291 : decode cX1_step 291 = .ok (.getfield 306, 3) := by decide +kernel
theorem dX1_step_294 : decode cX1_step 294 = .ok (.iastore, 1) := by decide +kernel
theorem dX1_step_295 : decode cX1_step 295 = .ok (.aload_n 0, 1) := by decide +kernel
theorem dX1_step_296 : decode cX1_step 296 = .ok (.getfield 182, 3) := by decide +kernel
theorem dX1_step_299 : decode cX1_step 299 = .ok (.iload_n 2, 1) := by decide +kernel
theorem dX1_step_300 : decode cX1_step 300 = .ok (.iconst 3, 1) := by decide +kernel
theorem dX1_step_301 : decode cX1_step 301 = .ok (.iload_n 3, 1) := by decide +kernel
theorem dX1_step_302 : decode cX1_step 302 = .ok (.iadd, 1) := by decide +kernel
theorem dX1_step_303 : decode cX1_step 303 = .ok (.iastore, 1) := by decide +kernel
theorem dX1_step_304 : decode cX1_step 304 = .ok (.aload_n 0, 1) := by decide +kernel
theorem dX1_step_305 : decode cX1_step 305 = .ok (.invokevirtual 289, 3) := by decide +kernel
theorem dX1_step_308 : decode cX1_step 308 = .ok (.ifCond .eq 24, 3) := by decide +kernel
theorem dX1_step_311 : decode cX1_step 311 = .ok (.aload_n 0, 1) := by decide +kernel
theorem dX1_step_312 : decode cX1_step 312 = .ok (.aload_n 0, 1) := by decide +kernel
theorem dX1_step_313 : decode cX1_step 313 = .ok (.getfield 276, 3) := by decide +kernel
theorem dX1_step_316 : decode cX1_step 316 = .ok (.invokevirtual 279, 3) := by decide +kernel
theorem dX1_step_319 : decode cX1_step 319 = .ok (.bipush 91, 2) := by decide +kernel
theorem dX1_step_321 : decode cX1_step 321 = .ok (.if_icmp .ne 11, 3) := by decide +kernel
theorem dX1_step_324 : decode cX1_step 324 = .ok (.aload_n 0, 1) := by decide +kernel
theorem dX1_step_325 : decode cX1_step 325 = .ok (.iload_n 2, 1) := by decide +kernel
theorem dX1_step_326 : decode cX1_step 326 = .ok (.invokevirtual 576, 3) := by decide +kernel
theorem dX1_step_329 : decode cX1_step 329 = .ok (.goto (-25), 3) := by decide +kernel
theorem dX1_step_332 : decode cX1_step 332 = .ok (.return_, 1) := by decide +kernel
def m_step_304 : Nat → MEM → Int → Option zm_O
  | 0, _, _ => none
  | n + 1, σ, x2 => bd (m_isGood σ) (fun r1 σ2 => if r1 = 0 then (some (0, σ2)) else (bd (m_octet σ2 (σ2 (-1) 4)) (fun r5 σ6 => if r5 = 91 then (bd (m_filter σ6 x2) (fun _ σ8 => m_step_304 n σ8 x2)) else (some (0, σ6)))))
theorem w_step_304 {C : zv_Cx zm_O} {G : zm_G} (h : zv_Ok C cX1_step RX1) (hc : zm_C C G 4 (Option.none : Option FieldType) 0 5 110) : ∀ (n : Nat) (σ : MEM) (x2 : Int), inR x2 → VV C (m_step_304 n σ x2) σ [(0, .ref (zm_h G)), (2, iv x2)] [] 304 := by
  have hN : ∀ i, i < 4 → i < zv_n C := fun i q => by rw [hc.2.2.1]; exact q
  intro n
  induction n with
  | zero => intros; exact r_none
  | succ n ih =>
    intro σ x2 hx2
    rw [m_step_304]
    refine r_aload_n h 0 dX1_step_304 rfl rfl ?_
    refine zm_cVz h hc (n := 0) (As := []) (fun o1 e1 => w_isGood hc.1 _ o1 e1) q1801 q1803 qs56 q136 q1804 (by decide +kernel) ⟨by decide, by decide⟩ rfl (Nat.le_of_ble_eq_true rfl) rfl dX1_step_305 (fun r1 σ2 hr3 => ?_)
    refine r_if_eq h hr3.r 332 dX1_step_308 rfl ?_ ?_
    · exact zm_vret h hc rfl dX1_step_332
    · refine r_aload_n h 0 dX1_step_311 rfl rfl ?_
      refine r_aload_n h 0 dX1_step_312 rfl rfl ?_
      refine zm_getI h hc 4 4 (by decide) rfl rfl q1484 rfl dX1_step_313 (fun hr4 => ?_)
      refine zm_cVi h hc (n := 1) (As := [iv (σ2 (-1) 4)]) (fun o1 e1 => w_octet hc.1 _ (σ2 (-1) 4) hr4 o1 e1) q1817 q1819 qs60 q136 q1820 (by decide +kernel) ⟨by decide, by decide⟩ rfl (Nat.le_of_ble_eq_true rfl) rfl dX1_step_316 (fun r5 σ6 hr7 => ?_)
      refine r_bipush h dX1_step_319 (by decide) ?_
      refine r_icmp_ne h hr7 (by decide) 332 dX1_step_321 rfl ?_ ?_
      · refine r_aload_n h 0 dX1_step_324 rfl rfl ?_
        refine r_iload_n h 1 dX1_step_325 rfl rfl ?_
        refine zm_cVv h hc (n := 1) (As := [iv x2]) (fun o1 e1 => w_filter hc.1 _ x2 hx2 o1 e1) q2071 q2073 qs110 q136 q2074 (by decide +kernel) ⟨by decide, by decide⟩ rfl (Nat.le_of_ble_eq_true rfl) rfl dX1_step_326 (fun σ8  => ?_)
        refine r_goto h 304 dX1_step_329 rfl ?_
        exact r_lv [0, 1] rfl (ih _ x2 hx2)
      · exact zm_vret h hc rfl dX1_step_332
def m_step_227 (σ : MEM) (x2 s0 : Int) : Option zm_O := ck (inR ((σ (-1) 4) + (i_div s0 2))) (nu (mup σ (-1) 4 ((σ (-1) 4) + (i_div s0 2))) (fun σ3 => bd (m_octet σ3 (σ3 (-1) 4)) (fun r5 σ6 => if r5 = 42 then (ck (inR ((σ6 (-1) 4) + 1)) (nu (mup σ6 (-1) 4 ((σ6 (-1) 4) + 1)) (fun σ10 => ck (inR (4 + s0)) (ck (0 ≤ x2 ∧ x2 < 12) (nu (mup σ10 73 x2 (4 + s0)) (fun σ12 => m_step_304 zF σ12 x2)))))) else (bd (m_takeName σ6) (fun r13 σ14 => ck (0 ≤ x2 ∧ x2 < 12) (nu (mup σ14 75 x2 r13) (fun σ16 => ck (0 ≤ x2 ∧ x2 < 12) (nu (mup σ16 76 x2 (σ16 (-1) 51)) (fun σ18 => ck (inR (3 + s0)) (ck (0 ≤ x2 ∧ x2 < 12) (nu (mup σ18 73 x2 (3 + s0)) (fun σ20 => m_step_304 zF σ20 x2))))))))))))
theorem w_step_227 {C : zv_Cx zm_O} {G : zm_G} (h : zv_Ok C cX1_step RX1) (hc : zm_C C G 4 (Option.none : Option FieldType) 0 5 110) (σ : MEM) (x2 s0 : Int) (hx2 : inR x2) (hs0 : inR s0) : VV C (m_step_227 σ x2 s0) σ [(0, .ref (zm_h G)), (2, iv x2)] [iv s0] 227 := by
  have hN : ∀ i, i < 4 → i < zv_n C := fun i q => by rw [hc.2.2.1]; exact q
  unfold m_step_227
  refine r_istore_n (lv' := [(3, iv s0), (0, .ref (zm_h G)), (2, iv x2)]) h dX1_step_227 rfl (hN _ (by decide)) rfl ?_
  refine r_aload_n h 1 dX1_step_228 rfl rfl ?_
  refine r_dup h dX1_step_229 rfl ?_
  refine zm_getI h hc 4 4 (by decide) rfl rfl q1484 rfl dX1_step_230 (fun hr1 => ?_)
  refine r_iload_n h 0 dX1_step_233 rfl rfl ?_
  refine r_iconst h dX1_step_234 ?_
  refine r_idiv h (by decide) (by decide) dX1_step_235 ?_
  refine r_iadd h dX1_step_236 ?_
  refine r_ck (fun hk2 => ?_)
  refine zm_putI h hc 4 4 (by decide) rfl rfl q1484 ⟨rfl, rfl, by decide +kernel⟩ hk2 dX1_step_237 (fun σ3 _ => ?_)
  refine r_aload_n h 1 dX1_step_240 rfl rfl ?_
  refine r_aload_n h 1 dX1_step_241 rfl rfl ?_
  refine zm_getI h hc 4 4 (by decide) rfl rfl q1484 rfl dX1_step_242 (fun hr4 => ?_)
  refine zm_cVi h hc (n := 1) (As := [iv (σ3 (-1) 4)]) (fun o1 e1 => w_octet hc.1 _ (σ3 (-1) 4) hr4 o1 e1) q1817 q1819 qs60 q136 q1820 (by decide +kernel) ⟨by decide, by decide⟩ rfl (Nat.le_of_ble_eq_true rfl) rfl dX1_step_245 (fun r5 σ6 hr7 => ?_)
  refine r_bipush h dX1_step_248 (by decide) ?_
  refine r_icmp_ne h hr7 (by decide) 275 dX1_step_250 rfl ?_ ?_
  · refine r_aload_n h 1 dX1_step_253 rfl rfl ?_
    refine r_dup h dX1_step_254 rfl ?_
    refine zm_getI h hc 4 4 (by decide) rfl rfl q1484 rfl dX1_step_255 (fun hr8 => ?_)
    refine r_iconst h dX1_step_258 ?_
    refine r_iadd h dX1_step_259 ?_
    refine r_ck (fun hk9 => ?_)
    refine zm_putI h hc 4 4 (by decide) rfl rfl q1484 ⟨rfl, rfl, by decide +kernel⟩ hk9 dX1_step_260 (fun σ10 _ => ?_)
    refine r_aload_n h 1 dX1_step_263 rfl rfl ?_
    refine zm_getA h hc 73 (by decide) rfl q1552 rfl dX1_step_264 ?_
    refine r_iload_n h 2 dX1_step_267 rfl rfl ?_
    refine r_iconst h dX1_step_268 ?_
    refine r_iload_n h 0 dX1_step_269 rfl rfl ?_
    refine r_iadd h dX1_step_270 ?_
    refine r_ck (fun hk11 => ?_)
    refine zm_stI h hc 73 73 12 (by decide) rfl rfl rfl (by decide) hk11 dX1_step_271 (fun _ σ12 _ => ?_)
    refine r_goto h 304 dX1_step_272 rfl ?_
    exact r_lv [1, 2] rfl (w_step_304 h hc zF _ x2 hx2)
  · refine r_aload_n h 1 dX1_step_275 rfl rfl ?_
    refine zm_getA h hc 75 (by decide) rfl q1554 rfl dX1_step_276 ?_
    refine r_iload_n h 2 dX1_step_279 rfl rfl ?_
    refine r_aload_n h 1 dX1_step_280 rfl rfl ?_
    refine zm_cVi h hc (n := 0) (As := []) (fun o1 e1 => w_takeName hc.1 _ o1 e1) q1858 q1860 qs67 q136 q1861 (by decide +kernel) ⟨by decide, by decide⟩ rfl (Nat.le_of_ble_eq_true rfl) rfl dX1_step_281 (fun r13 σ14 hr15 => ?_)
    refine zm_stI h hc 75 75 12 (by decide) rfl rfl rfl (by decide) hr15 dX1_step_284 (fun _ σ16 _ => ?_)
    refine r_aload_n h 1 dX1_step_285 rfl rfl ?_
    refine zm_getA h hc 76 (by decide) rfl q1555 rfl dX1_step_286 ?_
    refine r_iload_n h 2 dX1_step_289 rfl rfl ?_
    refine r_aload_n h 1 dX1_step_290 rfl rfl ?_
    refine zm_getI h hc 51 51 (by decide) rfl rfl q1531 rfl dX1_step_291 (fun hr17 => ?_)
    refine zm_stI h hc 76 76 12 (by decide) rfl rfl rfl (by decide) hr17 dX1_step_294 (fun _ σ18 _ => ?_)
    refine r_aload_n h 1 dX1_step_295 rfl rfl ?_
    refine zm_getA h hc 73 (by decide) rfl q1552 rfl dX1_step_296 ?_
    refine r_iload_n h 2 dX1_step_299 rfl rfl ?_
    refine r_iconst h dX1_step_300 ?_
    refine r_iload_n h 0 dX1_step_301 rfl rfl ?_
    refine r_iadd h dX1_step_302 ?_
    refine r_ck (fun hk19 => ?_)
    refine zm_stI h hc 73 73 12 (by decide) rfl rfl rfl (by decide) hk19 dX1_step_303 (fun _ σ20 _ => ?_)
    exact r_lv [1, 2] rfl (w_step_304 h hc zF _ x2 hx2)
def m_step_67 (σ : MEM) (s0 : Int) : Option zm_O := if s0 = 0 then (bd (m_fail σ (-1) (σ (-1) 4)) (fun _ σ2 => some (0, σ2))) else (bd (m_fail σ (-3) (σ (-1) 4)) (fun _ σ4 => some (0, σ4)))
theorem w_step_67 {C : zv_Cx zm_O} {G : zm_G} (h : zv_Ok C cX1_step RX1) (hc : zm_C C G 4 (Option.none : Option FieldType) 0 5 110) (σ : MEM) (s0 : Int) (hs0 : isB s0) : VV C (m_step_67 σ s0) σ [(0, .ref (zm_h G))] [iv s0] 67 := by
  have hN : ∀ i, i < 4 → i < zv_n C := fun i q => by rw [hc.2.2.1]; exact q
  unfold m_step_67
  refine r_istore_n (lv' := [(2, iv s0), (0, .ref (zm_h G))]) h dX1_step_67 rfl (hN _ (by decide)) rfl ?_
  refine r_aload_n h 1 dX1_step_68 rfl rfl ?_
  refine r_iload_n h 0 dX1_step_69 rfl rfl ?_
  refine r_if_eq h hs0.r 78 dX1_step_70 rfl ?_ ?_
  · refine r_iconst h dX1_step_78 ?_
    refine r_aload_n h 1 dX1_step_79 rfl rfl ?_
    refine zm_getI h hc 4 4 (by decide) rfl rfl q1484 rfl dX1_step_80 (fun hr1 => ?_)
    refine zm_cVv h hc (n := 2) (As := [iv (-1), iv (σ (-1) 4)]) (fun o1 e1 => w_fail hc.1 _ (-1) (σ (-1) 4) (by decide) hr1 o1 e1) q1805 q1807 qs57 q136 q1808 (by decide +kernel) ⟨by decide, by decide⟩ rfl (Nat.le_of_ble_eq_true rfl) rfl dX1_step_83 (fun σ2  => ?_)
    exact zm_vret h hc rfl dX1_step_86
  · refine r_bipush h dX1_step_73 (by decide) ?_
    refine r_goto h 79 dX1_step_75 rfl ?_
    refine r_aload_n h 1 dX1_step_79 rfl rfl ?_
    refine zm_getI h hc 4 4 (by decide) rfl rfl q1484 rfl dX1_step_80 (fun hr3 => ?_)
    refine zm_cVv h hc (n := 2) (As := [iv (-3), iv (σ (-1) 4)]) (fun o1 e1 => w_fail hc.1 _ (-3) (σ (-1) 4) (by decide) hr3 o1 e1) q1805 q1807 qs57 q136 q1808 (by decide +kernel) ⟨by decide, by decide⟩ rfl (Nat.le_of_ble_eq_true rfl) rfl dX1_step_83 (fun σ4  => ?_)
    exact zm_vret h hc rfl dX1_step_86
def m_step_62 (σ : MEM) : Option zm_O := m_step_67 σ 1
theorem w_step_62 {C : zv_Cx zm_O} {G : zm_G} (h : zv_Ok C cX1_step RX1) (hc : zm_C C G 4 (Option.none : Option FieldType) 0 5 110) (σ : MEM) : VV C (m_step_62 σ ) σ [(0, .ref (zm_h G))] [] 62 := by
  have hN : ∀ i, i < 4 → i < zv_n C := fun i q => by rw [hc.2.2.1]; exact q
  unfold m_step_62
  refine r_iconst h dX1_step_62 ?_
  refine r_goto h 67 dX1_step_63 rfl ?_
  exact r_lv [0] rfl (w_step_67 h hc _ 1 (by decide))
def m_step (σ : MEM) (a0 : Int) : Option zm_O := if (σ (-1) 84) = 12 then (bd (m_octet σ (σ (-1) 4)) (fun r3 σ4 => if r3 = 46 then (m_step_62 σ4) else (bd (m_octet σ4 (σ4 (-1) 4)) (fun r7 σ8 => if r7 = 64 then (m_step_62 σ8) else (bd (m_octet σ8 (σ8 (-1) 4)) (fun r11 σ12 => if r11 = 42 then (m_step_62 σ12) else (bd (m_octet σ12 (σ12 (-1) 4)) (fun r15 σ16 => bd (m_isFirst σ16 r15) (fun r18 σ19 => if r18 = 0 then (m_step_67 σ19 0) else (m_step_62 σ19)))))))))) else (ck (inR ((σ (-1) 84) + 1)) (nu (mup σ (-1) 84 ((σ (-1) 84) + 1)) (fun σ24 => ck (0 ≤ (σ (-1) 84) ∧ (σ (-1) 84) < 12) (nu (mup σ24 74 (σ (-1) 84) a0) (fun σ25 => ck (0 ≤ (σ (-1) 84) ∧ (σ (-1) 84) < 12) (nu (mup σ25 77 (σ (-1) 84) 0) (fun σ26 => bd (m_stands σ26 11822 2) (fun r27 σ28 => if r27 = 0 then (bd (m_octet σ28 (σ28 (-1) 4)) (fun r31 σ32 => if r31 = 46 then (ck (inR ((σ32 (-1) 4) + 1)) (nu (mup σ32 (-1) 4 ((σ32 (-1) 4) + 1)) (fun σ36 => ck (0 ≤ (σ (-1) 84) ∧ (σ (-1) 84) < 12) (nu (mup σ36 73 (σ (-1) 84) 0) (fun σ37 => some (0, σ37)))))) else (bd (m_stands σ32 127979161397289 6) (fun r38 σ39 => if r38 = 0 then (bd (m_octet σ39 (σ39 (-1) 4)) (fun r42 σ43 => if r42 = 64 then (m_step_227 σ43 (σ (-1) 84) 2) else (m_step_227 σ43 (σ (-1) 84) 0))) else (ck (inR ((σ39 (-1) 4) + 6)) (nu (mup σ39 (-1) 4 ((σ39 (-1) 4) + 6)) (fun σ47 => ck (0 ≤ (σ (-1) 84) ∧ (σ (-1) 84) < 12) (nu (mup σ47 73 (σ (-1) 84) 2) (fun σ48 => m_step_304 zF σ48 (σ (-1) 84)))))))))) else (ck (inR ((σ28 (-1) 4) + 2)) (nu (mup σ28 (-1) 4 ((σ28 (-1) 4) + 2)) (fun σ51 => ck (0 ≤ (σ (-1) 84) ∧ (σ (-1) 84) < 12) (nu (mup σ51 73 (σ (-1) 84) 1) (fun σ52 => some (0, σ52))))))))))))))
theorem w_step {G : zm_G} (hD : zm_D G) (σ : MEM) (a0 : Int) (ha0 : isB a0) (o : zm_O) (hd : m_step σ a0 = some o) : zm_Met G yX1_step cX1_step 4 (Option.none : Option FieldType) 0 5 110 σ [.ref (zm_h G), iv a0] o := by
  refine zm_intro hD hd (by decide) rfl (Nat.le_of_ble_eq_true rfl) rfl (fun C h hc => ?_)
  have hN : ∀ i, i < 4 → i < zv_n C := fun i q => by rw [hc.2.2.1]; exact q
  unfold m_step
  refine r_aload_n h 0 dX1_step_0 rfl rfl ?_
  refine zm_getI h hc 84 84 (by decide) rfl rfl q1563 rfl dX1_step_1 (fun hr1 => ?_)
  refine r_bipush h dX1_step_4 (by decide) ?_
  refine r_icmp_ne h hr1 (by decide) 87 dX1_step_6 rfl ?_ ?_
  · refine r_aload_n h 0 dX1_step_9 rfl rfl ?_
    refine r_aload_n h 0 dX1_step_10 rfl rfl ?_
    refine zm_getI h hc 4 4 (by decide) rfl rfl q1484 rfl dX1_step_11 (fun hr2 => ?_)
    refine zm_cVi h hc (n := 1) (As := [iv (σ (-1) 4)]) (fun o1 e1 => w_octet hc.1 _ (σ (-1) 4) hr2 o1 e1) q1817 q1819 qs60 q136 q1820 (by decide +kernel) ⟨by decide, by decide⟩ rfl (Nat.le_of_ble_eq_true rfl) rfl dX1_step_14 (fun r3 σ4 hr5 => ?_)
    refine r_bipush h dX1_step_17 (by decide) ?_
    refine r_icmp_eq h hr5 (by decide) 62 dX1_step_19 rfl ?_ ?_
    · exact r_lv [0] rfl (w_step_62 h hc _)
    · refine r_aload_n h 0 dX1_step_22 rfl rfl ?_
      refine r_aload_n h 0 dX1_step_23 rfl rfl ?_
      refine zm_getI h hc 4 4 (by decide) rfl rfl q1484 rfl dX1_step_24 (fun hr6 => ?_)
      refine zm_cVi h hc (n := 1) (As := [iv (σ4 (-1) 4)]) (fun o1 e1 => w_octet hc.1 _ (σ4 (-1) 4) hr6 o1 e1) q1817 q1819 qs60 q136 q1820 (by decide +kernel) ⟨by decide, by decide⟩ rfl (Nat.le_of_ble_eq_true rfl) rfl dX1_step_27 (fun r7 σ8 hr9 => ?_)
      refine r_bipush h dX1_step_30 (by decide) ?_
      refine r_icmp_eq h hr9 (by decide) 62 dX1_step_32 rfl ?_ ?_
      · exact r_lv [0] rfl (w_step_62 h hc _)
      · refine r_aload_n h 0 dX1_step_35 rfl rfl ?_
        refine r_aload_n h 0 dX1_step_36 rfl rfl ?_
        refine zm_getI h hc 4 4 (by decide) rfl rfl q1484 rfl dX1_step_37 (fun hr10 => ?_)
        refine zm_cVi h hc (n := 1) (As := [iv (σ8 (-1) 4)]) (fun o1 e1 => w_octet hc.1 _ (σ8 (-1) 4) hr10 o1 e1) q1817 q1819 qs60 q136 q1820 (by decide +kernel) ⟨by decide, by decide⟩ rfl (Nat.le_of_ble_eq_true rfl) rfl dX1_step_40 (fun r11 σ12 hr13 => ?_)
        refine r_bipush h dX1_step_43 (by decide) ?_
        refine r_icmp_eq h hr13 (by decide) 62 dX1_step_45 rfl ?_ ?_
        · exact r_lv [0] rfl (w_step_62 h hc _)
        · refine r_aload_n h 0 dX1_step_48 rfl rfl ?_
          refine r_aload_n h 0 dX1_step_49 rfl rfl ?_
          refine zm_getI h hc 4 4 (by decide) rfl rfl q1484 rfl dX1_step_50 (fun hr14 => ?_)
          refine zm_cVi h hc (n := 1) (As := [iv (σ12 (-1) 4)]) (fun o1 e1 => w_octet hc.1 _ (σ12 (-1) 4) hr14 o1 e1) q1817 q1819 qs60 q136 q1820 (by decide +kernel) ⟨by decide, by decide⟩ rfl (Nat.le_of_ble_eq_true rfl) rfl dX1_step_53 (fun r15 σ16 hr17 => ?_)
          refine zm_cSz h hc (n := 1) (As := [iv r15]) (fun o1 e1 => w_isFirst hc.1 _ r15 hr17 o1 e1) q1862 q1863 q136 q1864 (by decide +kernel) ⟨by decide, by decide⟩ rfl (Nat.le_of_ble_eq_true rfl) rfl dX1_step_56 (fun r18 σ19 hr20 => ?_)
          refine r_if_eq h hr20.r 66 dX1_step_59 rfl ?_ ?_
          · refine r_iconst h dX1_step_66 ?_
            exact r_lv [0] rfl (w_step_67 h hc _ 0 (by decide))
          · exact r_lv [0] rfl (w_step_62 h hc _)
  · refine r_aload_n h 0 dX1_step_87 rfl rfl ?_
    refine zm_getI h hc 84 84 (by decide) rfl rfl q1563 rfl dX1_step_88 (fun hr21 => ?_)
    refine r_istore_n (lv' := [(2, iv (σ (-1) 84)), (0, .ref (zm_h G)), (1, iv a0)]) h dX1_step_91 rfl (hN _ (by decide)) rfl ?_
    refine r_aload_n h 1 dX1_step_92 rfl rfl ?_
    refine r_dup h dX1_step_93 rfl ?_
    refine zm_getI h hc 84 84 (by decide) rfl rfl q1563 rfl dX1_step_94 (fun hr22 => ?_)
    refine r_iconst h dX1_step_97 ?_
    refine r_iadd h dX1_step_98 ?_
    refine r_ck (fun hk23 => ?_)
    refine zm_putI h hc 84 84 (by decide) rfl rfl q1563 ⟨rfl, rfl, by decide +kernel⟩ hk23 dX1_step_99 (fun σ24 _ => ?_)
    refine r_aload_n h 1 dX1_step_102 rfl rfl ?_
    refine zm_getA h hc 74 (by decide) rfl q1553 rfl dX1_step_103 ?_
    refine r_iload_n h 0 dX1_step_106 rfl rfl ?_
    refine r_iload_n h 2 dX1_step_107 rfl rfl ?_
    refine zm_stZ h hc 74 74 12 (by decide) rfl rfl rfl (by decide) ha0 dX1_step_108 (fun _ σ25 _ => ?_)
    refine r_aload_n h 1 dX1_step_109 rfl rfl ?_
    refine zm_getA h hc 77 (by decide) rfl q1556 rfl dX1_step_110 ?_
    refine r_iload_n h 0 dX1_step_113 rfl rfl ?_
    refine r_iconst h dX1_step_114 ?_
    refine zm_stI h hc 77 77 12 (by decide) rfl rfl rfl (by decide) (by decide) dX1_step_115 (fun _ σ26 _ => ?_)
    refine r_aload_n h 1 dX1_step_116 rfl rfl ?_
    refine r_ldc2 (x := 11822) h q2069 (by decide) dX1_step_117 ?_
    refine r_iconst h dX1_step_120 ?_
    refine zm_cVz h hc (n := 2) (As := [jv 11822, iv 2]) (fun o1 e1 => w_stands hc.1 _ 11822 2 (by decide) (by decide) o1 e1) q1825 q1827 qs61 q136 q1828 (by decide +kernel) ⟨by decide, by decide⟩ rfl (Nat.le_of_ble_eq_true rfl) rfl dX1_step_121 (fun r27 σ28 hr29 => ?_)
    refine r_if_eq h hr29.r 145 dX1_step_124 rfl ?_ ?_
    · refine r_aload_n h 1 dX1_step_145 rfl rfl ?_
      refine r_aload_n h 1 dX1_step_146 rfl rfl ?_
      refine zm_getI h hc 4 4 (by decide) rfl rfl q1484 rfl dX1_step_147 (fun hr30 => ?_)
      refine zm_cVi h hc (n := 1) (As := [iv (σ28 (-1) 4)]) (fun o1 e1 => w_octet hc.1 _ (σ28 (-1) 4) hr30 o1 e1) q1817 q1819 qs60 q136 q1820 (by decide +kernel) ⟨by decide, by decide⟩ rfl (Nat.le_of_ble_eq_true rfl) rfl dX1_step_150 (fun r31 σ32 hr33 => ?_)
      refine r_bipush h dX1_step_153 (by decide) ?_
      refine r_icmp_ne h hr33 (by decide) 176 dX1_step_155 rfl ?_ ?_
      · refine r_aload_n h 1 dX1_step_158 rfl rfl ?_
        refine r_dup h dX1_step_159 rfl ?_
        refine zm_getI h hc 4 4 (by decide) rfl rfl q1484 rfl dX1_step_160 (fun hr34 => ?_)
        refine r_iconst h dX1_step_163 ?_
        refine r_iadd h dX1_step_164 ?_
        refine r_ck (fun hk35 => ?_)
        refine zm_putI h hc 4 4 (by decide) rfl rfl q1484 ⟨rfl, rfl, by decide +kernel⟩ hk35 dX1_step_165 (fun σ36 _ => ?_)
        refine r_aload_n h 1 dX1_step_168 rfl rfl ?_
        refine zm_getA h hc 73 (by decide) rfl q1552 rfl dX1_step_169 ?_
        refine r_iload_n h 0 dX1_step_172 rfl rfl ?_
        refine r_iconst h dX1_step_173 ?_
        refine zm_stI h hc 73 73 12 (by decide) rfl rfl rfl (by decide) (by decide) dX1_step_174 (fun _ σ37 _ => ?_)
        exact zm_vret h hc rfl dX1_step_175
      · refine r_aload_n h 1 dX1_step_176 rfl rfl ?_
        refine r_ldc2 (x := 127979161397289) h q2070 (by decide) dX1_step_177 ?_
        refine r_bipush h dX1_step_180 (by decide) ?_
        refine zm_cVz h hc (n := 2) (As := [jv 127979161397289, iv 6]) (fun o1 e1 => w_stands hc.1 _ 127979161397289 6 (by decide) (by decide) o1 e1) q1825 q1827 qs61 q136 q1828 (by decide +kernel) ⟨by decide, by decide⟩ rfl (Nat.le_of_ble_eq_true rfl) rfl dX1_step_182 (fun r38 σ39 hr40 => ?_)
        refine r_if_eq h hr40.r 209 dX1_step_185 rfl ?_ ?_
        · refine r_aload_n h 1 dX1_step_209 rfl rfl ?_
          refine r_aload_n h 1 dX1_step_210 rfl rfl ?_
          refine zm_getI h hc 4 4 (by decide) rfl rfl q1484 rfl dX1_step_211 (fun hr41 => ?_)
          refine zm_cVi h hc (n := 1) (As := [iv (σ39 (-1) 4)]) (fun o1 e1 => w_octet hc.1 _ (σ39 (-1) 4) hr41 o1 e1) q1817 q1819 qs60 q136 q1820 (by decide +kernel) ⟨by decide, by decide⟩ rfl (Nat.le_of_ble_eq_true rfl) rfl dX1_step_214 (fun r42 σ43 hr44 => ?_)
          refine r_bipush h dX1_step_217 (by decide) ?_
          refine r_icmp_ne h hr44 (by decide) 226 dX1_step_219 rfl ?_ ?_
          · refine r_iconst h dX1_step_222 ?_
            refine r_goto h 227 dX1_step_223 rfl ?_
            exact r_lv [1, 0] rfl (w_step_227 h hc _ (σ (-1) 84) 2 hr21 (by decide))
          · refine r_iconst h dX1_step_226 ?_
            exact r_lv [1, 0] rfl (w_step_227 h hc _ (σ (-1) 84) 0 hr21 (by decide))
        · refine r_aload_n h 1 dX1_step_188 rfl rfl ?_
          refine r_dup h dX1_step_189 rfl ?_
          refine zm_getI h hc 4 4 (by decide) rfl rfl q1484 rfl dX1_step_190 (fun hr45 => ?_)
          refine r_bipush h dX1_step_193 (by decide) ?_
          refine r_iadd h dX1_step_195 ?_
          refine r_ck (fun hk46 => ?_)
          refine zm_putI h hc 4 4 (by decide) rfl rfl q1484 ⟨rfl, rfl, by decide +kernel⟩ hk46 dX1_step_196 (fun σ47 _ => ?_)
          refine r_aload_n h 1 dX1_step_199 rfl rfl ?_
          refine zm_getA h hc 73 (by decide) rfl q1552 rfl dX1_step_200 ?_
          refine r_iload_n h 0 dX1_step_203 rfl rfl ?_
          refine r_iconst h dX1_step_204 ?_
          refine zm_stI h hc 73 73 12 (by decide) rfl rfl rfl (by decide) (by decide) dX1_step_205 (fun _ σ48 _ => ?_)
          refine r_goto h 304 dX1_step_206 rfl ?_
          exact r_lv [1, 0] rfl (w_step_304 h hc zF _ (σ (-1) 84) hr21)
    · refine r_aload_n h 1 dX1_step_127 rfl rfl ?_
      refine r_dup h dX1_step_128 rfl ?_
      refine zm_getI h hc 4 4 (by decide) rfl rfl q1484 rfl dX1_step_129 (fun hr49 => ?_)
      refine r_iconst h dX1_step_132 ?_
      refine r_iadd h dX1_step_133 ?_
      refine r_ck (fun hk50 => ?_)
      refine zm_putI h hc 4 4 (by decide) rfl rfl q1484 ⟨rfl, rfl, by decide +kernel⟩ hk50 dX1_step_134 (fun σ51 _ => ?_)
      refine r_aload_n h 1 dX1_step_137 rfl rfl ?_
      refine zm_getA h hc 73 (by decide) rfl q1552 rfl dX1_step_138 ?_
      refine r_iload_n h 0 dX1_step_141 rfl rfl ?_
      refine r_iconst h dX1_step_142 ?_
      refine zm_stI h hc 73 73 12 (by decide) rfl rfl rfl (by decide) (by decide) dX1_step_143 (fun _ σ52 _ => ?_)
      exact zm_vret h hc rfl dX1_step_144
