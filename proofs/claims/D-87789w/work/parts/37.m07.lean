set_option maxRecDepth 100000
/-! methods of the Model: decode rows, denotations m_.., walks w_.. (written by wip/gen/gen.py) -/
theorem dX1_select_0 : decode cX1_select 0 = .ok (.aload_n 0, 1) := by decide +kernel
theorem dX1_select_1 : decode cX1_select 1 = .ok (.getfield 498, 3) := by decide +kernel
theorem dX1_select_4 : decode cX1_select 4 = .ok (.ifCond .eq 38, 3) := by decide +kernel
theorem dX1_select_7 : decode cX1_select 7 = .ok (.iload_n 1, 1) := by decide +kernel
theorem dX1_select_8 : decode cX1_select 8 = .ok (.i2l, 1) := by decide +kernel
theorem dX1_select_9 : decode cX1_select 9 = .ok (.lconst 0, 1) := by decide +kernel
theorem dX1_select_10 : decode cX1_select 10 = .ok (.aload_n 0, 1) := by decide +kernel
theorem dX1_select_11 : decode cX1_select 11 = .ok (.getfield 27, 3) := by decide +kernel
theorem dX1_select_14 : decode cX1_select 14 = .ok (.aload_n 0, 1) := by decide +kernel
theorem dX1_select_15 : decode cX1_select 15 = .ok (.getfield 482, 3) := by decide +kernel
theorem dX1_select_18 : decode cX1_select 18 = .ok (.iaload, 1) := by decide +kernel
theorem dX1_select_19 : decode cX1_select 19 = .ok (.iconst 1, 1) := by decide +kernel
theorem dX1_select_20 : decode cX1_select 20 = .ok (.isub, 1) := by decide +kernel
theorem dX1_select_21 : decode cX1_select 21 = .ok (.i2l, 1) := by decide +kernel
theorem dX1_select_22 : decode cX1_select 22 = .ok (.invokestatic 256, 3) := by decide +kernel
theorem dX1_select_25 : decode cX1_select 25 = .ok (.ifCond .eq 17, 3) := by decide +kernel
theorem dX1_select_28 : decode cX1_select 28 = .ok (.iload_n 2, 1) := by decide +kernel
theorem dX1_select_29 : decode cX1_select 29 = .ok (.i2l, 1) := by decide +kernel
theorem dX1_select_30 : decode cX1_select 30 = .ok (.lconst 0, 1) := by decide +kernel
theorem dX1_select_31 : decode cX1_select 31 = .ok (.aload_n 0, 1) := by decide +kernel
theorem dX1_select_32 : decode cX1_select 32 = .ok (.getfield 476, 3) := by decide +kernel
theorem dX1_select_35 : decode cX1_select 35 = .ok (.i2l, 1) := by decide +kernel
theorem dX1_select_36 : decode cX1_select 36 = .ok (.invokestatic 256, 3) := by decide +kernel
theorem dX1_select_39 : decode cX1_select 39 = .ok (.ifCond .ne 6, 3) := by decide +kernel
theorem dX1_select_42 : decode cX1_select 42 = .ok (.bipush (-9), 2) := by decide +kernel
theorem dX1_select_44 : decode cX1_select 44 = .ok (.ireturn, 1) := by decide +kernel
theorem dX1_select_45 : decode cX1_select 45 = .ok (.aload_n 0, 1) := by decide +kernel
theorem dX1_select_46 : decode cX1_select 46 = .ok (.iload_n 2, 1) := by decide +kernel
theorem dX1_select_47 : decode cX1_select 47 = .ok (.invokevirtual 479, 3) := by decide +kernel
theorem dX1_select_50 : decode cX1_select 50 = .ok (.aload_n 0, 1) := by decide +kernel
theorem dX1_select_51 : decode cX1_select 51 = .ok (.invokevirtual 612, 3) := by decide +kernel
theorem dX1_select_54 : decode cX1_select 54 = .ok (.aload_n 0, 1) := by decide +kernel
theorem dX1_select_55 : decode cX1_select 55 = .ok (.invokevirtual 289, 3) := by decide +kernel
theorem dX1_select_58 : decode cX1_select 58 = .ok (.ifCond .ne 8, 3) := by decide +kernel
theorem dX1_select_61 : decode cX1_select 61 = .ok (.aload_n 0, 1) := by decide +kernel
theorem dX1_select_62 : decode cX1_select 62 = .ok (.getfield 246, 3) := by decide +kernel
theorem dX1_select_65 : decode cX1_select 65 = .ok (.ireturn, 1) := by decide +kernel
theorem dX1_select_66 : decode cX1_select 66 = .ok (.iconst 0, 1) := by decide +kernel
theorem dX1_select_67 : decode cX1_select 67 = .ok (.istore_n 3, 1) := by decide +kernel
theorem dX1_select_68 : decode cX1_select 68 = .ok (.iload_n 3, 1) := by decide +kernel
theorem dX1_select_69 : decode cX1_select 69 = .ok (.aload_n 0, 1) := by decide +kernel
theorem dX1_select_70 : decode cX1_select 70 = .ok (.getfield 27, 3) := by decide +kernel
theorem dX1_select_73 : decode cX1_select 73 = .ok (.aload_n 0, 1) := by decide +kernel
theorem dX1_select_74 : decode cX1_select 74 = .ok (.getfield 482, 3) := by decide +kernel
theorem dX1_select_77 : decode cX1_select 77 = .ok (.iaload, 1) := by decide +kernel
theorem dX1_select_78 : decode cX1_select 78 = .ok (.if_icmp .ge 36, 3) := by decide +kernel
theorem dX1_select_81 : decode cX1_select 81 = .ok (.aload_n 0, 1) := by decide +kernel
theorem dX1_select_82 : decode cX1_select 82 = .ok (.getfield 173, 3) := by decide +kernel
theorem dX1_select_85 : decode cX1_select 85 = .ok (.iload_n 3, 1) := by decide +kernel
theorem dX1_select_86 : decode cX1_select 86 = .ok (.iload_n 3, 1) := by decide +kernel
theorem dX1_select_87 : decode cX1_select 87 = .ok (.aload_n 0, 1) := by decide +kernel
theorem dX1_select_88 : decode cX1_select 88 = .ok (.getfield 579, 3) := by decide +kernel
theorem dX1_select_91 : decode cX1_select 91 = .ok (.ifCond .eq 7, 3) := by decide +kernel
theorem dX1_select_94 : decode cX1_select 94 = .ok (.iconst 0, 1) := by decide +kernel
theorem dX1_select_95 : decode cX1_select 95 = .ok (.goto 4, 3) := by decide +kernel
theorem dX1_select_98 : decode cX1_select 98 = .ok (.iload_n 1, 1) := by decide +kernel
theorem dX1_select_99 : decode cX1_select 99 = .ok (.if_icmp .ne 7, 3) := by decide +kernel
theorem dX1_select_102 : decode cX1_select 102 = .ok (.iconst 1, 1) := by decide +kernel
theorem dX1_select_103 : decode cX1_select 103 = .ok (.goto 4, 3) := by decide +kernel
theorem dX1_select_106 : decode cX1_select 106 = .ok (.iconst 0, 1) := by decide +kernel
theorem dX1_select_107 : decode cX1_select 107 = .ok (.bastore, 1) := by decide +kernel
theorem dX1_select_108 : decode cX1_select 108 = .ok (.iinc 3 1, 3) := by decide +kernel
theorem dX1_select_111 : decode cX1_select 111 = .ok (.goto (-43), 3) := by decide +kernel
theorem dX1_select_114 : decode cX1_select 114 = .ok (.iconst 0, 1) := by decide +kernel
theorem dX1_select_115 : decode cX1_select 115 = .ok (.istore_n 3, 1) := by decide +kernel
theorem dX1_select_116 : decode cX1_select 116 = .ok (.iload_n 3, 1) := by decide +kernel
theorem dX1_select_117 : decode cX1_select 117 = .ok (.aload_n 0, 1) := by decide +kernel
theorem dX1_select_118 : decode cX1_select 118 = .ok (.getfield 569, 3) := by decide +kernel
theorem dX1_select_121 : decode cX1_select 121 = .ok (.if_icmp .ge 14, 3) := by decide +kernel
theorem dX1_select_124 : decode cX1_select 124 = .ok (.aload_n 0, 1) := by decide +kernel
theorem dX1_select_125 : decode cX1_select 125 = .ok (.iload_n 3, 1) := by decide +kernel
theorem dX1_select_126 : decode cX1_select 126 = .ok (.invokevirtual 615, 3) := by decide +kernel
theorem dX1_select_129 : decode cX1_select 129 = .ok (.iinc 3 1, 3) := by decide +kernel
theorem dX1_select_132 : decode cX1_select 132 = .ok (.goto (-16), 3) := by decide +kernel
theorem dX1_select_135 : decode cX1_select 135 = .ok (.aload_n 0, 1) := by decide +kernel
theorem dX1_select_136 : decode cX1_select 136 = .ok (.iconst 0, 1) := by decide +kernel
theorem dX1_select_137 : decode cX1_select 137 = .ok (.putfield 504, 3) := by decide +kernel
theorem dX1_select_140 : decode cX1_select 140 = .ok (.iconst 0, 1) := by decide +kernel
theorem dX1_select_141 : decode cX1_select 141 = .ok (.istore_n 3, 1) := by decide +kernel
theorem dX1_select_142 : decode cX1_select 142 = .ok (.iload_n 3, 1) := by decide +kernel
theorem dX1_select_143 : decode cX1_select 143 = .ok (.aload_n 0, 1) := by decide +kernel
theorem dX1_select_144 : decode cX1_select 144 = .ok (.getfield 27, 3) := by decide +kernel
theorem dX1_select_147 : decode cX1_select 147 = .ok (.aload_n 0, 1) := by decide +kernel
theorem dX1_select_148 : decode cX1_select 148 = .ok (.getfield 482, 3) := by decide +kernel
theorem dX1_select_151 : decode cX1_select 151 = .ok (.iaload, 1) := by decide +kernel
theorem dX1_select_152 : decode cX1_select 152 = .ok (.if_icmp .ge 38, 3) := by decide +kernel
theorem dX1_select_155 : decode cX1_select 155 = .ok (.aload_n 0, 1) := by decide +kernel
theorem dX1_select_156 : decode cX1_select 156 = .ok (.getfield 173, 3) := by decide +kernel
theorem dX1_select_159 : decode cX1_select 159 = .ok (.iload_n 3, 1) := by decide +kernel
theorem dX1_select_160 : decode cX1_select 160 = .ok (.baload, 1) := by decide +kernel
theorem dX1_select_161 : decode cX1_select 161 = .ok (.ifCond .eq 23, 3) := by decide +kernel
theorem dX1_select_164 : decode cX1_select 164 = .ok (.aload_n 0, 1) := by decide +kernel
theorem dX1_select_165 : decode cX1_select 165 = .ok (.getfield 170, 3) := by decide +kernel
theorem dX1_select_168 : decode cX1_select 168 = .ok (.aload_n 0, 1) := by decide +kernel
theorem dX1_select_169 : decode cX1_select 169 = .ok (.getfield 504, 3) := by decide +kernel
theorem dX1_select_172 : decode cX1_select 172 = .ok (.iload_n 3, 1) := by decide +kernel
theorem dX1_select_173 : decode cX1_select 173 = .ok (.iastore, 1) := by decide +kernel
theorem dX1_select_174 : decode cX1_select 174 = .ok (.aload_n 0, 1) := by decide +kernel
theorem dX1_select_175 : decode cX1_select 175 = .ok (.dup, 1) := by decide +kernel
theorem dX1_select_176 : decode cX1_select 176 = .ok (.getfield 504, 3) := by decide +kernel
theorem dX1_select_179 : decode cX1_select 179 = .ok (.iconst 1, 1) := by decide +kernel
theorem dX1_select_180 : decode cX1_select 180 = .ok (.iadd, 1) := by decide +kernel
theorem dX1_select_181 : decode cX1_select 181 = .ok (.putfield 504, 3) := by decide +kernel
theorem dX1_select_184 : decode cX1_select 184 = .ok (.iinc 3 1, 3) := by decide +kernel
theorem dX1_select_187 : decode cX1_select 187 = .ok (.goto (-45), 3) := by decide +kernel
theorem dX1_select_190 : decode cX1_select 190 = .ok (.aload_n 0, 1) := by decide +kernel
theorem dX1_select_191 : decode cX1_select 191 = .ok (.getfield 504, 3) := by decide +kernel
theorem dX1_select_194 : decode cX1_select 194 = .ok (.ireturn, 1) := by decide +kernel
def m_select_142 : Nat → MEM → Int → Option zm_O
  | 0, _, _ => none
  | n + 1, σ, x3 => ck (0 ≤ (σ (-1) 7) ∧ (σ (-1) 7) < 2) (if (σ 12 (σ (-1) 7)) ≤ x3 then (some ((σ (-1) 68), σ)) else (ck (0 ≤ x3 ∧ x3 < 600) (if (σ 70 x3) = 0 then (ck (inR (x3 + 1)) (m_select_142 n σ (x3 + 1))) else (ck (0 ≤ (σ (-1) 68) ∧ (σ (-1) 68) < 600) (nu (mup σ 69 (σ (-1) 68) x3) (fun σ7 => ck (inR ((σ7 (-1) 68) + 1)) (nu (mup σ7 (-1) 68 ((σ7 (-1) 68) + 1)) (fun σ10 => ck (inR (x3 + 1)) (m_select_142 n σ10 (x3 + 1))))))))))
theorem w_select_142 {C : zv_Cx zm_O} {G : zm_G} (h : zv_Ok C cX1_select RX1) (hc : zm_C C G 4 (Option.some FieldType.int) 1 7 155) : ∀ (n : Nat) (σ : MEM) (x3 : Int), inR x3 → VV C (m_select_142 n σ x3) σ [(0, .ref (zm_h G)), (3, iv x3)] [] 142 := by
  have hN : ∀ i, i < 4 → i < zv_n C := fun i q => by rw [hc.2.2.1]; exact q
  intro n
  induction n with
  | zero => intros; exact r_none
  | succ n ih =>
    intro σ x3 hx3
    rw [m_select_142]
    refine r_iload_n h 1 dX1_select_142 rfl rfl ?_
    refine r_aload_n h 0 dX1_select_143 rfl rfl ?_
    refine zm_getA h hc 12 (by decide) rfl q1492 rfl dX1_select_144 ?_
    refine r_aload_n h 0 dX1_select_147 rfl rfl ?_
    refine zm_getI h hc 7 7 (by decide) rfl rfl q1487 rfl dX1_select_148 (fun hr1 => ?_)
    refine zm_ldI h hc 12 12 2 (by decide) rfl rfl rfl (by decide) dX1_select_151 (fun _ hr2 => ?_)
    refine r_icmp_ge h hx3 hr2 190 dX1_select_152 rfl ?_ ?_
    · refine r_aload_n h 0 dX1_select_190 rfl rfl ?_
      refine zm_getI h hc 68 68 (by decide) rfl rfl q1547 rfl dX1_select_191 (fun hr3 => ?_)
      exact zm_iret h hc rfl hr3 dX1_select_194
    · refine r_aload_n h 0 dX1_select_155 rfl rfl ?_
      refine zm_getA h hc 70 (by decide) rfl q1549 rfl dX1_select_156 ?_
      refine r_iload_n h 1 dX1_select_159 rfl rfl ?_
      refine zm_ldZ h hc 70 70 600 (by decide) rfl rfl rfl (by decide) dX1_select_160 (fun _ hr4 => ?_)
      refine r_if_eq h hr4.r 184 dX1_select_161 rfl ?_ ?_
      · refine r_iinc (lv' := [(3, iv (x3 + 1)), (0, .ref (zm_h G))]) h 1 dX1_select_184 rfl (hN _ (by decide)) rfl ?_
        refine r_goto h 142 dX1_select_187 rfl ?_
        refine r_ck (fun hk5 => ?_)
        exact r_lv [1, 0] rfl (ih _ (x3 + 1) hk5)
      · refine r_aload_n h 0 dX1_select_164 rfl rfl ?_
        refine zm_getA h hc 69 (by decide) rfl q1548 rfl dX1_select_165 ?_
        refine r_aload_n h 0 dX1_select_168 rfl rfl ?_
        refine zm_getI h hc 68 68 (by decide) rfl rfl q1547 rfl dX1_select_169 (fun hr6 => ?_)
        refine r_iload_n h 1 dX1_select_172 rfl rfl ?_
        refine zm_stI h hc 69 69 600 (by decide) rfl rfl rfl (by decide) hx3 dX1_select_173 (fun _ σ7 _ => ?_)
        refine r_aload_n h 0 dX1_select_174 rfl rfl ?_
        refine r_dup h dX1_select_175 rfl ?_
        refine zm_getI h hc 68 68 (by decide) rfl rfl q1547 rfl dX1_select_176 (fun hr8 => ?_)
        refine r_iconst h dX1_select_179 ?_
        refine r_iadd h dX1_select_180 ?_
        refine r_ck (fun hk9 => ?_)
        refine zm_putI h hc 68 68 (by decide) rfl rfl q1547 ⟨rfl, rfl, by decide +kernel⟩ hk9 dX1_select_181 (fun σ10 _ => ?_)
        refine r_iinc (lv' := [(3, iv (x3 + 1)), (0, .ref (zm_h G))]) h 1 dX1_select_184 rfl (hN _ (by decide)) rfl ?_
        refine r_goto h 142 dX1_select_187 rfl ?_
        refine r_ck (fun hk11 => ?_)
        exact r_lv [1, 0] rfl (ih _ (x3 + 1) hk11)
def m_select_116 : Nat → MEM → Int → Option zm_O
  | 0, _, _ => none
  | n + 1, σ, x3 => if (σ (-1) 84) ≤ x3 then (nu (mup σ (-1) 68 0) (fun σ2 => m_select_142 zF σ2 0)) else (bd (m_goStep σ x3) (fun _ σ3 => ck (inR (x3 + 1)) (m_select_116 n σ3 (x3 + 1))))
theorem w_select_116 {C : zv_Cx zm_O} {G : zm_G} (h : zv_Ok C cX1_select RX1) (hc : zm_C C G 4 (Option.some FieldType.int) 1 7 155) : ∀ (n : Nat) (σ : MEM) (x3 : Int), inR x3 → VV C (m_select_116 n σ x3) σ [(0, .ref (zm_h G)), (3, iv x3)] [] 116 := by
  have hN : ∀ i, i < 4 → i < zv_n C := fun i q => by rw [hc.2.2.1]; exact q
  intro n
  induction n with
  | zero => intros; exact r_none
  | succ n ih =>
    intro σ x3 hx3
    rw [m_select_116]
    refine r_iload_n h 1 dX1_select_116 rfl rfl ?_
    refine r_aload_n h 0 dX1_select_117 rfl rfl ?_
    refine zm_getI h hc 84 84 (by decide) rfl rfl q1563 rfl dX1_select_118 (fun hr1 => ?_)
    refine r_icmp_ge h hx3 hr1 135 dX1_select_121 rfl ?_ ?_
    · refine r_aload_n h 0 dX1_select_135 rfl rfl ?_
      refine r_iconst h dX1_select_136 ?_
      refine zm_putI h hc 68 68 (by decide) rfl rfl q1547 ⟨rfl, rfl, by decide +kernel⟩ (by decide) dX1_select_137 (fun σ2 _ => ?_)
      refine r_iconst h dX1_select_140 ?_
      refine r_istore_n (lv' := [(3, iv 0), (0, .ref (zm_h G))]) h dX1_select_141 rfl (hN _ (by decide)) rfl ?_
      exact r_lv [1, 0] rfl (w_select_142 h hc zF _ 0 (by decide))
    · refine r_aload_n h 0 dX1_select_124 rfl rfl ?_
      refine r_iload_n h 1 dX1_select_125 rfl rfl ?_
      refine zm_cVv h hc (n := 1) (As := [iv x3]) (fun o1 e1 => w_goStep hc.1 _ x3 hx3 o1 e1) q2081 q2083 qs112 q136 q2084 (by decide +kernel) ⟨by decide, by decide⟩ rfl (Nat.le_of_ble_eq_true rfl) rfl dX1_select_126 (fun σ3  => ?_)
      refine r_iinc (lv' := [(3, iv (x3 + 1)), (0, .ref (zm_h G))]) h 1 dX1_select_129 rfl (hN _ (by decide)) rfl ?_
      refine r_goto h 116 dX1_select_132 rfl ?_
      refine r_ck (fun hk4 => ?_)
      exact r_lv [1, 0] rfl (ih _ (x3 + 1) hk4)
def m_select_99 (lp68 : MEM → Int → Int → Option zm_O) (σ : MEM) (x1 x3 s1 s2 s3 : Int) : Option zm_O := if s2 = s3 then (ck (0 ≤ s1 ∧ s1 < 600) (nu (mup σ 70 s1 1) (fun σ1 => ck (inR (x3 + 1)) (lp68 σ1 x1 (x3 + 1))))) else (ck (0 ≤ s1 ∧ s1 < 600) (nu (mup σ 70 s1 0) (fun σ3 => ck (inR (x3 + 1)) (lp68 σ3 x1 (x3 + 1)))))
theorem w_select_99 {C : zv_Cx zm_O} {G : zm_G} (h : zv_Ok C cX1_select RX1) (hc : zm_C C G 4 (Option.some FieldType.int) 1 7 155) (lp68 : MEM → Int → Int → Option zm_O) (hlp68 : ∀ (σ : MEM) (x1 x3 : Int), inR x1 → inR x3 → VV C (lp68 σ x1 x3) σ [(0, .ref (zm_h G)), (1, iv x1), (3, iv x3)] [] 68) (σ : MEM) (x1 x3 s1 s2 s3 : Int) (hx1 : inR x1) (hx3 : inR x3) (hs1 : inR s1) (hs2 : inR s2) (hs3 : inR s3) : VV C (m_select_99 lp68 σ x1 x3 s1 s2 s3) σ [(0, .ref (zm_h G)), (1, iv x1), (3, iv x3)] [iv s3, iv s2, iv s1, .ref (zm_al G 70)] 99 := by
  have hN : ∀ i, i < 4 → i < zv_n C := fun i q => by rw [hc.2.2.1]; exact q
  unfold m_select_99
  refine r_icmp_ne h hs2 hs3 106 dX1_select_99 rfl ?_ ?_
  · refine r_iconst h dX1_select_102 ?_
    refine r_goto h 107 dX1_select_103 rfl ?_
    refine zm_stZ h hc 70 70 600 (by decide) rfl rfl rfl (by decide) (by decide) dX1_select_107 (fun _ σ1 _ => ?_)
    refine r_iinc (lv' := [(3, iv (x3 + 1)), (0, .ref (zm_h G)), (1, iv x1)]) h 2 dX1_select_108 rfl (hN _ (by decide)) rfl ?_
    refine r_goto h 68 dX1_select_111 rfl ?_
    refine r_ck (fun hk2 => ?_)
    exact r_lv [1, 2, 0] rfl (hlp68 _ x1 (x3 + 1) hx1 hk2)
  · refine r_iconst h dX1_select_106 ?_
    refine zm_stZ h hc 70 70 600 (by decide) rfl rfl rfl (by decide) (by decide) dX1_select_107 (fun _ σ3 _ => ?_)
    refine r_iinc (lv' := [(3, iv (x3 + 1)), (0, .ref (zm_h G)), (1, iv x1)]) h 2 dX1_select_108 rfl (hN _ (by decide)) rfl ?_
    refine r_goto h 68 dX1_select_111 rfl ?_
    refine r_ck (fun hk4 => ?_)
    exact r_lv [1, 2, 0] rfl (hlp68 _ x1 (x3 + 1) hx1 hk4)
def m_select_68 : Nat → MEM → Int → Int → Option zm_O
  | 0, _, _, _ => none
  | n + 1, σ, x1, x3 => ck (0 ≤ (σ (-1) 7) ∧ (σ (-1) 7) < 2) (if (σ 12 (σ (-1) 7)) ≤ x3 then (m_select_116 zF σ 0) else (if (σ (-1) 85) = 0 then (m_select_99 (m_select_68 n) σ x1 x3 x3 x3 x1) else (m_select_99 (m_select_68 n) σ x1 x3 x3 x3 0)))
theorem w_select_68 {C : zv_Cx zm_O} {G : zm_G} (h : zv_Ok C cX1_select RX1) (hc : zm_C C G 4 (Option.some FieldType.int) 1 7 155) : ∀ (n : Nat) (σ : MEM) (x1 x3 : Int), inR x1 → inR x3 → VV C (m_select_68 n σ x1 x3) σ [(0, .ref (zm_h G)), (1, iv x1), (3, iv x3)] [] 68 := by
  have hN : ∀ i, i < 4 → i < zv_n C := fun i q => by rw [hc.2.2.1]; exact q
  intro n
  induction n with
  | zero => intros; exact r_none
  | succ n ih =>
    intro σ x1 x3 hx1 hx3
    rw [m_select_68]
    refine r_iload_n h 2 dX1_select_68 rfl rfl ?_
    refine r_aload_n h 0 dX1_select_69 rfl rfl ?_
    refine zm_getA h hc 12 (by decide) rfl q1492 rfl dX1_select_70 ?_
    refine r_aload_n h 0 dX1_select_73 rfl rfl ?_
    refine zm_getI h hc 7 7 (by decide) rfl rfl q1487 rfl dX1_select_74 (fun hr1 => ?_)
    refine zm_ldI h hc 12 12 2 (by decide) rfl rfl rfl (by decide) dX1_select_77 (fun _ hr2 => ?_)
    refine r_icmp_ge h hx3 hr2 114 dX1_select_78 rfl ?_ ?_
    · refine r_iconst h dX1_select_114 ?_
      refine r_istore_n (lv' := [(3, iv 0), (0, .ref (zm_h G)), (1, iv x1)]) h dX1_select_115 rfl (hN _ (by decide)) rfl ?_
      exact r_lv [1, 0] rfl (w_select_116 h hc zF _ 0 (by decide))
    · refine r_aload_n h 0 dX1_select_81 rfl rfl ?_
      refine zm_getA h hc 70 (by decide) rfl q1549 rfl dX1_select_82 ?_
      refine r_iload_n h 2 dX1_select_85 rfl rfl ?_
      refine r_iload_n h 2 dX1_select_86 rfl rfl ?_
      refine r_aload_n h 0 dX1_select_87 rfl rfl ?_
      refine zm_getZ h hc 85 85 (by decide) rfl rfl q1564 rfl dX1_select_88 (fun hr3 => ?_)
      refine r_if_eq h hr3.r 98 dX1_select_91 rfl ?_ ?_
      · refine r_iload_n h 1 dX1_select_98 rfl rfl ?_
        exact r_lv [0, 1, 2] rfl (w_select_99 h hc (m_select_68 n) ih _ x1 x3 x3 x3 x1 hx1 hx3 hx3 hx3 hx1)
      · refine r_iconst h dX1_select_94 ?_
        refine r_goto h 99 dX1_select_95 rfl ?_
        exact r_lv [0, 1, 2] rfl (w_select_99 h hc (m_select_68 n) ih _ x1 x3 x3 x3 0 hx1 hx3 hx3 hx3 (by decide))
def m_select (σ : MEM) (a0 a1 : Int) : Option zm_O := if (σ (-1) 9) = 0 then (some ((-9), σ)) else (ck (0 ≤ (σ (-1) 7) ∧ (σ (-1) 7) < 2) (ck (inR ((σ 12 (σ (-1) 7)) - 1)) (bd (m_in σ a0 0 ((σ 12 (σ (-1) 7)) - 1)) (fun r5 σ6 => if r5 = 0 then (some ((-9), σ6)) else (bd (m_in σ6 a1 0 (σ6 (-1) 1)) (fun r9 σ10 => if r9 = 0 then (some ((-9), σ10)) else (bd (m_begin σ10 a1) (fun _ σ12 => bd (m_path σ12) (fun _ σ13 => bd (m_isGood σ13) (fun r14 σ15 => if r14 = 0 then (some ((σ15 (-1) 5), σ15)) else (m_select_68 zF σ15 a0 0)))))))))))
theorem w_select {G : zm_G} (hD : zm_D G) (σ : MEM) (a0 a1 : Int) (ha0 : inR a0) (ha1 : inR a1) (o : zm_O) (hd : m_select σ a0 a1 = some o) : zm_Met G yX1_select cX1_select 4 (Option.some FieldType.int) 1 7 155 σ [.ref (zm_h G), iv a0, iv a1] o := by
  refine zm_intro hD hd (by decide) rfl (Nat.le_of_ble_eq_true rfl) rfl (fun C h hc => ?_)
  have hN : ∀ i, i < 4 → i < zv_n C := fun i q => by rw [hc.2.2.1]; exact q
  unfold m_select
  refine r_aload_n h 0 dX1_select_0 rfl rfl ?_
  refine zm_getZ h hc 9 9 (by decide) rfl rfl q1489 rfl dX1_select_1 (fun hr1 => ?_)
  refine r_if_eq h hr1.r 42 dX1_select_4 rfl ?_ ?_
  · refine r_bipush h dX1_select_42 (by decide) ?_
    exact zm_iret h hc rfl (by decide) dX1_select_44
  · refine r_iload_n h 1 dX1_select_7 rfl rfl ?_
    refine r_i2l h ha0 dX1_select_8 ?_
    refine r_lconst (x := 0) h dX1_select_9 (by decide) ?_
    refine r_aload_n h 0 dX1_select_10 rfl rfl ?_
    refine zm_getA h hc 12 (by decide) rfl q1492 rfl dX1_select_11 ?_
    refine r_aload_n h 0 dX1_select_14 rfl rfl ?_
    refine zm_getI h hc 7 7 (by decide) rfl rfl q1487 rfl dX1_select_15 (fun hr2 => ?_)
    refine zm_ldI h hc 12 12 2 (by decide) rfl rfl rfl (by decide) dX1_select_18 (fun _ hr3 => ?_)
    refine r_iconst h dX1_select_19 ?_
    refine r_isub h dX1_select_20 ?_
    refine r_ck (fun hk4 => ?_)
    refine r_i2l h hk4 dX1_select_21 ?_
    refine zm_cSz h hc (n := 3) (As := [jv a0, jv 0, jv ((σ 12 (σ (-1) 7)) - 1)]) (fun o1 e1 => w_in hc.1 _ a0 0 ((σ 12 (σ (-1) 7)) - 1) ha0.l (by decide) hk4.l o1 e1) q1790 q1791 q136 q1792 (by decide +kernel) ⟨by decide, by decide⟩ rfl (Nat.le_of_ble_eq_true rfl) rfl dX1_select_22 (fun r5 σ6 hr7 => ?_)
    refine r_if_eq h hr7.r 42 dX1_select_25 rfl ?_ ?_
    · refine r_bipush h dX1_select_42 (by decide) ?_
      exact zm_iret h hc rfl (by decide) dX1_select_44
    · refine r_iload_n h 2 dX1_select_28 rfl rfl ?_
      refine r_i2l h ha1 dX1_select_29 ?_
      refine r_lconst (x := 0) h dX1_select_30 (by decide) ?_
      refine r_aload_n h 0 dX1_select_31 rfl rfl ?_
      refine zm_getI h hc 1 1 (by decide) rfl rfl q1481 rfl dX1_select_32 (fun hr8 => ?_)
      refine r_i2l h hr8 dX1_select_35 ?_
      refine zm_cSz h hc (n := 3) (As := [jv a1, jv 0, jv (σ6 (-1) 1)]) (fun o1 e1 => w_in hc.1 _ a1 0 (σ6 (-1) 1) ha1.l (by decide) hr8.l o1 e1) q1790 q1791 q136 q1792 (by decide +kernel) ⟨by decide, by decide⟩ rfl (Nat.le_of_ble_eq_true rfl) rfl dX1_select_36 (fun r9 σ10 hr11 => ?_)
      refine r_if_ne h hr11.r 45 dX1_select_39 rfl ?_ ?_
      · refine r_bipush h dX1_select_42 (by decide) ?_
        exact zm_iret h hc rfl (by decide) dX1_select_44
      · refine r_aload_n h 0 dX1_select_45 rfl rfl ?_
        refine r_iload_n h 2 dX1_select_46 rfl rfl ?_
        refine zm_cVv h hc (n := 1) (As := [iv a1]) (fun o1 e1 => w_begin hc.1 _ a1 ha1 o1 e1) q1793 q1795 qs54 q136 q1796 (by decide +kernel) ⟨by decide, by decide⟩ rfl (Nat.le_of_ble_eq_true rfl) rfl dX1_select_47 (fun σ12  => ?_)
        refine r_aload_n h 0 dX1_select_50 rfl rfl ?_
        refine zm_cVv h hc (n := 0) (As := []) (fun o1 e1 => w_path hc.1 _ o1 e1) q2060 q2062 qs108 q136 q2063 (by decide +kernel) ⟨by decide, by decide⟩ rfl (Nat.le_of_ble_eq_true rfl) rfl dX1_select_51 (fun σ13  => ?_)
        refine r_aload_n h 0 dX1_select_54 rfl rfl ?_
        refine zm_cVz h hc (n := 0) (As := []) (fun o1 e1 => w_isGood hc.1 _ o1 e1) q1801 q1803 qs56 q136 q1804 (by decide +kernel) ⟨by decide, by decide⟩ rfl (Nat.le_of_ble_eq_true rfl) rfl dX1_select_55 (fun r14 σ15 hr16 => ?_)
        refine r_if_ne h hr16.r 66 dX1_select_58 rfl ?_ ?_
        · refine r_aload_n h 0 dX1_select_61 rfl rfl ?_
          refine zm_getI h hc 5 5 (by decide) rfl rfl q1485 rfl dX1_select_62 (fun hr17 => ?_)
          exact zm_iret h hc rfl hr17 dX1_select_65
        · refine r_iconst h dX1_select_66 ?_
          refine r_istore_n (lv' := [(3, iv 0), (0, .ref (zm_h G)), (1, iv a0), (2, iv a1)]) h dX1_select_67 rfl (hN _ (by decide)) rfl ?_
          exact r_lv [1, 2, 0] rfl (w_select_68 h hc zF _ a0 0 ha0 (by decide))
theorem dX1_told_0 : decode cX1_told 0 = .ok (.iload_n 1, 1) := by decide +kernel
theorem dX1_told_1 : decode cX1_told 1 = .ok (.i2l, 1) := by decide +kernel
theorem dX1_told_2 : decode cX1_told 2 = .ok (.lconst 0, 1) := by decide +kernel
theorem dX1_told_3 : decode cX1_told 3 = .ok (.aload_n 0, 1) := by decide +kernel
theorem dX1_told_4 : decode cX1_told 4 = .ok (.getfield 504, 3) := by decide +kernel
theorem dX1_told_7 : decode cX1_told 7 = .ok (.iconst 1, 1) := by decide +kernel
theorem dX1_told_8 : decode cX1_told 8 = .ok (.isub, 1) := by decide +kernel
theorem dX1_told_9 : decode cX1_told 9 = .ok (.i2l, 1) := by decide +kernel
theorem dX1_told_10 : decode cX1_told 10 = .ok (.invokestatic 256, 3) := by decide +kernel
theorem dX1_told_13 : decode cX1_told 13 = .ok (.ifCond .eq 12, 3) := by decide +kernel
theorem dX1_told_16 : decode cX1_told 16 = .ok (.aload_n 0, 1) := by decide +kernel
theorem dX1_told_17 : decode cX1_told 17 = .ok (.getfield 170, 3) := by decide +kernel
theorem dX1_told_20 : decode cX1_told 20 = .ok (.iload_n 1, 1) := by decide +kernel
theorem dX1_told_21 : decode cX1_told 21 = .ok (.iaload, 1) := by decide +kernel
theorem dX1_told_22 : decode cX1_told 22 = .ok (.goto 4, 3) := by decide +kernel
theorem dX1_told_25 : decode cX1_told 25 = .ok (.iconst (-1), 1) := by decide +kernel
theorem dX1_told_26 : decode cX1_told 26 = .ok (.ireturn, 1) := by decide +kernel
def m_told (σ : MEM) (a0 : Int) : Option zm_O := ck (inR ((σ (-1) 68) - 1)) (bd (m_in σ a0 0 ((σ (-1) 68) - 1)) (fun r3 σ4 => if r3 = 0 then (some ((-1), σ4)) else (ck (0 ≤ a0 ∧ a0 < 600) (some ((σ4 69 a0), σ4)))))
theorem w_told {G : zm_G} (hD : zm_D G) (σ : MEM) (a0 : Int) (ha0 : inR a0) (o : zm_O) (hd : m_told σ a0 = some o) : zm_Met G yX1_told cX1_told 2 (Option.some FieldType.int) 1 1 25 σ [.ref (zm_h G), iv a0] o := by
  refine zm_intro hD hd (by decide) rfl (Nat.le_of_ble_eq_true rfl) rfl (fun C h hc => ?_)
  have hN : ∀ i, i < 2 → i < zv_n C := fun i q => by rw [hc.2.2.1]; exact q
  unfold m_told
  refine r_iload_n h 1 dX1_told_0 rfl rfl ?_
  refine r_i2l h ha0 dX1_told_1 ?_
  refine r_lconst (x := 0) h dX1_told_2 (by decide) ?_
  refine r_aload_n h 0 dX1_told_3 rfl rfl ?_
  refine zm_getI h hc 68 68 (by decide) rfl rfl q1547 rfl dX1_told_4 (fun hr1 => ?_)
  refine r_iconst h dX1_told_7 ?_
  refine r_isub h dX1_told_8 ?_
  refine r_ck (fun hk2 => ?_)
  refine r_i2l h hk2 dX1_told_9 ?_
  refine zm_cSz h hc (n := 3) (As := [jv a0, jv 0, jv ((σ (-1) 68) - 1)]) (fun o1 e1 => w_in hc.1 _ a0 0 ((σ (-1) 68) - 1) ha0.l (by decide) hk2.l o1 e1) q1790 q1791 q136 q1792 (by decide +kernel) ⟨by decide, by decide⟩ rfl (Nat.le_of_ble_eq_true rfl) rfl dX1_told_10 (fun r3 σ4 hr5 => ?_)
  refine r_if_eq h hr5.r 25 dX1_told_13 rfl ?_ ?_
  · refine r_iconst h dX1_told_25 ?_
    exact zm_iret h hc rfl (by decide) dX1_told_26
  · refine r_aload_n h 0 dX1_told_16 rfl rfl ?_
    refine zm_getA h hc 69 (by decide) rfl q1548 rfl dX1_told_17 ?_
    refine r_iload_n h 1 dX1_told_20 rfl rfl ?_
    refine zm_ldI h hc 69 69 600 (by decide) rfl rfl rfl (by decide) dX1_told_21 (fun _ hr6 => ?_)
    refine r_goto h 26 dX1_told_22 rfl ?_
    exact zm_iret h hc rfl hr6 dX1_told_26
theorem dX1_isBlock_0 : decode cX1_isBlock 0 = .ok (.sipush 600, 3) := by decide +kernel
theorem dX1_isBlock_3 : decode cX1_isBlock 3 = .ok (.aload_n 0, 1) := by decide +kernel
theorem dX1_isBlock_4 : decode cX1_isBlock 4 = .ok (.getfield 482, 3) := by decide +kernel
theorem dX1_isBlock_7 : decode cX1_isBlock 7 = .ok (.imul, 1) := by decide +kernel
theorem dX1_isBlock_8 : decode cX1_isBlock 8 = .ok (.iload_n 1, 1) := by decide +kernel
theorem dX1_isBlock_9 : decode cX1_isBlock 9 = .ok (.iadd, 1) := by decide +kernel
theorem dX1_isBlock_10 : decode cX1_isBlock 10 = .ok (.istore_n 2, 1) := by decide +kernel
theorem dX1_isBlock_11 : decode cX1_isBlock 11 = .ok (.aload_n 0, 1) := by decide +kernel
theorem dX1_isBlock_12 : decode cX1_isBlock 12 = .ok (.getfield 31, 3) := by decide +kernel
theorem dX1_isBlock_15 : decode cX1_isBlock 15 = .ok (.iload_n 2, 1) := by decide +kernel
theorem dX1_isBlock_16 : decode cX1_isBlock 16 = .ok (.iaload, 1) := by decide +kernel
theorem dX1_isBlock_17 : decode cX1_isBlock 17 = .ok (.iconst 1, 1) := by decide +kernel
theorem dX1_isBlock_18 : decode cX1_isBlock 18 = .ok (.if_icmp .ne 31, 3) := by decide +kernel
theorem dX1_isBlock_21 : decode cX1_isBlock 21 = .ok (.aload_n 0, 1) := by decide +kernel
theorem dX1_isBlock_22 : decode cX1_isBlock 22 = .ok (.getfield 24, 3) := by decide +kernel
theorem dX1_isBlock_25 : decode cX1_isBlock 25 = .ok (.aload_n 0, 1) := by decide +kernel
theorem dX1_isBlock_26 : decode cX1_isBlock 26 = .ok (.getfield 37, 3) := by decide +kernel
theorem dX1_isBlock_29 : decode cX1_isBlock 29 = .ok (.iload_n 2, 1) := by decide +kernel
theorem dX1_isBlock_30 : decode cX1_isBlock 30 = .ok (.iaload, 1) := by decide +kernel
theorem dX1_isBlock_31 : decode cX1_isBlock 31 = .ok (.baload, 1) := by decide +kernel
theorem dX1_isBlock_32 : decode cX1_isBlock 32 = .ok (.i2l, 1) := by decide +kernel
theorem dX1_isBlock_33 : decode cX1_isBlock 33 = .ok (.ldc2_w 264, 3) := by decide +kernel
theorem dX1_isBlock_36 : decode cX1_isBlock 36 = .ok (.ldc2_w 266, 3) := by decide +kernel
theorem dX1_isBlock_39 : decode cX1_isBlock 39 = .ok (.invokestatic 256, 3) := by decide +kernel
theorem dX1_isBlock_42 : decode cX1_isBlock 42 = .ok (.ifCond .eq 7, 3) := by decide +kernel
theorem dX1_isBlock_45 : decode cX1_isBlock 45 = .ok (.iconst 1, 1) := by decide +kernel
theorem dX1_isBlock_46 : decode cX1_isBlock 46 = .ok (.goto 4, 3) := by decide +kernel
theorem dX1_isBlock_49 : decode cX1_isBlock 49 = .ok (.iconst 0, 1) := by decide +kernel
theorem dX1_isBlock_50 : decode cX1_isBlock 50 = .ok (.ireturn, 1) := by decide +kernel
def m_isBlock (σ : MEM) (a0 : Int) : Option zm_O := ck (0 ≤ ((600 * (σ (-1) 7)) + a0) ∧ ((600 * (σ (-1) 7)) + a0) < 1200) (if (σ 13 ((600 * (σ (-1) 7)) + a0)) = 1 then (ck (0 ≤ ((600 * (σ (-1) 7)) + a0) ∧ ((600 * (σ (-1) 7)) + a0) < 1200) (ck (0 ≤ (σ 15 ((600 * (σ (-1) 7)) + a0)) ∧ (σ 15 ((600 * (σ (-1) 7)) + a0)) < 12000) (bd (m_in σ (σ 11 (σ 15 ((600 * (σ (-1) 7)) + a0))) 65 90) (fun r5 σ6 => if r5 = 0 then (some (0, σ6)) else (some (1, σ6)))))) else (some (0, σ)))
theorem w_isBlock {G : zm_G} (hD : zm_D G) (σ : MEM) (a0 : Int) (ha0 : inR a0) (o : zm_O) (hd : m_isBlock σ a0 = some o) : zm_Met G yX1_isBlock cX1_isBlock 3 (Option.some FieldType.boolean) 3 1 25 σ [.ref (zm_h G), iv a0] o := by
  refine zm_intro hD hd (by decide) rfl (Nat.le_of_ble_eq_true rfl) rfl (fun C h hc => ?_)
  have hN : ∀ i, i < 3 → i < zv_n C := fun i q => by rw [hc.2.2.1]; exact q
  unfold m_isBlock
  refine r_sipush h dX1_isBlock_0 (by decide) ?_
  refine r_aload_n h 0 dX1_isBlock_3 rfl rfl ?_
  refine zm_getI h hc 7 7 (by decide) rfl rfl q1487 rfl dX1_isBlock_4 (fun hr1 => ?_)
  refine r_imul h dX1_isBlock_7 ?_
  refine r_iload_n h 1 dX1_isBlock_8 rfl rfl ?_
  refine r_iadd h dX1_isBlock_9 ?_
  refine r_istore_n (lv' := [(2, iv ((600 * (σ (-1) 7)) + a0)), (0, .ref (zm_h G)), (1, iv a0)]) h dX1_isBlock_10 rfl (hN _ (by decide)) rfl ?_
  refine r_aload_n h 1 dX1_isBlock_11 rfl rfl ?_
  refine zm_getA h hc 13 (by decide) rfl q1493 rfl dX1_isBlock_12 ?_
  refine r_iload_n h 0 dX1_isBlock_15 rfl rfl ?_
  refine zm_ldI h hc 13 13 1200 (by decide) rfl rfl rfl (by decide) dX1_isBlock_16 (fun _ hr2 => ?_)
  refine r_iconst h dX1_isBlock_17 ?_
  refine r_icmp_ne h hr2 (by decide) 49 dX1_isBlock_18 rfl ?_ ?_
  · refine r_aload_n h 1 dX1_isBlock_21 rfl rfl ?_
    refine zm_getA h hc 11 (by decide) rfl q1491 rfl dX1_isBlock_22 ?_
    refine r_aload_n h 1 dX1_isBlock_25 rfl rfl ?_
    refine zm_getA h hc 15 (by decide) rfl q1495 rfl dX1_isBlock_26 ?_
    refine r_iload_n h 0 dX1_isBlock_29 rfl rfl ?_
    refine zm_ldI h hc 15 15 1200 (by decide) rfl rfl rfl (by decide) dX1_isBlock_30 (fun _ hr3 => ?_)
    refine zm_ldB h hc 11 11 12000 (by decide) rfl rfl rfl (by decide) dX1_isBlock_31 (fun _ hr4 => ?_)
    refine r_i2l h hr4.r dX1_isBlock_32 ?_
    refine r_ldc2 (x := 65) h q1867 (by decide) dX1_isBlock_33 ?_
    refine r_ldc2 (x := 90) h q1868 (by decide) dX1_isBlock_36 ?_
    refine zm_cSz h hc (n := 3) (As := [jv (σ 11 (σ 15 ((600 * (σ (-1) 7)) + a0))), jv 65, jv 90]) (fun o1 e1 => w_in hc.1 _ (σ 11 (σ 15 ((600 * (σ (-1) 7)) + a0))) 65 90 hr4.r.l (by decide) (by decide) o1 e1) q1790 q1791 q136 q1792 (by decide +kernel) ⟨by decide, by decide⟩ rfl (Nat.le_of_ble_eq_true rfl) rfl dX1_isBlock_39 (fun r5 σ6 hr7 => ?_)
    refine r_if_eq h hr7.r 49 dX1_isBlock_42 rfl ?_ ?_
    · refine r_iconst h dX1_isBlock_49 ?_
      exact zm_zret h hc rfl (by decide) dX1_isBlock_50
    · refine r_iconst h dX1_isBlock_45 ?_
      refine r_goto h 50 dX1_isBlock_46 rfl ?_
      exact zm_zret h hc rfl (by decide) dX1_isBlock_50
  · refine r_iconst h dX1_isBlock_49 ?_
    exact zm_zret h hc rfl (by decide) dX1_isBlock_50
theorem dX1_toLine_0 : decode cX1_toLine 0 = .ok (.iload_n 1, 1) := by decide +kernel
theorem dX1_toLine_1 : decode cX1_toLine 1 = .ok (.istore_n 3, 1) := by decide +kernel
theorem dX1_toLine_2 : decode cX1_toLine 2 = .ok (.iload_n 3, 1) := by decide +kernel
theorem dX1_toLine_3 : decode cX1_toLine 3 = .ok (.iload_n 1, 1) := by decide +kernel
theorem dX1_toLine_4 : decode cX1_toLine 4 = .ok (.iload_n 2, 1) := by decide +kernel
theorem dX1_toLine_5 : decode cX1_toLine 5 = .ok (.iadd, 1) := by decide +kernel
theorem dX1_toLine_6 : decode cX1_toLine 6 = .ok (.if_icmp .ge 77, 3) := by decide +kernel
theorem dX1_toLine_9 : decode cX1_toLine 9 = .ok (.aload_n 0, 1) := by decide +kernel
theorem dX1_toLine_10 : decode cX1_toLine 10 = .ok (.getfield 219, 3) := by decide +kernel
theorem dX1_toLine_13 : decode cX1_toLine 13 = .ok (.aload_n 0, 1) := by decide +kernel
theorem dX1_toLine_14 : decode cX1_toLine 14 = .ok (.getfield 501, 3) := by decide +kernel
theorem dX1_toLine_17 : decode cX1_toLine 17 = .ok (.iaload, 1) := by decide +kernel
theorem dX1_toLine_18 : decode cX1_toLine 18 = .ok (.ifCond .ne 18, 3) := by decide +kernel
theorem dX1_toLine_21 : decode cX1_toLine 21 = .ok (.aload_n 0, 1) := by decide +kernel
theorem dX1_toLine_22 : decode cX1_toLine 22 = .ok (.getfield 228, 3) := by decide +kernel
theorem dX1_toLine_25 : decode cX1_toLine 25 = .ok (.aload_n 0, 1) := by decide +kernel
theorem dX1_toLine_26 : decode cX1_toLine 26 = .ok (.getfield 501, 3) := by decide +kernel
theorem dX1_toLine_29 : decode cX1_toLine 29 = .ok (.aload_n 0, 1) := by decide +kernel
theorem dX1_toLine_30 : decode cX1_toLine 30 = .ok (.getfield 240, 3) := by decide +kernel
theorem dX1_toLine_33 : decode cX1_toLine 33 = .ok (.iload_n 3, 1) := by decide +kernel
theorem dX1_toLine_34 : decode cX1_toLine 34 = .ok (.iaload, 1) := by decide +kernel
theorem dX1_toLine_35 : decode cX1_toLine 35 = .ok (.iastore, 1) := by decide +kernel
theorem dX1_toLine_36 : decode cX1_toLine 36 = .ok (.aload_n 0, 1) := by decide +kernel
theorem dX1_toLine_37 : decode cX1_toLine 37 = .ok (.getfield 216, 3) := by decide +kernel
theorem dX1_toLine_40 : decode cX1_toLine 40 = .ok (.bipush 60, 2) := by decide +kernel
theorem dX1_toLine_42 : decode cX1_toLine 42 = .ok (.aload_n 0, 1) := by decide +kernel
theorem dX1_toLine_43 : decode cX1_toLine 43 = .ok (.getfield 501, 3) := by decide +kernel
theorem dX1_toLine_46 : decode cX1_toLine 46 = .ok (.imul, 1) := by decide +kernel
theorem dX1_toLine_47 : decode cX1_toLine 47 = .ok (.aload_n 0, 1) := by decide +kernel
theorem dX1_toLine_48 : decode cX1_toLine 48 = .ok (.getfield 219, 3) := by decide +kernel
theorem dX1_toLine_51 : decode cX1_toLine 51 = .ok (.aload_n 0, 1) := by decide +kernel
theorem dX1_toLine_52 : decode cX1_toLine 52 = .ok (.getfield 501, 3) := by decide +kernel
theorem dX1_toLine_55 : decode cX1_toLine 55 = .ok (.iaload, 1) := by decide +kernel
theorem dX1_toLine_56 : decode cX1_toLine 56 = .ok (.iadd, 1) := by decide +kernel
theorem dX1_toLine_57 : decode cX1_toLine 57 = .ok (.aload_n 0, 1) := by decide +kernel
theorem dX1_toLine_58 : decode cX1_toLine 58 = .ok (.getfield 237, 3) := by decide +kernel
theorem dX1_toLine_61 : decode cX1_toLine 61 = .ok (.iload_n 3, 1) := by decide +kernel
theorem dX1_toLine_62 : decode cX1_toLine 62 = .ok (.baload, 1) := by decide +kernel
theorem dX1_toLine_63 : decode cX1_toLine 63 = .ok (.bastore, 1) := by decide +kernel
theorem dX1_toLine_64 : decode cX1_toLine 64 = .ok (.aload_n 0, 1) := by decide +kernel
theorem dX1_toLine_65 : decode cX1_toLine 65 = .ok (.getfield 219, 3) := by decide +kernel
theorem dX1_toLine_68 : decode cX1_toLine 68 = .ok (.aload_n 0, 1) := by decide +kernel
theorem dX1_toLine_69 : decode cX1_toLine 69 = .ok (.getfield 501, 3) := by decide +kernel
theorem dX1_toLine_72 : decode cX1_toLine 72 = .ok (.dup2, 1) := by decide +kernel
theorem dX1_toLine_73 : decode cX1_toLine 73 = .ok (.iaload, 1) := by decide +kernel
theorem dX1_toLine_74 : decode cX1_toLine 74 = .ok (.iconst 1, 1) := by decide +kernel
theorem dX1_toLine_75 : decode cX1_toLine 75 = .ok (.iadd, 1) := by decide +kernel
theorem dX1_toLine_76 : decode cX1_toLine 76 = .ok (.iastore, 1) := by decide +kernel
theorem dX1_toLine_77 : decode cX1_toLine 77 = .ok (.iinc 3 1, 3) := by decide +kernel
theorem dX1_toLine_80 : decode cX1_toLine 80 = .ok (.goto (-78), 3) := by decide +kernel
theorem dX1_toLine_83 : decode cX1_toLine 83 = .ok (.aload_n 0, 1) := by decide +kernel
theorem dX1_toLine_84 : decode cX1_toLine 84 = .ok (.iconst 1, 1) := by decide +kernel
theorem dX1_toLine_85 : decode cX1_toLine 85 = .ok (.putfield 618, 3) := by decide +kernel
theorem dX1_toLine_88 : decode cX1_toLine 88 = .ok (.return_, 1) := by decide +kernel
def m_toLine_36 (lp2 : MEM → Int → Int → Int → Option zm_O) (σ : MEM) (x1 x2 x3 : Int) : Option zm_O := ck (0 ≤ (σ (-1) 86) ∧ (σ (-1) 86) < 4000) (ck (0 ≤ x3 ∧ x3 < 2000) (ck (0 ≤ ((60 * (σ (-1) 86)) + (σ 89 (σ (-1) 86))) ∧ ((60 * (σ (-1) 86)) + (σ 89 (σ (-1) 86))) < 240000) (nu (mup σ 88 ((60 * (σ (-1) 86)) + (σ 89 (σ (-1) 86))) (σ 96 x3)) (fun σ5 => ck (0 ≤ (σ5 (-1) 86) ∧ (σ5 (-1) 86) < 4000) (ck (inR ((σ5 89 (σ5 (-1) 86)) + 1)) (ck (0 ≤ (σ5 (-1) 86) ∧ (σ5 (-1) 86) < 4000) (nu (mup σ5 89 (σ5 (-1) 86) ((σ5 89 (σ5 (-1) 86)) + 1)) (fun σ9 => ck (inR (x3 + 1)) (lp2 σ9 x1 x2 (x3 + 1))))))))))
theorem w_toLine_36 {C : zv_Cx zm_O} {G : zm_G} (h : zv_Ok C cX1_toLine RX1) (hc : zm_C C G 4 (Option.none : Option FieldType) 0 0 0) (lp2 : MEM → Int → Int → Int → Option zm_O) (hlp2 : ∀ (σ : MEM) (x1 x2 x3 : Int), inR x1 → inR x2 → inR x3 → VV C (lp2 σ x1 x2 x3) σ [(0, .ref (zm_h G)), (1, iv x1), (2, iv x2), (3, iv x3)] [] 2) (σ : MEM) (x1 x2 x3 : Int) (hx1 : inR x1) (hx2 : inR x2) (hx3 : inR x3) : VV C (m_toLine_36 lp2 σ x1 x2 x3) σ [(0, .ref (zm_h G)), (1, iv x1), (2, iv x2), (3, iv x3)] [] 36 := by
  have hN : ∀ i, i < 4 → i < zv_n C := fun i q => by rw [hc.2.2.1]; exact q
  unfold m_toLine_36
  refine r_aload_n h 0 dX1_toLine_36 rfl rfl ?_
  refine zm_getA h hc 88 (by decide) rfl q1567 rfl dX1_toLine_37 ?_
  refine r_bipush h dX1_toLine_40 (by decide) ?_
  refine r_aload_n h 0 dX1_toLine_42 rfl rfl ?_
  refine zm_getI h hc 86 86 (by decide) rfl rfl q1565 rfl dX1_toLine_43 (fun hr1 => ?_)
  refine r_imul h dX1_toLine_46 ?_
  refine r_aload_n h 0 dX1_toLine_47 rfl rfl ?_
  refine zm_getA h hc 89 (by decide) rfl q1568 rfl dX1_toLine_48 ?_
  refine r_aload_n h 0 dX1_toLine_51 rfl rfl ?_
  refine zm_getI h hc 86 86 (by decide) rfl rfl q1565 rfl dX1_toLine_52 (fun hr2 => ?_)
  refine zm_ldI h hc 89 89 4000 (by decide) rfl rfl rfl (by decide) dX1_toLine_55 (fun _ hr3 => ?_)
  refine r_iadd h dX1_toLine_56 ?_
  refine r_aload_n h 0 dX1_toLine_57 rfl rfl ?_
  refine zm_getA h hc 96 (by decide) rfl q1575 rfl dX1_toLine_58 ?_
  refine r_iload_n h 3 dX1_toLine_61 rfl rfl ?_
  refine zm_ldB h hc 96 96 2000 (by decide) rfl rfl rfl (by decide) dX1_toLine_62 (fun _ hr4 => ?_)
  refine zm_stB h hc 88 88 240000 (by decide) rfl rfl rfl (by decide) hr4 dX1_toLine_63 (fun _ σ5 _ => ?_)
  refine r_aload_n h 0 dX1_toLine_64 rfl rfl ?_
  refine zm_getA h hc 89 (by decide) rfl q1568 rfl dX1_toLine_65 ?_
  refine r_aload_n h 0 dX1_toLine_68 rfl rfl ?_
  refine zm_getI h hc 86 86 (by decide) rfl rfl q1565 rfl dX1_toLine_69 (fun hr6 => ?_)
  refine r_dup2 h dX1_toLine_72 rfl rfl ?_
  refine zm_ldI h hc 89 89 4000 (by decide) rfl rfl rfl (by decide) dX1_toLine_73 (fun _ hr7 => ?_)
  refine r_iconst h dX1_toLine_74 ?_
  refine r_iadd h dX1_toLine_75 ?_
  refine r_ck (fun hk8 => ?_)
  refine zm_stI h hc 89 89 4000 (by decide) rfl rfl rfl (by decide) hk8 dX1_toLine_76 (fun _ σ9 _ => ?_)
  refine r_iinc (lv' := [(3, iv (x3 + 1)), (0, .ref (zm_h G)), (1, iv x1), (2, iv x2)]) h 3 dX1_toLine_77 rfl (hN _ (by decide)) rfl ?_
  refine r_goto h 2 dX1_toLine_80 rfl ?_
  refine r_ck (fun hk10 => ?_)
  exact r_lv [1, 2, 3, 0] rfl (hlp2 _ x1 x2 (x3 + 1) hx1 hx2 hk10)
def m_toLine_2 : Nat → MEM → Int → Int → Int → Option zm_O
  | 0, _, _, _, _ => none
  | n + 1, σ, x1, x2, x3 => ck (inR (x1 + x2)) (if (x1 + x2) ≤ x3 then (nu (mup σ (-1) 99 1) (fun σ2 => some (0, σ2))) else (ck (0 ≤ (σ (-1) 86) ∧ (σ (-1) 86) < 4000) (if (σ 89 (σ (-1) 86)) = 0 then (ck (0 ≤ x3 ∧ x3 < 2000) (ck (0 ≤ (σ (-1) 86) ∧ (σ (-1) 86) < 4000) (nu (mup σ 92 (σ (-1) 86) (σ 97 x3)) (fun σ7 => m_toLine_36 (m_toLine_2 n) σ7 x1 x2 x3)))) else (m_toLine_36 (m_toLine_2 n) σ x1 x2 x3))))
theorem w_toLine_2 {C : zv_Cx zm_O} {G : zm_G} (h : zv_Ok C cX1_toLine RX1) (hc : zm_C C G 4 (Option.none : Option FieldType) 0 0 0) : ∀ (n : Nat) (σ : MEM) (x1 x2 x3 : Int), inR x1 → inR x2 → inR x3 → VV C (m_toLine_2 n σ x1 x2 x3) σ [(0, .ref (zm_h G)), (1, iv x1), (2, iv x2), (3, iv x3)] [] 2 := by
  have hN : ∀ i, i < 4 → i < zv_n C := fun i q => by rw [hc.2.2.1]; exact q
  intro n
  induction n with
  | zero => intros; exact r_none
  | succ n ih =>
    intro σ x1 x2 x3 hx1 hx2 hx3
    rw [m_toLine_2]
    refine r_iload_n h 3 dX1_toLine_2 rfl rfl ?_
    refine r_iload_n h 1 dX1_toLine_3 rfl rfl ?_
    refine r_iload_n h 2 dX1_toLine_4 rfl rfl ?_
    refine r_iadd h dX1_toLine_5 ?_
    refine r_ck (fun hk1 => ?_)
    refine r_icmp_ge h hx3 hk1 83 dX1_toLine_6 rfl ?_ ?_
    · refine r_aload_n h 0 dX1_toLine_83 rfl rfl ?_
      refine r_iconst h dX1_toLine_84 ?_
      refine zm_putZ h hc 99 99 (by decide) rfl rfl q1578 ⟨rfl, rfl, by decide +kernel⟩ (by decide) dX1_toLine_85 (fun σ2 _ => ?_)
      exact zm_vret h hc rfl dX1_toLine_88
    · refine r_aload_n h 0 dX1_toLine_9 rfl rfl ?_
      refine zm_getA h hc 89 (by decide) rfl q1568 rfl dX1_toLine_10 ?_
      refine r_aload_n h 0 dX1_toLine_13 rfl rfl ?_
      refine zm_getI h hc 86 86 (by decide) rfl rfl q1565 rfl dX1_toLine_14 (fun hr3 => ?_)
      refine zm_ldI h hc 89 89 4000 (by decide) rfl rfl rfl (by decide) dX1_toLine_17 (fun _ hr4 => ?_)
      refine r_if_ne h hr4 36 dX1_toLine_18 rfl ?_ ?_
      · refine r_aload_n h 0 dX1_toLine_21 rfl rfl ?_
        refine zm_getA h hc 92 (by decide) rfl q1571 rfl dX1_toLine_22 ?_
        refine r_aload_n h 0 dX1_toLine_25 rfl rfl ?_
        refine zm_getI h hc 86 86 (by decide) rfl rfl q1565 rfl dX1_toLine_26 (fun hr5 => ?_)
        refine r_aload_n h 0 dX1_toLine_29 rfl rfl ?_
        refine zm_getA h hc 97 (by decide) rfl q1576 rfl dX1_toLine_30 ?_
        refine r_iload_n h 3 dX1_toLine_33 rfl rfl ?_
        refine zm_ldI h hc 97 97 2000 (by decide) rfl rfl rfl (by decide) dX1_toLine_34 (fun _ hr6 => ?_)
        refine zm_stI h hc 92 92 4000 (by decide) rfl rfl rfl (by decide) hr6 dX1_toLine_35 (fun _ σ7 _ => ?_)
        exact r_lv [0, 1, 2, 3] rfl (w_toLine_36 h hc (m_toLine_2 n) ih _ x1 x2 x3 hx1 hx2 hx3)
      · exact r_lv [0, 1, 2, 3] rfl (w_toLine_36 h hc (m_toLine_2 n) ih _ x1 x2 x3 hx1 hx2 hx3)
def m_toLine (σ : MEM) (a0 a1 : Int) : Option zm_O := m_toLine_2 zF σ a0 a1 a0
theorem w_toLine {G : zm_G} (hD : zm_D G) (σ : MEM) (a0 a1 : Int) (ha0 : inR a0) (ha1 : inR a1) (o : zm_O) (hd : m_toLine σ a0 a1 = some o) : zm_Met G yX1_toLine cX1_toLine 4 (Option.none : Option FieldType) 0 0 0 σ [.ref (zm_h G), iv a0, iv a1] o := by
  refine zm_intro hD hd (by decide) rfl (Nat.le_of_ble_eq_true rfl) rfl (fun C h hc => ?_)
  have hN : ∀ i, i < 4 → i < zv_n C := fun i q => by rw [hc.2.2.1]; exact q
  unfold m_toLine
  refine r_iload_n h 1 dX1_toLine_0 rfl rfl ?_
  refine r_istore_n (lv' := [(3, iv a0), (0, .ref (zm_h G)), (1, iv a0), (2, iv a1)]) h dX1_toLine_1 rfl (hN _ (by decide)) rfl ?_
  exact r_lv [1, 2, 3, 0] rfl (w_toLine_2 h hc zF _ a0 a1 a0 ha0 ha1 ha0)
theorem dX1_endLine_0 : decode cX1_endLine 0 = .ok (.aload_n 0, 1) := by decide +kernel
theorem dX1_endLine_1 : decode cX1_endLine 1 = .ok (.getfield 618, 3) := by decide +kernel
theorem dX1_endLine_4 : decode cX1_endLine 4 = .ok (.ifCond .eq 18, 3) := by decide +kernel
theorem dX1_endLine_7 : decode cX1_endLine 7 = .ok (.aload_n 0, 1) := by decide +kernel
theorem dX1_endLine_8 : decode cX1_endLine 8 = .ok (.dup, 1) := by decide +kernel
theorem dX1_endLine_9 : decode cX1_endLine 9 = .ok (.getfield 501, 3) := by decide +kernel
theorem dX1_endLine_12 : decode cX1_endLine 12 = .ok (.iconst 1, 1) := by decide +kernel
theorem dX1_endLine_13 : decode cX1_endLine 13 = .ok (.iadd, 1) := by decide +kernel
theorem dX1_endLine_14 : decode cX1_endLine 14 = .ok (.putfield 501, 3) := by decide +kernel
theorem dX1_endLine_17 : decode cX1_endLine 17 = .ok (.aload_n 0, 1) := by decide +kernel
theorem dX1_endLine_18 : decode cX1_endLine 18 = .ok (.iconst 0, 1) := by decide +kernel
theorem dX1_endLine_19 : decode cX1_endLine 19 = .ok (.putfield 618, 3) := by decide +kernel
theorem dX1_endLine_22 : decode cX1_endLine 22 = .ok (.aload_n 0, 1) := by decide +kernel
theorem dX1_endLine_23 : decode cX1_endLine 23 = .ok (.getfield 219, 3) := by decide +kernel
theorem dX1_endLine_26 : decode cX1_endLine 26 = .ok (.aload_n 0, 1) := by decide +kernel
theorem dX1_endLine_27 : decode cX1_endLine 27 = .ok (.getfield 501, 3) := by decide +kernel
theorem dX1_endLine_30 : decode cX1_endLine 30 = .ok (.iconst 0, 1) := by decide +kernel
theorem dX1_endLine_31 : decode cX1_endLine 31 = .ok (.iastore, 1) := by decide +kernel
theorem dX1_endLine_32 : decode cX1_endLine 32 = .ok (.return_, 1) := by decide +kernel
def m_endLine_22 (σ : MEM) : Option zm_O := ck (0 ≤ (σ (-1) 86) ∧ (σ (-1) 86) < 4000) (nu (mup σ 89 (σ (-1) 86) 0) (fun σ2 => some (0, σ2)))
theorem w_endLine_22 {C : zv_Cx zm_O} {G : zm_G} (h : zv_Ok C cX1_endLine RX1) (hc : zm_C C G 1 (Option.none : Option FieldType) 0 0 0) (σ : MEM) : VV C (m_endLine_22 σ ) σ [(0, .ref (zm_h G))] [] 22 := by
  have hN : ∀ i, i < 1 → i < zv_n C := fun i q => by rw [hc.2.2.1]; exact q
  unfold m_endLine_22
  refine r_aload_n h 0 dX1_endLine_22 rfl rfl ?_
  refine zm_getA h hc 89 (by decide) rfl q1568 rfl dX1_endLine_23 ?_
  refine r_aload_n h 0 dX1_endLine_26 rfl rfl ?_
  refine zm_getI h hc 86 86 (by decide) rfl rfl q1565 rfl dX1_endLine_27 (fun hr1 => ?_)
  refine r_iconst h dX1_endLine_30 ?_
  refine zm_stI h hc 89 89 4000 (by decide) rfl rfl rfl (by decide) (by decide) dX1_endLine_31 (fun _ σ2 _ => ?_)
  exact zm_vret h hc rfl dX1_endLine_32
def m_endLine (σ : MEM) : Option zm_O := if (σ (-1) 99) = 0 then (m_endLine_22 σ) else (ck (inR ((σ (-1) 86) + 1)) (nu (mup σ (-1) 86 ((σ (-1) 86) + 1)) (fun σ4 => nu (mup σ4 (-1) 99 0) (fun σ5 => m_endLine_22 σ5))))
theorem w_endLine {G : zm_G} (hD : zm_D G) (σ : MEM) (o : zm_O) (hd : m_endLine σ  = some o) : zm_Met G yX1_endLine cX1_endLine 1 (Option.none : Option FieldType) 0 0 0 σ [.ref (zm_h G)] o := by
  refine zm_intro hD hd (by decide) rfl (Nat.le_of_ble_eq_true rfl) rfl (fun C h hc => ?_)
  have hN : ∀ i, i < 1 → i < zv_n C := fun i q => by rw [hc.2.2.1]; exact q
  unfold m_endLine
  refine r_aload_n h 0 dX1_endLine_0 rfl rfl ?_
  refine zm_getZ h hc 99 99 (by decide) rfl rfl q1578 rfl dX1_endLine_1 (fun hr1 => ?_)
  refine r_if_eq h hr1.r 22 dX1_endLine_4 rfl ?_ ?_
  · exact r_lv [0] rfl (w_endLine_22 h hc _)
  · refine r_aload_n h 0 dX1_endLine_7 rfl rfl ?_
    refine r_dup h dX1_endLine_8 rfl ?_
    refine zm_getI h hc 86 86 (by decide) rfl rfl q1565 rfl dX1_endLine_9 (fun hr2 => ?_)
    refine r_iconst h dX1_endLine_12 ?_
    refine r_iadd h dX1_endLine_13 ?_
    refine r_ck (fun hk3 => ?_)
    refine zm_putI h hc 86 86 (by decide) rfl rfl q1565 ⟨rfl, rfl, by decide +kernel⟩ hk3 dX1_endLine_14 (fun σ4 _ => ?_)
    refine r_aload_n h 0 dX1_endLine_17 rfl rfl ?_
    refine r_iconst h dX1_endLine_18 ?_
    refine zm_putZ h hc 99 99 (by decide) rfl rfl q1578 ⟨rfl, rfl, by decide +kernel⟩ (by decide) dX1_endLine_19 (fun σ5 _ => ?_)
    exact r_lv [0] rfl (w_endLine_22 h hc _)
theorem dX1_endWord_0 : decode cX1_endWord 0 = .ok (.aload_n 0, 1) := by decide +kernel
theorem dX1_endWord_1 : decode cX1_endWord 1 = .ok (.getfield 621, 3) := by decide +kernel
theorem dX1_endWord_4 : decode cX1_endWord 4 = .ok (.ifCond .ne 4, 3) := by decide +kernel
theorem dX1_endWord_7 : decode cX1_endWord 7 = .ok (.return_, 1) := by decide +kernel
theorem dX1_endWord_8 : decode cX1_endWord 8 = .ok (.aload_n 0, 1) := by decide +kernel
theorem dX1_endWord_9 : decode cX1_endWord 9 = .ok (.getfield 618, 3) := by decide +kernel
theorem dX1_endWord_12 : decode cX1_endWord 12 = .ok (.ifCond .eq 78, 3) := by decide +kernel
theorem dX1_endWord_15 : decode cX1_endWord 15 = .ok (.aload_n 0, 1) := by decide +kernel
theorem dX1_endWord_16 : decode cX1_endWord 16 = .ok (.getfield 219, 3) := by decide +kernel
theorem dX1_endWord_19 : decode cX1_endWord 19 = .ok (.aload_n 0, 1) := by decide +kernel
theorem dX1_endWord_20 : decode cX1_endWord 20 = .ok (.getfield 501, 3) := by decide +kernel
theorem dX1_endWord_23 : decode cX1_endWord 23 = .ok (.iaload, 1) := by decide +kernel
theorem dX1_endWord_24 : decode cX1_endWord 24 = .ok (.iconst 1, 1) := by decide +kernel
theorem dX1_endWord_25 : decode cX1_endWord 25 = .ok (.iadd, 1) := by decide +kernel
theorem dX1_endWord_26 : decode cX1_endWord 26 = .ok (.aload_n 0, 1) := by decide +kernel
theorem dX1_endWord_27 : decode cX1_endWord 27 = .ok (.getfield 621, 3) := by decide +kernel
theorem dX1_endWord_30 : decode cX1_endWord 30 = .ok (.iadd, 1) := by decide +kernel
theorem dX1_endWord_31 : decode cX1_endWord 31 = .ok (.aload_n 0, 1) := by decide +kernel
theorem dX1_endWord_32 : decode cX1_endWord 32 = .ok (.getfield 624, 3) := by decide +kernel
theorem dX1_endWord_35 : decode cX1_endWord 35 = .ok (.if_icmp .gt 55, 3) := by decide +kernel
theorem dX1_endWord_38 : decode cX1_endWord 38 = .ok (.aload_n 0, 1) := by decide +kernel
theorem dX1_endWord_39 : decode cX1_endWord 39 = .ok (.getfield 216, 3) := by decide +kernel
theorem dX1_endWord_42 : decode cX1_endWord 42 = .ok (.bipush 60, 2) := by decide +kernel
theorem dX1_endWord_44 : decode cX1_endWord 44 = .ok (.aload_n 0, 1) := by decide +kernel
theorem dX1_endWord_45 : decode cX1_endWord 45 = .ok (.getfield 501, 3) := by decide +kernel
theorem dX1_endWord_48 : decode cX1_endWord 48 = .ok (.imul, 1) := by decide +kernel
theorem dX1_endWord_49 : decode cX1_endWord 49 = .ok (.aload_n 0, 1) := by decide +kernel
theorem dX1_endWord_50 : decode cX1_endWord 50 = .ok (.getfield 219, 3) := by decide +kernel
theorem dX1_endWord_53 : decode cX1_endWord 53 = .ok (.aload_n 0, 1) := by decide +kernel
theorem dX1_endWord_54 : decode cX1_endWord 54 = .ok (.getfield 501, 3) := by decide +kernel
theorem dX1_endWord_57 : decode cX1_endWord 57 = .ok (.iaload, 1) := by decide +kernel
theorem dX1_endWord_58 : decode cX1_endWord 58 = .ok (.iadd, 1) := by decide +kernel
theorem dX1_endWord_59 : decode cX1_endWord 59 = .ok (.bipush 32, 2) := by decide +kernel
theorem dX1_endWord_61 : decode cX1_endWord 61 = .ok (.bastore, 1) := by decide +kernel
theorem dX1_endWord_62 : decode cX1_endWord 62 = .ok (.aload_n 0, 1) := by decide +kernel
theorem dX1_endWord_63 : decode cX1_endWord 63 = .ok (.getfield 219, 3) := by decide +kernel
theorem dX1_endWord_66 : decode cX1_endWord 66 = .ok (.aload_n 0, 1) := by decide +kernel
theorem dX1_endWord_67 : decode cX1_endWord 67 = .ok (.getfield 501, 3) := by decide +kernel
theorem dX1_endWord_70 : decode cX1_endWord 70 = .ok (.dup2, 1) := by decide +kernel
theorem dX1_endWord_71 : decode cX1_endWord 71 = .ok (.iaload, 1) := by decide +kernel
theorem dX1_endWord_72 : decode cX1_endWord 72 = .ok (.iconst 1, 1) := by decide +kernel
theorem dX1_endWord_73 : decode cX1_endWord 73 = .ok (.iadd, 1) := by decide +kernel
theorem dX1_endWord_74 : decode cX1_endWord 74 = .ok (.iastore, 1) := by decide +kernel
theorem dX1_endWord_75 : decode cX1_endWord 75 = .ok (.aload_n 0, 1) := by decide +kernel
theorem dX1_endWord_76 : decode cX1_endWord 76 = .ok (.iconst 0, 1) := by decide +kernel
theorem dX1_endWord_77 : decode cX1_endWord 77 = .ok (.aload_n 0, 1) := by decide +kernel
theorem dX1_endWord_78 : decode cX1_endWord 78 = .ok (.getfield 621, 3) := by decide +kernel
theorem dX1_endWord_81 : decode cX1_endWord 81 = .ok (.invokevirtual 627, 3) := by decide +kernel
theorem dX1_endWord_84 : decode cX1_endWord 84 = .ok (.aload_n 0, 1) := by decide +kernel
theorem dX1_endWord_85 : decode cX1_endWord 85 = .ok (.iconst 0, 1) := by decide +kernel
theorem dX1_endWord_86 : decode cX1_endWord 86 = .ok (.putfield 621, 3) := by decide +kernel
theorem dX1_endWord_89 : decode cX1_endWord 89 = .ok (.return_, 1) := by decide +kernel
theorem dX1_endWord_90 : decode cX1_endWord 90 = .ok (.aload_n 0, 1) := by decide +kernel
theorem dX1_endWord_91 : decode cX1_endWord 91 = .ok (.invokevirtual 630, 3) := by decide +kernel
theorem dX1_endWord_94 : decode cX1_endWord 94 = .ok (.iconst 0, 1) := by decide +kernel
theorem dX1_endWord_95 : decode cX1_endWord 95 = .ok (.istore_n 1, 1) := by decide +kernel
theorem dX1_endWord_96 : decode cX1_endWord 96 = .ok (.aload_n 0, 1) := by decide +kernel
theorem dX1_endWord_97 : decode cX1_endWord 97 = .ok (.getfield 621, 3) := by decide +kernel
theorem dX1_endWord_100 : decode cX1_endWord 100 = .ok (.iload_n 1, 1) := by decide +kernel
theorem dX1_endWord_101 : decode cX1_endWord 101 = .ok (.isub, 1) := by decide +kernel
theorem dX1_endWord_102 : decode cX1_endWord 102 = .ok (.aload_n 0, 1) := by decide +kernel
theorem dX1_endWord_103 : decode cX1_endWord 103 = .ok (.getfield 624, 3) := by decide +kernel
theorem dX1_endWord_106 : decode cX1_endWord 106 = .ok (.if_icmp .le 26, 3) := by decide +kernel
theorem dX1_endWord_109 : decode cX1_endWord 109 = .ok (.aload_n 0, 1) := by decide +kernel
theorem dX1_endWord_110 : decode cX1_endWord 110 = .ok (.iload_n 1, 1) := by decide +kernel
theorem dX1_endWord_111 : decode cX1_endWord 111 = .ok (.aload_n 0, 1) := by decide +kernel
theorem dX1_endWord_112 : decode cX1_endWord 112 = .ok (.getfield 624, 3) := by decide +kernel
theorem dX1_endWord_115 : decode cX1_endWord 115 = .ok (.invokevirtual 627, 3) := by decide +kernel
theorem dX1_endWord_118 : decode cX1_endWord 118 = .ok (.aload_n 0, 1) := by decide +kernel
theorem dX1_endWord_119 : decode cX1_endWord 119 = .ok (.invokevirtual 630, 3) := by decide +kernel
theorem dX1_endWord_122 : decode cX1_endWord 122 = .ok (.iload_n 1, 1) := by decide +kernel
theorem dX1_endWord_123 : decode cX1_endWord 123 = .ok (.aload_n 0, 1) := by decide +kernel
theorem dX1_endWord_124 : decode cX1_endWord 124 = .ok (.getfield 624, 3) := by decide +kernel
theorem dX1_endWord_127 : decode cX1_endWord 127 = .ok (.iadd, 1) := by decide +kernel
theorem dX1_endWord_128 : decode cX1_endWord 128 = .ok (.istore_n 1, 1) := by decide +kernel
theorem dX1_endWord_129 : decode cX1_endWord 129 = .ok (.goto (-33), 3) := by decide +kernel
theorem dX1_endWord_132 : decode cX1_endWord 132 = .ok (.aload_n 0, 1) := by decide +kernel
theorem dX1_endWord_133 : decode cX1_endWord 133 = .ok (.iload_n 1, 1) := by decide +kernel
theorem dX1_endWord_134 : decode cX1_endWord 134 = .ok (.aload_n 0, 1) := by decide +kernel
theorem dX1_endWord_135 : decode cX1_endWord 135 = .ok (.getfield 621, 3) := by decide +kernel
theorem dX1_endWord_138 : decode cX1_endWord 138 = .ok (.iload_n 1, 1) := by decide +kernel
theorem dX1_endWord_139 : decode cX1_endWord 139 = .ok (.isub, 1) := by decide +kernel
theorem dX1_endWord_140 : decode cX1_endWord 140 = .ok (.invokevirtual 627, 3) := by decide +kernel
theorem dX1_endWord_143 : decode cX1_endWord 143 = .ok (.aload_n 0, 1) := by decide +kernel
theorem dX1_endWord_144 : decode cX1_endWord 144 = .ok (.iconst 0, 1) := by decide +kernel
theorem dX1_endWord_145 : decode cX1_endWord 145 = .ok (.putfield 621, 3) := by decide +kernel
theorem dX1_endWord_148 : decode cX1_endWord 148 = .ok (.return_, 1) := by decide +kernel
def m_endWord_96 : Nat → MEM → Int → Option zm_O
  | 0, _, _ => none
  | n + 1, σ, x1 => ck (inR ((σ (-1) 98) - x1)) (if ((σ (-1) 98) - x1) ≤ (σ (-1) 100) then (ck (inR ((σ (-1) 98) - x1)) (bd (m_toLine σ x1 ((σ (-1) 98) - x1)) (fun _ σ6 => nu (mup σ6 (-1) 98 0) (fun σ7 => some (0, σ7))))) else (bd (m_toLine σ x1 (σ (-1) 100)) (fun _ σ9 => bd (m_endLine σ9) (fun _ σ10 => ck (inR (x1 + (σ10 (-1) 100))) (m_endWord_96 n σ10 (x1 + (σ10 (-1) 100)))))))
theorem w_endWord_96 {C : zv_Cx zm_O} {G : zm_G} (h : zv_Ok C cX1_endWord RX1) (hc : zm_C C G 2 (Option.none : Option FieldType) 0 1 23) : ∀ (n : Nat) (σ : MEM) (x1 : Int), inR x1 → VV C (m_endWord_96 n σ x1) σ [(0, .ref (zm_h G)), (1, iv x1)] [] 96 := by
  have hN : ∀ i, i < 2 → i < zv_n C := fun i q => by rw [hc.2.2.1]; exact q
  intro n
  induction n with
  | zero => intros; exact r_none
  | succ n ih =>
    intro σ x1 hx1
    rw [m_endWord_96]
    refine r_aload_n h 0 dX1_endWord_96 rfl rfl ?_
    refine zm_getI h hc 98 98 (by decide) rfl rfl q1577 rfl dX1_endWord_97 (fun hr1 => ?_)
    refine r_iload_n h 1 dX1_endWord_100 rfl rfl ?_
    refine r_isub h dX1_endWord_101 ?_
    refine r_aload_n h 0 dX1_endWord_102 rfl rfl ?_
    refine zm_getI h hc 100 100 (by decide) rfl rfl q1579 rfl dX1_endWord_103 (fun hr2 => ?_)
    refine r_ck (fun hk3 => ?_)
    refine r_icmp_le h hk3 hr2 132 dX1_endWord_106 rfl ?_ ?_
    · refine r_aload_n h 0 dX1_endWord_132 rfl rfl ?_
      refine r_iload_n h 1 dX1_endWord_133 rfl rfl ?_
      refine r_aload_n h 0 dX1_endWord_134 rfl rfl ?_
      refine zm_getI h hc 98 98 (by decide) rfl rfl q1577 rfl dX1_endWord_135 (fun hr4 => ?_)
      refine r_iload_n h 1 dX1_endWord_138 rfl rfl ?_
      refine r_isub h dX1_endWord_139 ?_
      refine r_ck (fun hk5 => ?_)
      refine zm_cVv h hc (n := 2) (As := [iv x1, iv ((σ (-1) 98) - x1)]) (fun o1 e1 => w_toLine hc.1 _ x1 ((σ (-1) 98) - x1) hx1 hk5 o1 e1) q2139 q2141 qs124 q136 q2142 (by decide +kernel) ⟨by decide, by decide⟩ rfl (Nat.le_of_ble_eq_true rfl) rfl dX1_endWord_140 (fun σ6  => ?_)
      refine r_aload_n h 0 dX1_endWord_143 rfl rfl ?_
      refine r_iconst h dX1_endWord_144 ?_
      refine zm_putI h hc 98 98 (by decide) rfl rfl q1577 ⟨rfl, rfl, by decide +kernel⟩ (by decide) dX1_endWord_145 (fun σ7 _ => ?_)
      exact zm_vret h hc rfl dX1_endWord_148
    · refine r_aload_n h 0 dX1_endWord_109 rfl rfl ?_
      refine r_iload_n h 1 dX1_endWord_110 rfl rfl ?_
      refine r_aload_n h 0 dX1_endWord_111 rfl rfl ?_
      refine zm_getI h hc 100 100 (by decide) rfl rfl q1579 rfl dX1_endWord_112 (fun hr8 => ?_)
      refine zm_cVv h hc (n := 2) (As := [iv x1, iv (σ (-1) 100)]) (fun o1 e1 => w_toLine hc.1 _ x1 (σ (-1) 100) hx1 hr8 o1 e1) q2139 q2141 qs124 q136 q2142 (by decide +kernel) ⟨by decide, by decide⟩ rfl (Nat.le_of_ble_eq_true rfl) rfl dX1_endWord_115 (fun σ9  => ?_)
      refine r_aload_n h 0 dX1_endWord_118 rfl rfl ?_
      refine zm_cVv h hc (n := 0) (As := []) (fun o1 e1 => w_endLine hc.1 _ o1 e1) q2143 q2145 qs125 q136 q2146 (by decide +kernel) ⟨by decide, by decide⟩ rfl (Nat.le_of_ble_eq_true rfl) rfl dX1_endWord_119 (fun σ10  => ?_)
      refine r_iload_n h 1 dX1_endWord_122 rfl rfl ?_
      refine r_aload_n h 0 dX1_endWord_123 rfl rfl ?_
      refine zm_getI h hc 100 100 (by decide) rfl rfl q1579 rfl dX1_endWord_124 (fun hr11 => ?_)
      refine r_iadd h dX1_endWord_127 ?_
      refine r_istore_n (lv' := [(1, iv (x1 + (σ10 (-1) 100))), (0, .ref (zm_h G))]) h dX1_endWord_128 rfl (hN _ (by decide)) rfl ?_
      refine r_goto h 96 dX1_endWord_129 rfl ?_
      refine r_ck (fun hk12 => ?_)
      exact r_lv [1, 0] rfl (ih _ (x1 + (σ10 (-1) 100)) hk12)
def m_endWord (σ : MEM) : Option zm_O := if (σ (-1) 98) = 0 then (some (0, σ)) else (if (σ (-1) 99) = 0 then (bd (m_endLine σ) (fun _ σ3 => m_endWord_96 zF σ3 0)) else (ck (0 ≤ (σ (-1) 86) ∧ (σ (-1) 86) < 4000) (ck (inR (((σ 89 (σ (-1) 86)) + 1) + (σ (-1) 98))) (if (σ (-1) 100) < (((σ 89 (σ (-1) 86)) + 1) + (σ (-1) 98)) then (bd (m_endLine σ) (fun _ σ9 => m_endWord_96 zF σ9 0)) else (ck (0 ≤ (σ (-1) 86) ∧ (σ (-1) 86) < 4000) (ck (0 ≤ ((60 * (σ (-1) 86)) + (σ 89 (σ (-1) 86))) ∧ ((60 * (σ (-1) 86)) + (σ 89 (σ (-1) 86))) < 240000) (nu (mup σ 88 ((60 * (σ (-1) 86)) + (σ 89 (σ (-1) 86))) 32) (fun σ13 => ck (0 ≤ (σ13 (-1) 86) ∧ (σ13 (-1) 86) < 4000) (ck (inR ((σ13 89 (σ13 (-1) 86)) + 1)) (ck (0 ≤ (σ13 (-1) 86) ∧ (σ13 (-1) 86) < 4000) (nu (mup σ13 89 (σ13 (-1) 86) ((σ13 89 (σ13 (-1) 86)) + 1)) (fun σ17 => bd (m_toLine σ17 0 (σ17 (-1) 98)) (fun _ σ19 => nu (mup σ19 (-1) 98 0) (fun σ20 => some (0, σ20)))))))))))))))
theorem w_endWord {G : zm_G} (hD : zm_D G) (σ : MEM) (o : zm_O) (hd : m_endWord σ  = some o) : zm_Met G yX1_endWord cX1_endWord 2 (Option.none : Option FieldType) 0 1 23 σ [.ref (zm_h G)] o := by
  refine zm_intro hD hd (by decide) rfl (Nat.le_of_ble_eq_true rfl) rfl (fun C h hc => ?_)
  have hN : ∀ i, i < 2 → i < zv_n C := fun i q => by rw [hc.2.2.1]; exact q
  unfold m_endWord
  refine r_aload_n h 0 dX1_endWord_0 rfl rfl ?_
  refine zm_getI h hc 98 98 (by decide) rfl rfl q1577 rfl dX1_endWord_1 (fun hr1 => ?_)
  refine r_if_ne h hr1 8 dX1_endWord_4 rfl ?_ ?_
  · exact zm_vret h hc rfl dX1_endWord_7
  · refine r_aload_n h 0 dX1_endWord_8 rfl rfl ?_
    refine zm_getZ h hc 99 99 (by decide) rfl rfl q1578 rfl dX1_endWord_9 (fun hr2 => ?_)
    refine r_if_eq h hr2.r 90 dX1_endWord_12 rfl ?_ ?_
    · refine r_aload_n h 0 dX1_endWord_90 rfl rfl ?_
      refine zm_cVv h hc (n := 0) (As := []) (fun o1 e1 => w_endLine hc.1 _ o1 e1) q2143 q2145 qs125 q136 q2146 (by decide +kernel) ⟨by decide, by decide⟩ rfl (Nat.le_of_ble_eq_true rfl) rfl dX1_endWord_91 (fun σ3  => ?_)
      refine r_iconst h dX1_endWord_94 ?_
      refine r_istore_n (lv' := [(1, iv 0), (0, .ref (zm_h G))]) h dX1_endWord_95 rfl (hN _ (by decide)) rfl ?_
      exact r_lv [1, 0] rfl (w_endWord_96 h hc zF _ 0 (by decide))
    · refine r_aload_n h 0 dX1_endWord_15 rfl rfl ?_
      refine zm_getA h hc 89 (by decide) rfl q1568 rfl dX1_endWord_16 ?_
      refine r_aload_n h 0 dX1_endWord_19 rfl rfl ?_
      refine zm_getI h hc 86 86 (by decide) rfl rfl q1565 rfl dX1_endWord_20 (fun hr4 => ?_)
      refine zm_ldI h hc 89 89 4000 (by decide) rfl rfl rfl (by decide) dX1_endWord_23 (fun _ hr5 => ?_)
      refine r_iconst h dX1_endWord_24 ?_
      refine r_iadd h dX1_endWord_25 ?_
      refine r_aload_n h 0 dX1_endWord_26 rfl rfl ?_
      refine zm_getI h hc 98 98 (by decide) rfl rfl q1577 rfl dX1_endWord_27 (fun hr6 => ?_)
      refine r_iadd h dX1_endWord_30 ?_
      refine r_aload_n h 0 dX1_endWord_31 rfl rfl ?_
      refine zm_getI h hc 100 100 (by decide) rfl rfl q1579 rfl dX1_endWord_32 (fun hr7 => ?_)
      refine r_ck (fun hk8 => ?_)
      refine r_icmp_gt h hk8 hr7 90 dX1_endWord_35 rfl ?_ ?_
      · refine r_aload_n h 0 dX1_endWord_90 rfl rfl ?_
        refine zm_cVv h hc (n := 0) (As := []) (fun o1 e1 => w_endLine hc.1 _ o1 e1) q2143 q2145 qs125 q136 q2146 (by decide +kernel) ⟨by decide, by decide⟩ rfl (Nat.le_of_ble_eq_true rfl) rfl dX1_endWord_91 (fun σ9  => ?_)
        refine r_iconst h dX1_endWord_94 ?_
        refine r_istore_n (lv' := [(1, iv 0), (0, .ref (zm_h G))]) h dX1_endWord_95 rfl (hN _ (by decide)) rfl ?_
        exact r_lv [1, 0] rfl (w_endWord_96 h hc zF _ 0 (by decide))
      · refine r_aload_n h 0 dX1_endWord_38 rfl rfl ?_
        refine zm_getA h hc 88 (by decide) rfl q1567 rfl dX1_endWord_39 ?_
        refine r_bipush h dX1_endWord_42 (by decide) ?_
        refine r_aload_n h 0 dX1_endWord_44 rfl rfl ?_
        refine zm_getI h hc 86 86 (by decide) rfl rfl q1565 rfl dX1_endWord_45 (fun hr10 => ?_)
        refine r_imul h dX1_endWord_48 ?_
        refine r_aload_n h 0 dX1_endWord_49 rfl rfl ?_
        refine zm_getA h hc 89 (by decide) rfl q1568 rfl dX1_endWord_50 ?_
        refine r_aload_n h 0 dX1_endWord_53 rfl rfl ?_
        refine zm_getI h hc 86 86 (by decide) rfl rfl q1565 rfl dX1_endWord_54 (fun hr11 => ?_)
        refine zm_ldI h hc 89 89 4000 (by decide) rfl rfl rfl (by decide) dX1_endWord_57 (fun _ hr12 => ?_)
        refine r_iadd h dX1_endWord_58 ?_
        refine r_bipush h dX1_endWord_59 (by decide) ?_
        refine zm_stB h hc 88 88 240000 (by decide) rfl rfl rfl (by decide) (by decide) dX1_endWord_61 (fun _ σ13 _ => ?_)
        refine r_aload_n h 0 dX1_endWord_62 rfl rfl ?_
        refine zm_getA h hc 89 (by decide) rfl q1568 rfl dX1_endWord_63 ?_
        refine r_aload_n h 0 dX1_endWord_66 rfl rfl ?_
        refine zm_getI h hc 86 86 (by decide) rfl rfl q1565 rfl dX1_endWord_67 (fun hr14 => ?_)
        refine r_dup2 h dX1_endWord_70 rfl rfl ?_
        refine zm_ldI h hc 89 89 4000 (by decide) rfl rfl rfl (by decide) dX1_endWord_71 (fun _ hr15 => ?_)
        refine r_iconst h dX1_endWord_72 ?_
        refine r_iadd h dX1_endWord_73 ?_
        refine r_ck (fun hk16 => ?_)
        refine zm_stI h hc 89 89 4000 (by decide) rfl rfl rfl (by decide) hk16 dX1_endWord_74 (fun _ σ17 _ => ?_)
        refine r_aload_n h 0 dX1_endWord_75 rfl rfl ?_
        refine r_iconst h dX1_endWord_76 ?_
        refine r_aload_n h 0 dX1_endWord_77 rfl rfl ?_
        refine zm_getI h hc 98 98 (by decide) rfl rfl q1577 rfl dX1_endWord_78 (fun hr18 => ?_)
        refine zm_cVv h hc (n := 2) (As := [iv 0, iv (σ17 (-1) 98)]) (fun o1 e1 => w_toLine hc.1 _ 0 (σ17 (-1) 98) (by decide) hr18 o1 e1) q2139 q2141 qs124 q136 q2142 (by decide +kernel) ⟨by decide, by decide⟩ rfl (Nat.le_of_ble_eq_true rfl) rfl dX1_endWord_81 (fun σ19  => ?_)
        refine r_aload_n h 0 dX1_endWord_84 rfl rfl ?_
        refine r_iconst h dX1_endWord_85 ?_
        refine zm_putI h hc 98 98 (by decide) rfl rfl q1577 ⟨rfl, rfl, by decide +kernel⟩ (by decide) dX1_endWord_86 (fun σ20 _ => ?_)
        exact zm_vret h hc rfl dX1_endWord_89
theorem dX1_leave_0 : decode cX1_leave 0 = .ok (.iload_n 1, 1) := by decide +kernel
theorem dX1_leave_1 : decode cX1_leave 1 = .ok (.istore_n 3, 1) := by decide +kernel
theorem dX1_leave_2 : decode cX1_leave 2 = .ok (.iload_n 3, 1) := by decide +kernel
theorem dX1_leave_3 : decode cX1_leave 3 = .ok (.ifCond .le 97, 3) := by decide +kernel
theorem dX1_leave_6 : decode cX1_leave 6 = .ok (.aload_n 0, 1) := by decide +kernel
theorem dX1_leave_7 : decode cX1_leave 7 = .ok (.iload_n 2, 1) := by decide +kernel
theorem dX1_leave_8 : decode cX1_leave 8 = .ok (.iload_n 3, 1) := by decide +kernel
theorem dX1_leave_9 : decode cX1_leave 9 = .ok (.invokevirtual 603, 3) := by decide +kernel
theorem dX1_leave_12 : decode cX1_leave 12 = .ok (.ifCond .ne 88, 3) := by decide +kernel
theorem dX1_leave_15 : decode cX1_leave 15 = .ok (.aload_n 0, 1) := by decide +kernel
theorem dX1_leave_16 : decode cX1_leave 16 = .ok (.iload_n 3, 1) := by decide +kernel
theorem dX1_leave_17 : decode cX1_leave 17 = .ok (.invokevirtual 633, 3) := by decide +kernel
theorem dX1_leave_20 : decode cX1_leave 20 = .ok (.ifCond .eq 61, 3) := by decide +kernel
theorem dX1_leave_23 : decode cX1_leave 23 = .ok (.aload_n 0, 1) := by decide +kernel
theorem dX1_leave_24 : decode cX1_leave 24 = .ok (.invokevirtual 636, 3) := by decide +kernel
theorem dX1_leave_27 : decode cX1_leave 27 = .ok (.aload_n 0, 1) := by decide +kernel
theorem dX1_leave_28 : decode cX1_leave 28 = .ok (.invokevirtual 630, 3) := by decide +kernel
theorem dX1_leave_31 : decode cX1_leave 31 = .ok (.iconst 0, 1) := by decide +kernel
theorem dX1_leave_32 : decode cX1_leave 32 = .ok (.istore 4, 2) := by decide +kernel
theorem dX1_leave_34 : decode cX1_leave 34 = .ok (.iload 4, 2) := by decide +kernel
theorem dX1_leave_36 : decode cX1_leave 36 = .ok (.aload_n 0, 1) := by decide +kernel
theorem dX1_leave_37 : decode cX1_leave 37 = .ok (.getfield 639, 3) := by decide +kernel
theorem dX1_leave_40 : decode cX1_leave 40 = .ok (.if_icmp .ge 41, 3) := by decide +kernel
theorem dX1_leave_43 : decode cX1_leave 43 = .ok (.aload_n 0, 1) := by decide +kernel
theorem dX1_leave_44 : decode cX1_leave 44 = .ok (.getfield 234, 3) := by decide +kernel
theorem dX1_leave_47 : decode cX1_leave 47 = .ok (.iload 4, 2) := by decide +kernel
theorem dX1_leave_49 : decode cX1_leave 49 = .ok (.aload_n 0, 1) := by decide +kernel
theorem dX1_leave_50 : decode cX1_leave 50 = .ok (.getfield 243, 3) := by decide +kernel
theorem dX1_leave_53 : decode cX1_leave 53 = .ok (.iload 4, 2) := by decide +kernel
theorem dX1_leave_55 : decode cX1_leave 55 = .ok (.iaload, 1) := by decide +kernel
theorem dX1_leave_56 : decode cX1_leave 56 = .ok (.iload_n 3, 1) := by decide +kernel
theorem dX1_leave_57 : decode cX1_leave 57 = .ok (.if_icmp .ne 10, 3) := by decide +kernel
theorem dX1_leave_60 : decode cX1_leave 60 = .ok (.aload_n 0, 1) := by decide +kernel
theorem dX1_leave_61 : decode cX1_leave 61 = .ok (.getfield 501, 3) := by decide +kernel
theorem dX1_leave_64 : decode cX1_leave 64 = .ok (.goto 10, 3) := by decide +kernel
theorem dX1_leave_67 : decode cX1_leave 67 = .ok (.aload_n 0, 1) := by decide +kernel
theorem dX1_leave_68 : decode cX1_leave 68 = .ok (.getfield 234, 3) := by decide +kernel
theorem dX1_leave_71 : decode cX1_leave 71 = .ok (.iload 4, 2) := by decide +kernel
theorem dX1_leave_73 : decode cX1_leave 73 = .ok (.iaload, 1) := by decide +kernel
theorem dX1_leave_74 : decode cX1_leave 74 = .ok (.iastore, 1) := by decide +kernel
theorem dX1_leave_75 : decode cX1_leave 75 = .ok (.iinc 4 1, 3) := by decide +kernel
theorem dX1_leave_78 : decode cX1_leave 78 = .ok (.goto (-44), 3) := by decide +kernel
theorem dX1_leave_81 : decode cX1_leave 81 = .ok (.aload_n 0, 1) := by decide +kernel
theorem dX1_leave_82 : decode cX1_leave 82 = .ok (.getfield 34, 3) := by decide +kernel
theorem dX1_leave_85 : decode cX1_leave 85 = .ok (.sipush 600, 3) := by decide +kernel
theorem dX1_leave_88 : decode cX1_leave 88 = .ok (.aload_n 0, 1) := by decide +kernel
theorem dX1_leave_89 : decode cX1_leave 89 = .ok (.getfield 482, 3) := by decide +kernel
theorem dX1_leave_92 : decode cX1_leave 92 = .ok (.imul, 1) := by decide +kernel
theorem dX1_leave_93 : decode cX1_leave 93 = .ok (.iload_n 3, 1) := by decide +kernel
theorem dX1_leave_94 : decode cX1_leave 94 = .ok (.iadd, 1) := by decide +kernel
theorem dX1_leave_95 : decode cX1_leave 95 = .ok (.iaload, 1) := by decide +kernel
theorem dX1_leave_96 : decode cX1_leave 96 = .ok (.istore_n 3, 1) := by decide +kernel
theorem dX1_leave_97 : decode cX1_leave 97 = .ok (.goto (-95), 3) := by decide +kernel
theorem dX1_leave_100 : decode cX1_leave 100 = .ok (.iload_n 3, 1) := by decide +kernel
theorem dX1_leave_101 : decode cX1_leave 101 = .ok (.ireturn, 1) := by decide +kernel
def m_leave_81 (lp2 : MEM → Int → Int → Option zm_O) (σ : MEM) (x2 x3 : Int) : Option zm_O := ck (0 ≤ ((600 * (σ (-1) 7)) + x3) ∧ ((600 * (σ (-1) 7)) + x3) < 1200) (lp2 σ x2 (σ 14 ((600 * (σ (-1) 7)) + x3)))
theorem w_leave_81 {C : zv_Cx zm_O} {G : zm_G} (h : zv_Ok C cX1_leave RX1) (hc : zm_C C G 5 (Option.some FieldType.int) 1 2 47) (lp2 : MEM → Int → Int → Option zm_O) (hlp2 : ∀ (σ : MEM) (x2 x3 : Int), inR x2 → inR x3 → VV C (lp2 σ x2 x3) σ [(0, .ref (zm_h G)), (2, iv x2), (3, iv x3)] [] 2) (σ : MEM) (x2 x3 : Int) (hx2 : inR x2) (hx3 : inR x3) : VV C (m_leave_81 lp2 σ x2 x3) σ [(0, .ref (zm_h G)), (2, iv x2), (3, iv x3)] [] 81 := by
  have hN : ∀ i, i < 5 → i < zv_n C := fun i q => by rw [hc.2.2.1]; exact q
  unfold m_leave_81
  refine r_aload_n h 0 dX1_leave_81 rfl rfl ?_
  refine zm_getA h hc 14 (by decide) rfl q1494 rfl dX1_leave_82 ?_
  refine r_sipush h dX1_leave_85 (by decide) ?_
  refine r_aload_n h 0 dX1_leave_88 rfl rfl ?_
  refine zm_getI h hc 7 7 (by decide) rfl rfl q1487 rfl dX1_leave_89 (fun hr1 => ?_)
  refine r_imul h dX1_leave_92 ?_
  refine r_iload_n h 2 dX1_leave_93 rfl rfl ?_
  refine r_iadd h dX1_leave_94 ?_
  refine zm_ldI h hc 14 14 1200 (by decide) rfl rfl rfl (by decide) dX1_leave_95 (fun _ hr2 => ?_)
  refine r_istore_n (lv' := [(3, iv (σ 14 ((600 * (σ (-1) 7)) + x3))), (0, .ref (zm_h G)), (2, iv x2)]) h dX1_leave_96 rfl (hN _ (by decide)) rfl ?_
  refine r_goto h 2 dX1_leave_97 rfl ?_
  exact r_lv [1, 2, 0] rfl (hlp2 _ x2 (σ 14 ((600 * (σ (-1) 7)) + x3)) hx2 hr2)
def m_leave_34 (lp2 : MEM → Int → Int → Option zm_O) : Nat → MEM → Int → Int → Int → Option zm_O
  | 0, _, _, _, _ => none
  | n + 1, σ, x2, x3, x4 => if (σ (-1) 95) ≤ x4 then (m_leave_81 lp2 σ x2 x3) else (ck (0 ≤ x4 ∧ x4 < 600) (if (σ 101 x4) = x3 then (ck (0 ≤ x4 ∧ x4 < 600) (nu (mup σ 94 x4 (σ (-1) 86)) (fun σ4 => ck (inR (x4 + 1)) (m_leave_34 lp2 n σ4 x2 x3 (x4 + 1))))) else (ck (0 ≤ x4 ∧ x4 < 600) (ck (0 ≤ x4 ∧ x4 < 600) (nu (mup σ 94 x4 (σ 94 x4)) (fun σ7 => ck (inR (x4 + 1)) (m_leave_34 lp2 n σ7 x2 x3 (x4 + 1))))))))
theorem w_leave_34 {C : zv_Cx zm_O} {G : zm_G} (h : zv_Ok C cX1_leave RX1) (hc : zm_C C G 5 (Option.some FieldType.int) 1 2 47) (lp2 : MEM → Int → Int → Option zm_O) (hlp2 : ∀ (σ : MEM) (x2 x3 : Int), inR x2 → inR x3 → VV C (lp2 σ x2 x3) σ [(0, .ref (zm_h G)), (2, iv x2), (3, iv x3)] [] 2) : ∀ (n : Nat) (σ : MEM) (x2 x3 x4 : Int), inR x2 → inR x3 → inR x4 → VV C (m_leave_34 lp2 n σ x2 x3 x4) σ [(0, .ref (zm_h G)), (2, iv x2), (3, iv x3), (4, iv x4)] [] 34 := by
  have hN : ∀ i, i < 5 → i < zv_n C := fun i q => by rw [hc.2.2.1]; exact q
  intro n
  induction n with
  | zero => intros; exact r_none
  | succ n ih =>
    intro σ x2 x3 x4 hx2 hx3 hx4
    rw [m_leave_34]
    refine r_iload h 3 dX1_leave_34 rfl ?_
    refine r_aload_n h 0 dX1_leave_36 rfl rfl ?_
    refine zm_getI h hc 95 95 (by decide) rfl rfl q1574 rfl dX1_leave_37 (fun hr1 => ?_)
    refine r_icmp_ge h hx4 hr1 81 dX1_leave_40 rfl ?_ ?_
    · exact r_lv [0, 1, 2] rfl (w_leave_81 h hc lp2 hlp2 _ x2 x3 hx2 hx3)
    · refine r_aload_n h 0 dX1_leave_43 rfl rfl ?_
      refine zm_getA h hc 94 (by decide) rfl q1573 rfl dX1_leave_44 ?_
      refine r_iload h 3 dX1_leave_47 rfl ?_
      refine r_aload_n h 0 dX1_leave_49 rfl rfl ?_
      refine zm_getA h hc 101 (by decide) rfl q1580 rfl dX1_leave_50 ?_
      refine r_iload h 3 dX1_leave_53 rfl ?_
      refine zm_ldI h hc 101 101 600 (by decide) rfl rfl rfl (by decide) dX1_leave_55 (fun _ hr2 => ?_)
      refine r_iload_n h 2 dX1_leave_56 rfl rfl ?_
      refine r_icmp_ne h hr2 hx3 67 dX1_leave_57 rfl ?_ ?_
      · refine r_aload_n h 0 dX1_leave_60 rfl rfl ?_
        refine zm_getI h hc 86 86 (by decide) rfl rfl q1565 rfl dX1_leave_61 (fun hr3 => ?_)
        refine r_goto h 74 dX1_leave_64 rfl ?_
        refine zm_stI h hc 94 94 600 (by decide) rfl rfl rfl (by decide) hr3 dX1_leave_74 (fun _ σ4 _ => ?_)
        refine r_iinc (lv' := [(4, iv (x4 + 1)), (0, .ref (zm_h G)), (2, iv x2), (3, iv x3)]) h 3 dX1_leave_75 rfl (hN _ (by decide)) rfl ?_
        refine r_goto h 34 dX1_leave_78 rfl ?_
        refine r_ck (fun hk5 => ?_)
        exact r_lv [1, 2, 3, 0] rfl (ih _ x2 x3 (x4 + 1) hx2 hx3 hk5)
      · refine r_aload_n h 0 dX1_leave_67 rfl rfl ?_
        refine zm_getA h hc 94 (by decide) rfl q1573 rfl dX1_leave_68 ?_
        refine r_iload h 3 dX1_leave_71 rfl ?_
        refine zm_ldI h hc 94 94 600 (by decide) rfl rfl rfl (by decide) dX1_leave_73 (fun _ hr6 => ?_)
        refine zm_stI h hc 94 94 600 (by decide) rfl rfl rfl (by decide) hr6 dX1_leave_74 (fun _ σ7 _ => ?_)
        refine r_iinc (lv' := [(4, iv (x4 + 1)), (0, .ref (zm_h G)), (2, iv x2), (3, iv x3)]) h 3 dX1_leave_75 rfl (hN _ (by decide)) rfl ?_
        refine r_goto h 34 dX1_leave_78 rfl ?_
        refine r_ck (fun hk8 => ?_)
        exact r_lv [1, 2, 3, 0] rfl (ih _ x2 x3 (x4 + 1) hx2 hx3 hk8)
def m_leave_2 : Nat → MEM → Int → Int → Option zm_O
  | 0, _, _, _ => none
  | n + 1, σ, x2, x3 => if x3 ≤ 0 then (some (x3, σ)) else (bd (m_isWithin σ x2 x3) (fun r1 σ2 => if r1 = 0 then (bd (m_isBlock σ2 x3) (fun r4 σ5 => if r4 = 0 then (m_leave_81 (m_leave_2 n) σ5 x2 x3) else (bd (m_endWord σ5) (fun _ σ7 => bd (m_endLine σ7) (fun _ σ8 => m_leave_34 (m_leave_2 n) zF σ8 x2 x3 0))))) else (some (x3, σ2))))
theorem w_leave_2 {C : zv_Cx zm_O} {G : zm_G} (h : zv_Ok C cX1_leave RX1) (hc : zm_C C G 5 (Option.some FieldType.int) 1 2 47) : ∀ (n : Nat) (σ : MEM) (x2 x3 : Int), inR x2 → inR x3 → VV C (m_leave_2 n σ x2 x3) σ [(0, .ref (zm_h G)), (2, iv x2), (3, iv x3)] [] 2 := by
  have hN : ∀ i, i < 5 → i < zv_n C := fun i q => by rw [hc.2.2.1]; exact q
  intro n
  induction n with
  | zero => intros; exact r_none
  | succ n ih =>
    intro σ x2 x3 hx2 hx3
    rw [m_leave_2]
    refine r_iload_n h 2 dX1_leave_2 rfl rfl ?_
    refine r_if_le h hx3 100 dX1_leave_3 rfl ?_ ?_
    · refine r_iload_n h 2 dX1_leave_100 rfl rfl ?_
      exact zm_iret h hc rfl hx3 dX1_leave_101
    · refine r_aload_n h 0 dX1_leave_6 rfl rfl ?_
      refine r_iload_n h 1 dX1_leave_7 rfl rfl ?_
      refine r_iload_n h 2 dX1_leave_8 rfl rfl ?_
      refine zm_cVz h hc (n := 2) (As := [iv x2, iv x3]) (fun o1 e1 => w_isWithin hc.1 _ x2 x3 hx2 hx3 o1 e1) q2085 q2087 qs113 q136 q2088 (by decide +kernel) ⟨by decide, by decide⟩ rfl (Nat.le_of_ble_eq_true rfl) rfl dX1_leave_9 (fun r1 σ2 hr3 => ?_)
      refine r_if_ne h hr3.r 100 dX1_leave_12 rfl ?_ ?_
      · refine r_aload_n h 0 dX1_leave_15 rfl rfl ?_
        refine r_iload_n h 2 dX1_leave_16 rfl rfl ?_
        refine zm_cVz h hc (n := 1) (As := [iv x3]) (fun o1 e1 => w_isBlock hc.1 _ x3 hx3 o1 e1) q2131 q2133 qs122 q136 q2134 (by decide +kernel) ⟨by decide, by decide⟩ rfl (Nat.le_of_ble_eq_true rfl) rfl dX1_leave_17 (fun r4 σ5 hr6 => ?_)
        refine r_if_eq h hr6.r 81 dX1_leave_20 rfl ?_ ?_
        · exact r_lv [0, 1, 2] rfl (w_leave_81 h hc (m_leave_2 n) ih _ x2 x3 hx2 hx3)
        · refine r_aload_n h 0 dX1_leave_23 rfl rfl ?_
          refine zm_cVv h hc (n := 0) (As := []) (fun o1 e1 => w_endWord hc.1 _ o1 e1) q2135 q2137 qs123 q136 q2138 (by decide +kernel) ⟨by decide, by decide⟩ rfl (Nat.le_of_ble_eq_true rfl) rfl dX1_leave_24 (fun σ7  => ?_)
          refine r_aload_n h 0 dX1_leave_27 rfl rfl ?_
          refine zm_cVv h hc (n := 0) (As := []) (fun o1 e1 => w_endLine hc.1 _ o1 e1) q2143 q2145 qs125 q136 q2146 (by decide +kernel) ⟨by decide, by decide⟩ rfl (Nat.le_of_ble_eq_true rfl) rfl dX1_leave_28 (fun σ8  => ?_)
          refine r_iconst h dX1_leave_31 ?_
          refine r_istore (lv' := [(4, iv 0), (0, .ref (zm_h G)), (2, iv x2), (3, iv x3)]) h dX1_leave_32 (hN _ (by decide)) rfl ?_
          exact r_lv [1, 2, 3, 0] rfl (w_leave_34 h hc (m_leave_2 n) ih zF _ x2 x3 0 hx2 hx3 (by decide))
      · refine r_iload_n h 2 dX1_leave_100 rfl rfl ?_
        exact zm_iret h hc rfl hx3 dX1_leave_101
def m_leave (σ : MEM) (a0 a1 : Int) : Option zm_O := m_leave_2 zF σ a1 a0
theorem w_leave {G : zm_G} (hD : zm_D G) (σ : MEM) (a0 a1 : Int) (ha0 : inR a0) (ha1 : inR a1) (o : zm_O) (hd : m_leave σ a0 a1 = some o) : zm_Met G yX1_leave cX1_leave 5 (Option.some FieldType.int) 1 2 47 σ [.ref (zm_h G), iv a0, iv a1] o := by
  refine zm_intro hD hd (by decide) rfl (Nat.le_of_ble_eq_true rfl) rfl (fun C h hc => ?_)
  have hN : ∀ i, i < 5 → i < zv_n C := fun i q => by rw [hc.2.2.1]; exact q
  unfold m_leave
  refine r_iload_n h 1 dX1_leave_0 rfl rfl ?_
  refine r_istore_n (lv' := [(3, iv a0), (0, .ref (zm_h G)), (1, iv a0), (2, iv a1)]) h dX1_leave_1 rfl (hN _ (by decide)) rfl ?_
  exact r_lv [1, 3, 0] rfl (w_leave_2 h hc zF _ a1 a0 ha1 ha0)
theorem dX1_isKept_0 : decode cX1_isKept 0 = .ok (.iload_n 1, 1) := by decide +kernel
theorem dX1_isKept_1 : decode cX1_isKept 1 = .ok (.iconst 1, 1) := by decide +kernel
theorem dX1_isKept_2 : decode cX1_isKept 2 = .ok (.iadd, 1) := by decide +kernel
theorem dX1_isKept_3 : decode cX1_isKept 3 = .ok (.istore_n 2, 1) := by decide +kernel
theorem dX1_isKept_4 : decode cX1_isKept 4 = .ok (.iload_n 2, 1) := by decide +kernel
theorem dX1_isKept_5 : decode cX1_isKept 5 = .ok (.aload_n 0, 1) := by decide +kernel
theorem dX1_isKept_6 : decode cX1_isKept 6 = .ok (.getfield 27, 3) := by decide +kernel
theorem dX1_isKept_9 : decode cX1_isKept 9 = .ok (.aload_n 0, 1) := by decide +kernel
theorem dX1_isKept_10 : decode cX1_isKept 10 = .ok (.getfield 482, 3) := by decide +kernel
theorem dX1_isKept_13 : decode cX1_isKept 13 = .ok (.iaload, 1) := by decide +kernel
theorem dX1_isKept_14 : decode cX1_isKept 14 = .ok (.if_icmp .ge 164, 3) := by decide +kernel
theorem dX1_isKept_17 : decode cX1_isKept 17 = .ok (.sipush 600, 3) := by decide +kernel
theorem dX1_isKept_20 : decode cX1_isKept 20 = .ok (.aload_n 0, 1) := by decide +kernel
theorem dX1_isKept_21 : decode cX1_isKept 21 = .ok (.getfield 482, 3) := by decide +kernel
theorem dX1_isKept_24 : decode cX1_isKept 24 = .ok (.imul, 1) := by decide +kernel
theorem dX1_isKept_25 : decode cX1_isKept 25 = .ok (.iload_n 2, 1) := by decide +kernel
theorem dX1_isKept_26 : decode cX1_isKept 26 = .ok (.iadd, 1) := by decide +kernel
theorem dX1_isKept_27 : decode cX1_isKept 27 = .ok (.istore_n 3, 1) := by decide +kernel
theorem dX1_isKept_28 : decode cX1_isKept 28 = .ok (.aload_n 0, 1) := by decide +kernel
theorem dX1_isKept_29 : decode cX1_isKept 29 = .ok (.getfield 31, 3) := by decide +kernel
theorem dX1_isKept_32 : decode cX1_isKept 32 = .ok (.iload_n 3, 1) := by decide +kernel
theorem dX1_isKept_33 : decode cX1_isKept 33 = .ok (.iaload, 1) := by decide +kernel
theorem dX1_isKept_34 : decode cX1_isKept 34 = .ok (.iconst 2, 1) := by decide +kernel
theorem dX1_isKept_35 : decode cX1_isKept 35 = .ok (.if_icmp .ne 97, 3) := by decide +kernel
theorem dX1_isKept_38 : decode cX1_isKept 38 = .ok (.aload_n 0, 1) := by decide +kernel
theorem dX1_isKept_39 : decode cX1_isKept 39 = .ok (.getfield 34, 3) := by decide +kernel
theorem dX1_isKept_42 : decode cX1_isKept 42 = .ok (.iload_n 3, 1) := by decide +kernel
theorem dX1_isKept_43 : decode cX1_isKept 43 = .ok (.iaload, 1) := by decide +kernel
theorem dX1_isKept_44 : decode cX1_isKept 44 = .ok (.iload_n 1, 1) := by decide +kernel
theorem dX1_isKept_45 : decode cX1_isKept 45 = .ok (.if_icmp .ne 87, 3) := by decide +kernel
theorem dX1_isKept_48 : decode cX1_isKept 48 = .ok (.aload_n 0, 1) := by decide +kernel
theorem dX1_isKept_49 : decode cX1_isKept 49 = .ok (.getfield 40, 3) := by decide +kernel
theorem dX1_isKept_52 : decode cX1_isKept 52 = .ok (.iload_n 3, 1) := by decide +kernel
theorem dX1_isKept_53 : decode cX1_isKept 53 = .ok (.iaload, 1) := by decide +kernel
theorem dX1_isKept_54 : decode cX1_isKept 54 = .ok (.iconst 4, 1) := by decide +kernel
theorem dX1_isKept_55 : decode cX1_isKept 55 = .ok (.if_icmp .ne 77, 3) := by decide +kernel
theorem dX1_isKept_58 : decode cX1_isKept 58 = .ok (.aload_n 0, 1) := by decide +kernel
theorem dX1_isKept_59 : decode cX1_isKept 59 = .ok (.getfield 24, 3) := by decide +kernel
theorem dX1_isKept_62 : decode cX1_isKept 62 = .ok (.aload_n 0, 1) := by decide +kernel
theorem dX1_isKept_63 : decode cX1_isKept 63 = .ok (.getfield 37, 3) := by decide +kernel
theorem dX1_isKept_66 : decode cX1_isKept 66 = .ok (.iload_n 3, 1) := by decide +kernel
theorem dX1_isKept_67 : decode cX1_isKept 67 = .ok (.iaload, 1) := by decide +kernel
theorem dX1_isKept_68 : decode cX1_isKept 68 = .ok (.baload, 1) := by decide +kernel
theorem dX1_isKept_69 : decode cX1_isKept 69 = .ok (.bipush 107, 2) := by decide +kernel
theorem dX1_isKept_71 : decode cX1_isKept 71 = .ok (.if_icmp .ne 61, 3) := by decide +kernel
theorem dX1_isKept_74 : decode cX1_isKept 74 = .ok (.aload_n 0, 1) := by decide +kernel
theorem dX1_isKept_75 : decode cX1_isKept 75 = .ok (.getfield 24, 3) := by decide +kernel
theorem dX1_isKept_78 : decode cX1_isKept 78 = .ok (.aload_n 0, 1) := by decide +kernel
theorem dX1_isKept_79 : decode cX1_isKept 79 = .ok (.getfield 37, 3) := by decide +kernel
theorem dX1_isKept_82 : decode cX1_isKept 82 = .ok (.iload_n 3, 1) := by decide +kernel
theorem dX1_isKept_83 : decode cX1_isKept 83 = .ok (.iaload, 1) := by decide +kernel
theorem dX1_isKept_84 : decode cX1_isKept 84 = .ok (.iconst 1, 1) := by decide +kernel
theorem dX1_isKept_85 : decode cX1_isKept 85 = .ok (.iadd, 1) := by decide +kernel
theorem dX1_isKept_86 : decode cX1_isKept 86 = .ok (.baload, 1) := by decide +kernel
theorem dX1_isKept_87 : decode cX1_isKept 87 = .ok (.bipush 101, 2) := by decide +kernel
theorem dX1_isKept_89 : decode cX1_isKept 89 = .ok (.if_icmp .ne 43, 3) := by decide +kernel
theorem dX1_isKept_92 : decode cX1_isKept 92 = .ok (.aload_n 0, 1) := by decide +kernel
theorem dX1_isKept_93 : decode cX1_isKept 93 = .ok (.getfield 24, 3) := by decide +kernel
theorem dX1_isKept_96 : decode cX1_isKept 96 = .ok (.aload_n 0, 1) := by decide +kernel
theorem dX1_isKept_97 : decode cX1_isKept 97 = .ok (.getfield 37, 3) := by decide +kernel
theorem dX1_isKept_100 : decode cX1_isKept 100 = .ok (.iload_n 3, 1) := by decide +kernel
theorem dX1_isKept_101 : decode cX1_isKept 101 = .ok (.iaload, 1) := by decide +kernel
theorem dX1_isKept_102 : decode cX1_isKept 102 = .ok (.iconst 2, 1) := by decide +kernel
theorem dX1_isKept_103 : decode cX1_isKept 103 = .ok (.iadd, 1) := by decide +kernel
theorem dX1_isKept_104 : decode cX1_isKept 104 = .ok (.baload, 1) := by decide +kernel
theorem dX1_isKept_105 : decode cX1_isKept 105 = .ok (.bipush 101, 2) := by decide +kernel
theorem dX1_isKept_107 : decode cX1_isKept 107 = .ok (.if_icmp .ne 25, 3) := by decide +kernel
theorem dX1_isKept_110 : decode cX1_isKept 110 = .ok (.aload_n 0, 1) := by decide +kernel
theorem dX1_isKept_111 : decode cX1_isKept 111 = .ok (.getfield 24, 3) := by decide +kernel
theorem dX1_isKept_114 : decode cX1_isKept 114 = .ok (.aload_n 0, 1) := by decide +kernel
theorem dX1_isKept_115 : decode cX1_isKept 115 = .ok (.getfield 37, 3) := by decide +kernel
theorem dX1_isKept_118 : decode cX1_isKept 118 = .ok (.iload_n 3, 1) := by decide +kernel
theorem dX1_isKept_119 : decode cX1_isKept 119 = .ok (.iaload, 1) := by decide +kernel
theorem dX1_isKept_120 : decode cX1_isKept 120 = .ok (.iconst 3, 1) := by decide +kernel
theorem dX1_isKept_121 : decode cX1_isKept 121 = .ok (.iadd, 1) := by decide +kernel
theorem dX1_isKept_122 : decode cX1_isKept 122 = .ok (.baload, 1) := by decide +kernel
theorem dX1_isKept_123 : decode cX1_isKept 123 = .ok (.bipush 112, 2) := by decide +kernel
theorem dX1_isKept_125 : decode cX1_isKept 125 = .ok (.if_icmp .ne 7, 3) := by decide +kernel
theorem dX1_isKept_128 : decode cX1_isKept 128 = .ok (.iconst 1, 1) := by decide +kernel
theorem dX1_isKept_129 : decode cX1_isKept 129 = .ok (.goto 4, 3) := by decide +kernel
theorem dX1_isKept_132 : decode cX1_isKept 132 = .ok (.iconst 0, 1) := by decide +kernel
theorem dX1_isKept_133 : decode cX1_isKept 133 = .ok (.istore 4, 2) := by decide +kernel
theorem dX1_isKept_135 : decode cX1_isKept 135 = .ok (.iload 4, 2) := by decide +kernel
theorem dX1_isKept_137 : decode cX1_isKept 137 = .ok (.ifCond .eq 35, 3) := by decide +kernel
theorem dX1_isKept_140 : decode cX1_isKept 140 = .ok (.aload_n 0, 1) := by decide +kernel
theorem dX1_isKept_141 : decode cX1_isKept 141 = .ok (.getfield 46, 3) := by decide +kernel
theorem dX1_isKept_144 : decode cX1_isKept 144 = .ok (.iload_n 3, 1) := by decide +kernel
theorem dX1_isKept_145 : decode cX1_isKept 145 = .ok (.iaload, 1) := by decide +kernel
theorem dX1_isKept_146 : decode cX1_isKept 146 = .ok (.iconst 1, 1) := by decide +kernel
theorem dX1_isKept_147 : decode cX1_isKept 147 = .ok (.if_icmp .ne 23, 3) := by decide +kernel
theorem dX1_isKept_150 : decode cX1_isKept 150 = .ok (.aload_n 0, 1) := by decide +kernel
theorem dX1_isKept_151 : decode cX1_isKept 151 = .ok (.getfield 55, 3) := by decide +kernel
theorem dX1_isKept_154 : decode cX1_isKept 154 = .ok (.aload_n 0, 1) := by decide +kernel
theorem dX1_isKept_155 : decode cX1_isKept 155 = .ok (.getfield 43, 3) := by decide +kernel
theorem dX1_isKept_158 : decode cX1_isKept 158 = .ok (.iload_n 3, 1) := by decide +kernel
theorem dX1_isKept_159 : decode cX1_isKept 159 = .ok (.iaload, 1) := by decide +kernel
theorem dX1_isKept_160 : decode cX1_isKept 160 = .ok (.baload, 1) := by decide +kernel
theorem dX1_isKept_161 : decode cX1_isKept 161 = .ok (.bipush 49, 2) := by decide +kernel
theorem dX1_isKept_163 : decode cX1_isKept 163 = .ok (.if_icmp .ne 7, 3) := by decide +kernel
theorem dX1_isKept_166 : decode cX1_isKept 166 = .ok (.iconst 1, 1) := by decide +kernel
theorem dX1_isKept_167 : decode cX1_isKept 167 = .ok (.goto 4, 3) := by decide +kernel
theorem dX1_isKept_170 : decode cX1_isKept 170 = .ok (.iconst 0, 1) := by decide +kernel
theorem dX1_isKept_171 : decode cX1_isKept 171 = .ok (.ireturn, 1) := by decide +kernel
theorem dX1_isKept_172 : decode cX1_isKept 172 = .ok (.iinc 2 1, 3) := by decide +kernel
theorem dX1_isKept_175 : decode cX1_isKept 175 = .ok (.goto (-171), 3) := by decide +kernel
theorem dX1_isKept_178 : decode cX1_isKept 178 = .ok (.iconst 0, 1) := by decide +kernel
theorem dX1_isKept_179 : decode cX1_isKept 179 = .ok (.ireturn, 1) := by decide +kernel
def m_isKept_133 (lp4 : MEM → Int → Int → Option zm_O) (σ : MEM) (x1 x2 x3 s0 : Int) : Option zm_O := if s0 = 0 then (ck (inR (x2 + 1)) (lp4 σ x1 (x2 + 1))) else (ck (0 ≤ x3 ∧ x3 < 1200) (if (σ 18 x3) = 1 then (ck (0 ≤ x3 ∧ x3 < 1200) (ck (0 ≤ (σ 17 x3) ∧ (σ 17 x3) < 4000) (if (σ 21 (σ 17 x3)) = 49 then (some (1, σ)) else (some (0, σ))))) else (some (0, σ))))
theorem w_isKept_133 {C : zv_Cx zm_O} {G : zm_G} (h : zv_Ok C cX1_isKept RX1) (hc : zm_C C G 5 (Option.some FieldType.boolean) 3 0 0) (lp4 : MEM → Int → Int → Option zm_O) (hlp4 : ∀ (σ : MEM) (x1 x2 : Int), inR x1 → inR x2 → VV C (lp4 σ x1 x2) σ [(0, .ref (zm_h G)), (1, iv x1), (2, iv x2)] [] 4) (σ : MEM) (x1 x2 x3 s0 : Int) (hx1 : inR x1) (hx2 : inR x2) (hx3 : inR x3) (hs0 : isB s0) : VV C (m_isKept_133 lp4 σ x1 x2 x3 s0) σ [(0, .ref (zm_h G)), (1, iv x1), (2, iv x2), (3, iv x3)] [iv s0] 133 := by
  have hN : ∀ i, i < 5 → i < zv_n C := fun i q => by rw [hc.2.2.1]; exact q
  unfold m_isKept_133
  refine r_istore (lv' := [(4, iv s0), (0, .ref (zm_h G)), (1, iv x1), (2, iv x2), (3, iv x3)]) h dX1_isKept_133 (hN _ (by decide)) rfl ?_
  refine r_iload h 0 dX1_isKept_135 rfl ?_
  refine r_if_eq h hs0.r 172 dX1_isKept_137 rfl ?_ ?_
  · refine r_iinc (lv' := [(2, iv (x2 + 1)), (4, iv s0), (0, .ref (zm_h G)), (1, iv x1), (3, iv x3)]) h 3 dX1_isKept_172 rfl (hN _ (by decide)) rfl ?_
    refine r_goto h 4 dX1_isKept_175 rfl ?_
    refine r_ck (fun hk1 => ?_)
    exact r_lv [2, 3, 0] rfl (hlp4 _ x1 (x2 + 1) hx1 hk1)
  · refine r_aload_n h 1 dX1_isKept_140 rfl rfl ?_
    refine zm_getA h hc 18 (by decide) rfl q1498 rfl dX1_isKept_141 ?_
    refine r_iload_n h 4 dX1_isKept_144 rfl rfl ?_
    refine zm_ldI h hc 18 18 1200 (by decide) rfl rfl rfl (by decide) dX1_isKept_145 (fun _ hr2 => ?_)
    refine r_iconst h dX1_isKept_146 ?_
    refine r_icmp_ne h hr2 (by decide) 170 dX1_isKept_147 rfl ?_ ?_
    · refine r_aload_n h 1 dX1_isKept_150 rfl rfl ?_
      refine zm_getA h hc 21 (by decide) rfl q1501 rfl dX1_isKept_151 ?_
      refine r_aload_n h 1 dX1_isKept_154 rfl rfl ?_
      refine zm_getA h hc 17 (by decide) rfl q1497 rfl dX1_isKept_155 ?_
      refine r_iload_n h 4 dX1_isKept_158 rfl rfl ?_
      refine zm_ldI h hc 17 17 1200 (by decide) rfl rfl rfl (by decide) dX1_isKept_159 (fun _ hr3 => ?_)
      refine zm_ldB h hc 21 21 4000 (by decide) rfl rfl rfl (by decide) dX1_isKept_160 (fun _ hr4 => ?_)
      refine r_bipush h dX1_isKept_161 (by decide) ?_
      refine r_icmp_ne h hr4.r (by decide) 170 dX1_isKept_163 rfl ?_ ?_
      · refine r_iconst h dX1_isKept_166 ?_
        refine r_goto h 171 dX1_isKept_167 rfl ?_
        exact zm_zret h hc rfl (by decide) dX1_isKept_171
      · refine r_iconst h dX1_isKept_170 ?_
        exact zm_zret h hc rfl (by decide) dX1_isKept_171
    · refine r_iconst h dX1_isKept_170 ?_
      exact zm_zret h hc rfl (by decide) dX1_isKept_171
def m_isKept_132 (lp4 : MEM → Int → Int → Option zm_O) (σ : MEM) (x1 x2 x3 : Int) : Option zm_O := m_isKept_133 lp4 σ x1 x2 x3 0
theorem w_isKept_132 {C : zv_Cx zm_O} {G : zm_G} (h : zv_Ok C cX1_isKept RX1) (hc : zm_C C G 5 (Option.some FieldType.boolean) 3 0 0) (lp4 : MEM → Int → Int → Option zm_O) (hlp4 : ∀ (σ : MEM) (x1 x2 : Int), inR x1 → inR x2 → VV C (lp4 σ x1 x2) σ [(0, .ref (zm_h G)), (1, iv x1), (2, iv x2)] [] 4) (σ : MEM) (x1 x2 x3 : Int) (hx1 : inR x1) (hx2 : inR x2) (hx3 : inR x3) : VV C (m_isKept_132 lp4 σ x1 x2 x3) σ [(0, .ref (zm_h G)), (1, iv x1), (2, iv x2), (3, iv x3)] [] 132 := by
  have hN : ∀ i, i < 5 → i < zv_n C := fun i q => by rw [hc.2.2.1]; exact q
  unfold m_isKept_132
  refine r_iconst h dX1_isKept_132 ?_
  exact r_lv [0, 1, 2, 3] rfl (w_isKept_133 h hc lp4 hlp4 _ x1 x2 x3 0 hx1 hx2 hx3 (by decide))
def m_isKept_4 : Nat → MEM → Int → Int → Option zm_O
  | 0, _, _, _ => none
  | n + 1, σ, x1, x2 => ck (0 ≤ (σ (-1) 7) ∧ (σ (-1) 7) < 2) (if (σ 12 (σ (-1) 7)) ≤ x2 then (some (0, σ)) else (ck (0 ≤ ((600 * (σ (-1) 7)) + x2) ∧ ((600 * (σ (-1) 7)) + x2) < 1200) (if (σ 13 ((600 * (σ (-1) 7)) + x2)) = 2 then (ck (0 ≤ ((600 * (σ (-1) 7)) + x2) ∧ ((600 * (σ (-1) 7)) + x2) < 1200) (if (σ 14 ((600 * (σ (-1) 7)) + x2)) = x1 then (ck (0 ≤ ((600 * (σ (-1) 7)) + x2) ∧ ((600 * (σ (-1) 7)) + x2) < 1200) (if (σ 16 ((600 * (σ (-1) 7)) + x2)) = 4 then (ck (0 ≤ ((600 * (σ (-1) 7)) + x2) ∧ ((600 * (σ (-1) 7)) + x2) < 1200) (ck (0 ≤ (σ 15 ((600 * (σ (-1) 7)) + x2)) ∧ (σ 15 ((600 * (σ (-1) 7)) + x2)) < 12000) (if (σ 11 (σ 15 ((600 * (σ (-1) 7)) + x2))) = 107 then (ck (0 ≤ ((600 * (σ (-1) 7)) + x2) ∧ ((600 * (σ (-1) 7)) + x2) < 1200) (ck (0 ≤ ((σ 15 ((600 * (σ (-1) 7)) + x2)) + 1) ∧ ((σ 15 ((600 * (σ (-1) 7)) + x2)) + 1) < 12000) (if (σ 11 ((σ 15 ((600 * (σ (-1) 7)) + x2)) + 1)) = 101 then (ck (0 ≤ ((600 * (σ (-1) 7)) + x2) ∧ ((600 * (σ (-1) 7)) + x2) < 1200) (ck (0 ≤ ((σ 15 ((600 * (σ (-1) 7)) + x2)) + 2) ∧ ((σ 15 ((600 * (σ (-1) 7)) + x2)) + 2) < 12000) (if (σ 11 ((σ 15 ((600 * (σ (-1) 7)) + x2)) + 2)) = 101 then (ck (0 ≤ ((600 * (σ (-1) 7)) + x2) ∧ ((600 * (σ (-1) 7)) + x2) < 1200) (ck (0 ≤ ((σ 15 ((600 * (σ (-1) 7)) + x2)) + 3) ∧ ((σ 15 ((600 * (σ (-1) 7)) + x2)) + 3) < 12000) (if (σ 11 ((σ 15 ((600 * (σ (-1) 7)) + x2)) + 3)) = 112 then (ck (inR ((600 * (σ (-1) 7)) + x2)) (m_isKept_133 (m_isKept_4 n) σ x1 x2 ((600 * (σ (-1) 7)) + x2) 1)) else (ck (inR ((600 * (σ (-1) 7)) + x2)) (m_isKept_132 (m_isKept_4 n) σ x1 x2 ((600 * (σ (-1) 7)) + x2)))))) else (ck (inR ((600 * (σ (-1) 7)) + x2)) (m_isKept_132 (m_isKept_4 n) σ x1 x2 ((600 * (σ (-1) 7)) + x2)))))) else (ck (inR ((600 * (σ (-1) 7)) + x2)) (m_isKept_132 (m_isKept_4 n) σ x1 x2 ((600 * (σ (-1) 7)) + x2)))))) else (ck (inR ((600 * (σ (-1) 7)) + x2)) (m_isKept_132 (m_isKept_4 n) σ x1 x2 ((600 * (σ (-1) 7)) + x2)))))) else (ck (inR ((600 * (σ (-1) 7)) + x2)) (m_isKept_132 (m_isKept_4 n) σ x1 x2 ((600 * (σ (-1) 7)) + x2))))) else (ck (inR ((600 * (σ (-1) 7)) + x2)) (m_isKept_132 (m_isKept_4 n) σ x1 x2 ((600 * (σ (-1) 7)) + x2))))) else (ck (inR ((600 * (σ (-1) 7)) + x2)) (m_isKept_132 (m_isKept_4 n) σ x1 x2 ((600 * (σ (-1) 7)) + x2))))))
theorem w_isKept_4 {C : zv_Cx zm_O} {G : zm_G} (h : zv_Ok C cX1_isKept RX1) (hc : zm_C C G 5 (Option.some FieldType.boolean) 3 0 0) : ∀ (n : Nat) (σ : MEM) (x1 x2 : Int), inR x1 → inR x2 → VV C (m_isKept_4 n σ x1 x2) σ [(0, .ref (zm_h G)), (1, iv x1), (2, iv x2)] [] 4 := by
  have hN : ∀ i, i < 5 → i < zv_n C := fun i q => by rw [hc.2.2.1]; exact q
  intro n
  induction n with
  | zero => intros; exact r_none
  | succ n ih =>
    intro σ x1 x2 hx1 hx2
    rw [m_isKept_4]
    refine r_iload_n h 2 dX1_isKept_4 rfl rfl ?_
    refine r_aload_n h 0 dX1_isKept_5 rfl rfl ?_
    refine zm_getA h hc 12 (by decide) rfl q1492 rfl dX1_isKept_6 ?_
    refine r_aload_n h 0 dX1_isKept_9 rfl rfl ?_
    refine zm_getI h hc 7 7 (by decide) rfl rfl q1487 rfl dX1_isKept_10 (fun hr1 => ?_)
    refine zm_ldI h hc 12 12 2 (by decide) rfl rfl rfl (by decide) dX1_isKept_13 (fun _ hr2 => ?_)
    refine r_icmp_ge h hx2 hr2 178 dX1_isKept_14 rfl ?_ ?_
    · refine r_iconst h dX1_isKept_178 ?_
      exact zm_zret h hc rfl (by decide) dX1_isKept_179
    · refine r_sipush h dX1_isKept_17 (by decide) ?_
      refine r_aload_n h 0 dX1_isKept_20 rfl rfl ?_
      refine zm_getI h hc 7 7 (by decide) rfl rfl q1487 rfl dX1_isKept_21 (fun hr3 => ?_)
      refine r_imul h dX1_isKept_24 ?_
      refine r_iload_n h 2 dX1_isKept_25 rfl rfl ?_
      refine r_iadd h dX1_isKept_26 ?_
      refine r_istore_n (lv' := [(3, iv ((600 * (σ (-1) 7)) + x2)), (0, .ref (zm_h G)), (1, iv x1), (2, iv x2)]) h dX1_isKept_27 rfl (hN _ (by decide)) rfl ?_
      refine r_aload_n h 1 dX1_isKept_28 rfl rfl ?_
      refine zm_getA h hc 13 (by decide) rfl q1493 rfl dX1_isKept_29 ?_
      refine r_iload_n h 0 dX1_isKept_32 rfl rfl ?_
      refine zm_ldI h hc 13 13 1200 (by decide) rfl rfl rfl (by decide) dX1_isKept_33 (fun _ hr4 => ?_)
      refine r_iconst h dX1_isKept_34 ?_
      refine r_icmp_ne h hr4 (by decide) 132 dX1_isKept_35 rfl ?_ ?_
      · refine r_aload_n h 1 dX1_isKept_38 rfl rfl ?_
        refine zm_getA h hc 14 (by decide) rfl q1494 rfl dX1_isKept_39 ?_
        refine r_iload_n h 0 dX1_isKept_42 rfl rfl ?_
        refine zm_ldI h hc 14 14 1200 (by decide) rfl rfl rfl (by decide) dX1_isKept_43 (fun _ hr5 => ?_)
        refine r_iload_n h 2 dX1_isKept_44 rfl rfl ?_
        refine r_icmp_ne h hr5 hx1 132 dX1_isKept_45 rfl ?_ ?_
        · refine r_aload_n h 1 dX1_isKept_48 rfl rfl ?_
          refine zm_getA h hc 16 (by decide) rfl q1496 rfl dX1_isKept_49 ?_
          refine r_iload_n h 0 dX1_isKept_52 rfl rfl ?_
          refine zm_ldI h hc 16 16 1200 (by decide) rfl rfl rfl (by decide) dX1_isKept_53 (fun _ hr6 => ?_)
          refine r_iconst h dX1_isKept_54 ?_
          refine r_icmp_ne h hr6 (by decide) 132 dX1_isKept_55 rfl ?_ ?_
          · refine r_aload_n h 1 dX1_isKept_58 rfl rfl ?_
            refine zm_getA h hc 11 (by decide) rfl q1491 rfl dX1_isKept_59 ?_
            refine r_aload_n h 1 dX1_isKept_62 rfl rfl ?_
            refine zm_getA h hc 15 (by decide) rfl q1495 rfl dX1_isKept_63 ?_
            refine r_iload_n h 0 dX1_isKept_66 rfl rfl ?_
            refine zm_ldI h hc 15 15 1200 (by decide) rfl rfl rfl (by decide) dX1_isKept_67 (fun _ hr7 => ?_)
            refine zm_ldB h hc 11 11 12000 (by decide) rfl rfl rfl (by decide) dX1_isKept_68 (fun _ hr8 => ?_)
            refine r_bipush h dX1_isKept_69 (by decide) ?_
            refine r_icmp_ne h hr8.r (by decide) 132 dX1_isKept_71 rfl ?_ ?_
            · refine r_aload_n h 1 dX1_isKept_74 rfl rfl ?_
              refine zm_getA h hc 11 (by decide) rfl q1491 rfl dX1_isKept_75 ?_
              refine r_aload_n h 1 dX1_isKept_78 rfl rfl ?_
              refine zm_getA h hc 15 (by decide) rfl q1495 rfl dX1_isKept_79 ?_
              refine r_iload_n h 0 dX1_isKept_82 rfl rfl ?_
              refine zm_ldI h hc 15 15 1200 (by decide) rfl rfl rfl (by decide) dX1_isKept_83 (fun _ hr9 => ?_)
              refine r_iconst h dX1_isKept_84 ?_
              refine r_iadd h dX1_isKept_85 ?_
              refine zm_ldB h hc 11 11 12000 (by decide) rfl rfl rfl (by decide) dX1_isKept_86 (fun _ hr10 => ?_)
              refine r_bipush h dX1_isKept_87 (by decide) ?_
              refine r_icmp_ne h hr10.r (by decide) 132 dX1_isKept_89 rfl ?_ ?_
              · refine r_aload_n h 1 dX1_isKept_92 rfl rfl ?_
                refine zm_getA h hc 11 (by decide) rfl q1491 rfl dX1_isKept_93 ?_
                refine r_aload_n h 1 dX1_isKept_96 rfl rfl ?_
                refine zm_getA h hc 15 (by decide) rfl q1495 rfl dX1_isKept_97 ?_
                refine r_iload_n h 0 dX1_isKept_100 rfl rfl ?_
                refine zm_ldI h hc 15 15 1200 (by decide) rfl rfl rfl (by decide) dX1_isKept_101 (fun _ hr11 => ?_)
                refine r_iconst h dX1_isKept_102 ?_
                refine r_iadd h dX1_isKept_103 ?_
                refine zm_ldB h hc 11 11 12000 (by decide) rfl rfl rfl (by decide) dX1_isKept_104 (fun _ hr12 => ?_)
                refine r_bipush h dX1_isKept_105 (by decide) ?_
                refine r_icmp_ne h hr12.r (by decide) 132 dX1_isKept_107 rfl ?_ ?_
                · refine r_aload_n h 1 dX1_isKept_110 rfl rfl ?_
                  refine zm_getA h hc 11 (by decide) rfl q1491 rfl dX1_isKept_111 ?_
                  refine r_aload_n h 1 dX1_isKept_114 rfl rfl ?_
                  refine zm_getA h hc 15 (by decide) rfl q1495 rfl dX1_isKept_115 ?_
                  refine r_iload_n h 0 dX1_isKept_118 rfl rfl ?_
                  refine zm_ldI h hc 15 15 1200 (by decide) rfl rfl rfl (by decide) dX1_isKept_119 (fun _ hr13 => ?_)
                  refine r_iconst h dX1_isKept_120 ?_
                  refine r_iadd h dX1_isKept_121 ?_
                  refine zm_ldB h hc 11 11 12000 (by decide) rfl rfl rfl (by decide) dX1_isKept_122 (fun _ hr14 => ?_)
                  refine r_bipush h dX1_isKept_123 (by decide) ?_
                  refine r_icmp_ne h hr14.r (by decide) 132 dX1_isKept_125 rfl ?_ ?_
                  · refine r_iconst h dX1_isKept_128 ?_
                    refine r_goto h 133 dX1_isKept_129 rfl ?_
                    refine r_ck (fun hk15 => ?_)
                    exact r_lv [1, 2, 3, 0] rfl (w_isKept_133 h hc (m_isKept_4 n) ih _ x1 x2 ((600 * (σ (-1) 7)) + x2) 1 hx1 hx2 hk15 (by decide))
                  · refine r_ck (fun hk16 => ?_)
                    exact r_lv [1, 2, 3, 0] rfl (w_isKept_132 h hc (m_isKept_4 n) ih _ x1 x2 ((600 * (σ (-1) 7)) + x2) hx1 hx2 hk16)
                · refine r_ck (fun hk17 => ?_)
                  exact r_lv [1, 2, 3, 0] rfl (w_isKept_132 h hc (m_isKept_4 n) ih _ x1 x2 ((600 * (σ (-1) 7)) + x2) hx1 hx2 hk17)
              · refine r_ck (fun hk18 => ?_)
                exact r_lv [1, 2, 3, 0] rfl (w_isKept_132 h hc (m_isKept_4 n) ih _ x1 x2 ((600 * (σ (-1) 7)) + x2) hx1 hx2 hk18)
            · refine r_ck (fun hk19 => ?_)
              exact r_lv [1, 2, 3, 0] rfl (w_isKept_132 h hc (m_isKept_4 n) ih _ x1 x2 ((600 * (σ (-1) 7)) + x2) hx1 hx2 hk19)
          · refine r_ck (fun hk20 => ?_)
            exact r_lv [1, 2, 3, 0] rfl (w_isKept_132 h hc (m_isKept_4 n) ih _ x1 x2 ((600 * (σ (-1) 7)) + x2) hx1 hx2 hk20)
        · refine r_ck (fun hk21 => ?_)
          exact r_lv [1, 2, 3, 0] rfl (w_isKept_132 h hc (m_isKept_4 n) ih _ x1 x2 ((600 * (σ (-1) 7)) + x2) hx1 hx2 hk21)
      · refine r_ck (fun hk22 => ?_)
        exact r_lv [1, 2, 3, 0] rfl (w_isKept_132 h hc (m_isKept_4 n) ih _ x1 x2 ((600 * (σ (-1) 7)) + x2) hx1 hx2 hk22)
def m_isKept (σ : MEM) (a0 : Int) : Option zm_O := ck (inR (a0 + 1)) (m_isKept_4 zF σ a0 (a0 + 1))
theorem w_isKept {G : zm_G} (hD : zm_D G) (σ : MEM) (a0 : Int) (ha0 : inR a0) (o : zm_O) (hd : m_isKept σ a0 = some o) : zm_Met G yX1_isKept cX1_isKept 5 (Option.some FieldType.boolean) 3 0 0 σ [.ref (zm_h G), iv a0] o := by
  refine zm_intro hD hd (by decide) rfl (Nat.le_of_ble_eq_true rfl) rfl (fun C h hc => ?_)
  have hN : ∀ i, i < 5 → i < zv_n C := fun i q => by rw [hc.2.2.1]; exact q
  unfold m_isKept
  refine r_iload_n h 1 dX1_isKept_0 rfl rfl ?_
  refine r_iconst h dX1_isKept_1 ?_
  refine r_iadd h dX1_isKept_2 ?_
  refine r_istore_n (lv' := [(2, iv (a0 + 1)), (0, .ref (zm_h G)), (1, iv a0)]) h dX1_isKept_3 rfl (hN _ (by decide)) rfl ?_
  refine r_ck (fun hk1 => ?_)
  exact r_lv [1, 2, 0] rfl (w_isKept_4 h hc zF _ a0 (a0 + 1) ha0 hk1)
theorem dX1_beginElement_0 : decode cX1_beginElement 0 = .ok (.aload_n 0, 1) := by decide +kernel
theorem dX1_beginElement_1 : decode cX1_beginElement 1 = .ok (.iload_n 1, 1) := by decide +kernel
theorem dX1_beginElement_2 : decode cX1_beginElement 2 = .ok (.invokevirtual 633, 3) := by decide +kernel
theorem dX1_beginElement_5 : decode cX1_beginElement 5 = .ok (.ifCond .ne 4, 3) := by decide +kernel
theorem dX1_beginElement_8 : decode cX1_beginElement 8 = .ok (.return_, 1) := by decide +kernel
theorem dX1_beginElement_9 : decode cX1_beginElement 9 = .ok (.aload_n 0, 1) := by decide +kernel
theorem dX1_beginElement_10 : decode cX1_beginElement 10 = .ok (.invokevirtual 636, 3) := by decide +kernel
theorem dX1_beginElement_13 : decode cX1_beginElement 13 = .ok (.aload_n 0, 1) := by decide +kernel
theorem dX1_beginElement_14 : decode cX1_beginElement 14 = .ok (.invokevirtual 630, 3) := by decide +kernel
theorem dX1_beginElement_17 : decode cX1_beginElement 17 = .ok (.aload_n 0, 1) := by decide +kernel
theorem dX1_beginElement_18 : decode cX1_beginElement 18 = .ok (.iload_n 1, 1) := by decide +kernel
theorem dX1_beginElement_19 : decode cX1_beginElement 19 = .ok (.invokevirtual 658, 3) := by decide +kernel
theorem dX1_beginElement_22 : decode cX1_beginElement 22 = .ok (.ifCond .eq 49, 3) := by decide +kernel
theorem dX1_beginElement_25 : decode cX1_beginElement 25 = .ok (.aload_n 0, 1) := by decide +kernel
theorem dX1_beginElement_26 : decode cX1_beginElement 26 = .ok (.getfield 243, 3) := by decide +kernel
theorem dX1_beginElement_29 : decode cX1_beginElement 29 = .ok (.aload_n 0, 1) := by decide +kernel
theorem dX1_beginElement_30 : decode cX1_beginElement 30 = .ok (.getfield 639, 3) := by decide +kernel
theorem dX1_beginElement_33 : decode cX1_beginElement 33 = .ok (.iload_n 1, 1) := by decide +kernel
theorem dX1_beginElement_34 : decode cX1_beginElement 34 = .ok (.iastore, 1) := by decide +kernel
theorem dX1_beginElement_35 : decode cX1_beginElement 35 = .ok (.aload_n 0, 1) := by decide +kernel
theorem dX1_beginElement_36 : decode cX1_beginElement 36 = .ok (.getfield 231, 3) := by decide +kernel
theorem dX1_beginElement_39 : decode cX1_beginElement 39 = .ok (.aload_n 0, 1) := by decide +kernel
theorem dX1_beginElement_40 : decode cX1_beginElement 40 = .ok (.getfield 639, 3) := by decide +kernel
theorem dX1_beginElement_43 : decode cX1_beginElement 43 = .ok (.aload_n 0, 1) := by decide +kernel
theorem dX1_beginElement_44 : decode cX1_beginElement 44 = .ok (.getfield 501, 3) := by decide +kernel
theorem dX1_beginElement_47 : decode cX1_beginElement 47 = .ok (.iastore, 1) := by decide +kernel
theorem dX1_beginElement_48 : decode cX1_beginElement 48 = .ok (.aload_n 0, 1) := by decide +kernel
theorem dX1_beginElement_49 : decode cX1_beginElement 49 = .ok (.getfield 234, 3) := by decide +kernel
theorem dX1_beginElement_52 : decode cX1_beginElement 52 = .ok (.aload_n 0, 1) := by decide +kernel
theorem dX1_beginElement_53 : decode cX1_beginElement 53 = .ok (.getfield 639, 3) := by decide +kernel
theorem dX1_beginElement_56 : decode cX1_beginElement 56 = .ok (.aload_n 0, 1) := by decide +kernel
theorem dX1_beginElement_57 : decode cX1_beginElement 57 = .ok (.getfield 501, 3) := by decide +kernel
theorem dX1_beginElement_60 : decode cX1_beginElement 60 = .ok (.iastore, 1) := by decide +kernel
theorem dX1_beginElement_61 : decode cX1_beginElement 61 = .ok (.aload_n 0, 1) := by decide +kernel
theorem dX1_beginElement_62 : decode cX1_beginElement 62 = .ok (.dup, 1) := by decide +kernel
theorem dX1_beginElement_63 : decode cX1_beginElement 63 = .ok (.getfield 639, 3) := by decide +kernel
theorem dX1_beginElement_66 : decode cX1_beginElement 66 = .ok (.iconst 1, 1) := by decide +kernel
theorem dX1_beginElement_67 : decode cX1_beginElement 67 = .ok (.iadd, 1) := by decide +kernel
theorem dX1_beginElement_68 : decode cX1_beginElement 68 = .ok (.putfield 639, 3) := by decide +kernel
theorem dX1_beginElement_71 : decode cX1_beginElement 71 = .ok (.return_, 1) := by decide +kernel
def m_beginElement (σ : MEM) (a0 : Int) : Option zm_O := bd (m_isBlock σ a0) (fun r1 σ2 => if r1 = 0 then (some (0, σ2)) else (bd (m_endWord σ2) (fun _ σ4 => bd (m_endLine σ4) (fun _ σ5 => bd (m_isKept σ5 a0) (fun r6 σ7 => if r6 = 0 then (some (0, σ7)) else (ck (0 ≤ (σ7 (-1) 95) ∧ (σ7 (-1) 95) < 600) (nu (mup σ7 101 (σ7 (-1) 95) a0) (fun σ10 => ck (0 ≤ (σ10 (-1) 95) ∧ (σ10 (-1) 95) < 600) (nu (mup σ10 93 (σ10 (-1) 95) (σ10 (-1) 86)) (fun σ13 => ck (0 ≤ (σ13 (-1) 95) ∧ (σ13 (-1) 95) < 600) (nu (mup σ13 94 (σ13 (-1) 95) (σ13 (-1) 86)) (fun σ16 => ck (inR ((σ16 (-1) 95) + 1)) (nu (mup σ16 (-1) 95 ((σ16 (-1) 95) + 1)) (fun σ19 => some (0, σ19)))))))))))))))
theorem w_beginElement {G : zm_G} (hD : zm_D G) (σ : MEM) (a0 : Int) (ha0 : inR a0) (o : zm_O) (hd : m_beginElement σ a0 = some o) : zm_Met G yX1_beginElement cX1_beginElement 2 (Option.none : Option FieldType) 0 2 47 σ [.ref (zm_h G), iv a0] o := by
  refine zm_intro hD hd (by decide) rfl (Nat.le_of_ble_eq_true rfl) rfl (fun C h hc => ?_)
  have hN : ∀ i, i < 2 → i < zv_n C := fun i q => by rw [hc.2.2.1]; exact q
  unfold m_beginElement
  refine r_aload_n h 0 dX1_beginElement_0 rfl rfl ?_
  refine r_iload_n h 1 dX1_beginElement_1 rfl rfl ?_
  refine zm_cVz h hc (n := 1) (As := [iv a0]) (fun o1 e1 => w_isBlock hc.1 _ a0 ha0 o1 e1) q2131 q2133 qs122 q136 q2134 (by decide +kernel) ⟨by decide, by decide⟩ rfl (Nat.le_of_ble_eq_true rfl) rfl dX1_beginElement_2 (fun r1 σ2 hr3 => ?_)
  refine r_if_ne h hr3.r 9 dX1_beginElement_5 rfl ?_ ?_
  · exact zm_vret h hc rfl dX1_beginElement_8
  · refine r_aload_n h 0 dX1_beginElement_9 rfl rfl ?_
    refine zm_cVv h hc (n := 0) (As := []) (fun o1 e1 => w_endWord hc.1 _ o1 e1) q2135 q2137 qs123 q136 q2138 (by decide +kernel) ⟨by decide, by decide⟩ rfl (Nat.le_of_ble_eq_true rfl) rfl dX1_beginElement_10 (fun σ4  => ?_)
    refine r_aload_n h 0 dX1_beginElement_13 rfl rfl ?_
    refine zm_cVv h hc (n := 0) (As := []) (fun o1 e1 => w_endLine hc.1 _ o1 e1) q2143 q2145 qs125 q136 q2146 (by decide +kernel) ⟨by decide, by decide⟩ rfl (Nat.le_of_ble_eq_true rfl) rfl dX1_beginElement_14 (fun σ5  => ?_)
    refine r_aload_n h 0 dX1_beginElement_17 rfl rfl ?_
    refine r_iload_n h 1 dX1_beginElement_18 rfl rfl ?_
    refine zm_cVz h hc (n := 1) (As := [iv a0]) (fun o1 e1 => w_isKept hc.1 _ a0 ha0 o1 e1) q2151 q2153 qs127 q136 q2154 (by decide +kernel) ⟨by decide, by decide⟩ rfl (Nat.le_of_ble_eq_true rfl) rfl dX1_beginElement_19 (fun r6 σ7 hr8 => ?_)
    refine r_if_eq h hr8.r 71 dX1_beginElement_22 rfl ?_ ?_
    · exact zm_vret h hc rfl dX1_beginElement_71
    · refine r_aload_n h 0 dX1_beginElement_25 rfl rfl ?_
      refine zm_getA h hc 101 (by decide) rfl q1580 rfl dX1_beginElement_26 ?_
      refine r_aload_n h 0 dX1_beginElement_29 rfl rfl ?_
      refine zm_getI h hc 95 95 (by decide) rfl rfl q1574 rfl dX1_beginElement_30 (fun hr9 => ?_)
      refine r_iload_n h 1 dX1_beginElement_33 rfl rfl ?_
      refine zm_stI h hc 101 101 600 (by decide) rfl rfl rfl (by decide) ha0 dX1_beginElement_34 (fun _ σ10 _ => ?_)
      refine r_aload_n h 0 dX1_beginElement_35 rfl rfl ?_
      refine zm_getA h hc 93 (by decide) rfl q1572 rfl dX1_beginElement_36 ?_
      refine r_aload_n h 0 dX1_beginElement_39 rfl rfl ?_
      refine zm_getI h hc 95 95 (by decide) rfl rfl q1574 rfl dX1_beginElement_40 (fun hr11 => ?_)
      refine r_aload_n h 0 dX1_beginElement_43 rfl rfl ?_
      refine zm_getI h hc 86 86 (by decide) rfl rfl q1565 rfl dX1_beginElement_44 (fun hr12 => ?_)
      refine zm_stI h hc 93 93 600 (by decide) rfl rfl rfl (by decide) hr12 dX1_beginElement_47 (fun _ σ13 _ => ?_)
      refine r_aload_n h 0 dX1_beginElement_48 rfl rfl ?_
      refine zm_getA h hc 94 (by decide) rfl q1573 rfl dX1_beginElement_49 ?_
      refine r_aload_n h 0 dX1_beginElement_52 rfl rfl ?_
      refine zm_getI h hc 95 95 (by decide) rfl rfl q1574 rfl dX1_beginElement_53 (fun hr14 => ?_)
      refine r_aload_n h 0 dX1_beginElement_56 rfl rfl ?_
      refine zm_getI h hc 86 86 (by decide) rfl rfl q1565 rfl dX1_beginElement_57 (fun hr15 => ?_)
      refine zm_stI h hc 94 94 600 (by decide) rfl rfl rfl (by decide) hr15 dX1_beginElement_60 (fun _ σ16 _ => ?_)
      refine r_aload_n h 0 dX1_beginElement_61 rfl rfl ?_
      refine r_dup h dX1_beginElement_62 rfl ?_
      refine zm_getI h hc 95 95 (by decide) rfl rfl q1574 rfl dX1_beginElement_63 (fun hr17 => ?_)
      refine r_iconst h dX1_beginElement_66 ?_
      refine r_iadd h dX1_beginElement_67 ?_
      refine r_ck (fun hk18 => ?_)
      refine zm_putI h hc 95 95 (by decide) rfl rfl q1574 ⟨rfl, rfl, by decide +kernel⟩ hk18 dX1_beginElement_68 (fun σ19 _ => ?_)
      exact zm_vret h hc rfl dX1_beginElement_71
theorem dX1_setText_0 : decode cX1_setText 0 = .ok (.sipush 600, 3) := by decide +kernel
theorem dX1_setText_3 : decode cX1_setText 3 = .ok (.aload_n 0, 1) := by decide +kernel
theorem dX1_setText_4 : decode cX1_setText 4 = .ok (.getfield 482, 3) := by decide +kernel
theorem dX1_setText_7 : decode cX1_setText 7 = .ok (.imul, 1) := by decide +kernel
theorem dX1_setText_8 : decode cX1_setText 8 = .ok (.iload_n 1, 1) := by decide +kernel
theorem dX1_setText_9 : decode cX1_setText 9 = .ok (.iadd, 1) := by decide +kernel
theorem dX1_setText_10 : decode cX1_setText 10 = .ok (.istore_n 2, 1) := by decide +kernel
theorem dX1_setText_11 : decode cX1_setText 11 = .ok (.aload_n 0, 1) := by decide +kernel
theorem dX1_setText_12 : decode cX1_setText 12 = .ok (.getfield 43, 3) := by decide +kernel
theorem dX1_setText_15 : decode cX1_setText 15 = .ok (.iload_n 2, 1) := by decide +kernel
theorem dX1_setText_16 : decode cX1_setText 16 = .ok (.iaload, 1) := by decide +kernel
theorem dX1_setText_17 : decode cX1_setText 17 = .ok (.istore_n 3, 1) := by decide +kernel
theorem dX1_setText_18 : decode cX1_setText 18 = .ok (.iload_n 3, 1) := by decide +kernel
theorem dX1_setText_19 : decode cX1_setText 19 = .ok (.aload_n 0, 1) := by decide +kernel
theorem dX1_setText_20 : decode cX1_setText 20 = .ok (.getfield 43, 3) := by decide +kernel
theorem dX1_setText_23 : decode cX1_setText 23 = .ok (.iload_n 2, 1) := by decide +kernel
theorem dX1_setText_24 : decode cX1_setText 24 = .ok (.iaload, 1) := by decide +kernel
theorem dX1_setText_25 : decode cX1_setText 25 = .ok (.aload_n 0, 1) := by decide +kernel
theorem dX1_setText_26 : decode cX1_setText 26 = .ok (.getfield 46, 3) := by decide +kernel
theorem dX1_setText_29 : decode cX1_setText 29 = .ok (.iload_n 2, 1) := by decide +kernel
theorem dX1_setText_30 : decode cX1_setText 30 = .ok (.iaload, 1) := by decide +kernel
theorem dX1_setText_31 : decode cX1_setText 31 = .ok (.iadd, 1) := by decide +kernel
theorem dX1_setText_32 : decode cX1_setText 32 = .ok (.if_icmp .ge 63, 3) := by decide +kernel
theorem dX1_setText_35 : decode cX1_setText 35 = .ok (.aload_n 0, 1) := by decide +kernel
theorem dX1_setText_36 : decode cX1_setText 36 = .ok (.getfield 55, 3) := by decide +kernel
theorem dX1_setText_39 : decode cX1_setText 39 = .ok (.iload_n 3, 1) := by decide +kernel
theorem dX1_setText_40 : decode cX1_setText 40 = .ok (.baload, 1) := by decide +kernel
theorem dX1_setText_41 : decode cX1_setText 41 = .ok (.invokestatic 297, 3) := by decide +kernel
theorem dX1_setText_44 : decode cX1_setText 44 = .ok (.ifCond .eq 10, 3) := by decide +kernel
theorem dX1_setText_47 : decode cX1_setText 47 = .ok (.aload_n 0, 1) := by decide +kernel
theorem dX1_setText_48 : decode cX1_setText 48 = .ok (.invokevirtual 636, 3) := by decide +kernel
theorem dX1_setText_51 : decode cX1_setText 51 = .ok (.goto 38, 3) := by decide +kernel
theorem dX1_setText_54 : decode cX1_setText 54 = .ok (.aload_n 0, 1) := by decide +kernel
theorem dX1_setText_55 : decode cX1_setText 55 = .ok (.getfield 237, 3) := by decide +kernel
theorem dX1_setText_58 : decode cX1_setText 58 = .ok (.aload_n 0, 1) := by decide +kernel
theorem dX1_setText_59 : decode cX1_setText 59 = .ok (.getfield 621, 3) := by decide +kernel
theorem dX1_setText_62 : decode cX1_setText 62 = .ok (.aload_n 0, 1) := by decide +kernel
theorem dX1_setText_63 : decode cX1_setText 63 = .ok (.getfield 55, 3) := by decide +kernel
theorem dX1_setText_66 : decode cX1_setText 66 = .ok (.iload_n 3, 1) := by decide +kernel
theorem dX1_setText_67 : decode cX1_setText 67 = .ok (.baload, 1) := by decide +kernel
theorem dX1_setText_68 : decode cX1_setText 68 = .ok (.bastore, 1) := by decide +kernel
theorem dX1_setText_69 : decode cX1_setText 69 = .ok (.aload_n 0, 1) := by decide +kernel
theorem dX1_setText_70 : decode cX1_setText 70 = .ok (.getfield 240, 3) := by decide +kernel
theorem dX1_setText_73 : decode cX1_setText 73 = .ok (.aload_n 0, 1) := by decide +kernel
theorem dX1_setText_74 : decode cX1_setText 74 = .ok (.getfield 621, 3) := by decide +kernel
theorem dX1_setText_77 : decode cX1_setText 77 = .ok (.iload_n 1, 1) := by decide +kernel
theorem dX1_setText_78 : decode cX1_setText 78 = .ok (.iastore, 1) := by decide +kernel
theorem dX1_setText_79 : decode cX1_setText 79 = .ok (.aload_n 0, 1) := by decide +kernel
theorem dX1_setText_80 : decode cX1_setText 80 = .ok (.dup, 1) := by decide +kernel
theorem dX1_setText_81 : decode cX1_setText 81 = .ok (.getfield 621, 3) := by decide +kernel
theorem dX1_setText_84 : decode cX1_setText 84 = .ok (.iconst 1, 1) := by decide +kernel
theorem dX1_setText_85 : decode cX1_setText 85 = .ok (.iadd, 1) := by decide +kernel
theorem dX1_setText_86 : decode cX1_setText 86 = .ok (.putfield 621, 3) := by decide +kernel
theorem dX1_setText_89 : decode cX1_setText 89 = .ok (.iinc 3 1, 3) := by decide +kernel
theorem dX1_setText_92 : decode cX1_setText 92 = .ok (.goto (-74), 3) := by decide +kernel
theorem dX1_setText_95 : decode cX1_setText 95 = .ok (.return_, 1) := by decide +kernel
def m_setText_18 : Nat → MEM → Int → Int → Int → Option zm_O
  | 0, _, _, _, _ => none
  | n + 1, σ, x1, x2, x3 => ck (0 ≤ x2 ∧ x2 < 1200) (ck (0 ≤ x2 ∧ x2 < 1200) (ck (inR ((σ 17 x2) + (σ 18 x2))) (if ((σ 17 x2) + (σ 18 x2)) ≤ x3 then (some (0, σ)) else (ck (0 ≤ x3 ∧ x3 < 4000) (bd (m_isS σ (σ 21 x3)) (fun r5 σ6 => if r5 = 0 then (ck (0 ≤ x3 ∧ x3 < 4000) (ck (0 ≤ (σ6 (-1) 98) ∧ (σ6 (-1) 98) < 2000) (nu (mup σ6 96 (σ6 (-1) 98) (σ6 21 x3)) (fun σ10 => ck (0 ≤ (σ10 (-1) 98) ∧ (σ10 (-1) 98) < 2000) (nu (mup σ10 97 (σ10 (-1) 98) x1) (fun σ12 => ck (inR ((σ12 (-1) 98) + 1)) (nu (mup σ12 (-1) 98 ((σ12 (-1) 98) + 1)) (fun σ15 => ck (inR (x3 + 1)) (m_setText_18 n σ15 x1 x2 (x3 + 1)))))))))) else (bd (m_endWord σ6) (fun _ σ17 => ck (inR (x3 + 1)) (m_setText_18 n σ17 x1 x2 (x3 + 1))))))))))
theorem w_setText_18 {C : zv_Cx zm_O} {G : zm_G} (h : zv_Ok C cX1_setText RX1) (hc : zm_C C G 4 (Option.none : Option FieldType) 0 2 44) : ∀ (n : Nat) (σ : MEM) (x1 x2 x3 : Int), inR x1 → inR x2 → inR x3 → VV C (m_setText_18 n σ x1 x2 x3) σ [(0, .ref (zm_h G)), (1, iv x1), (2, iv x2), (3, iv x3)] [] 18 := by
  have hN : ∀ i, i < 4 → i < zv_n C := fun i q => by rw [hc.2.2.1]; exact q
  intro n
  induction n with
  | zero => intros; exact r_none
  | succ n ih =>
    intro σ x1 x2 x3 hx1 hx2 hx3
    rw [m_setText_18]
    refine r_iload_n h 3 dX1_setText_18 rfl rfl ?_
    refine r_aload_n h 0 dX1_setText_19 rfl rfl ?_
    refine zm_getA h hc 17 (by decide) rfl q1497 rfl dX1_setText_20 ?_
    refine r_iload_n h 2 dX1_setText_23 rfl rfl ?_
    refine zm_ldI h hc 17 17 1200 (by decide) rfl rfl rfl (by decide) dX1_setText_24 (fun _ hr1 => ?_)
    refine r_aload_n h 0 dX1_setText_25 rfl rfl ?_
    refine zm_getA h hc 18 (by decide) rfl q1498 rfl dX1_setText_26 ?_
    refine r_iload_n h 2 dX1_setText_29 rfl rfl ?_
    refine zm_ldI h hc 18 18 1200 (by decide) rfl rfl rfl (by decide) dX1_setText_30 (fun _ hr2 => ?_)
    refine r_iadd h dX1_setText_31 ?_
    refine r_ck (fun hk3 => ?_)
    refine r_icmp_ge h hx3 hk3 95 dX1_setText_32 rfl ?_ ?_
    · exact zm_vret h hc rfl dX1_setText_95
    · refine r_aload_n h 0 dX1_setText_35 rfl rfl ?_
      refine zm_getA h hc 21 (by decide) rfl q1501 rfl dX1_setText_36 ?_
      refine r_iload_n h 3 dX1_setText_39 rfl rfl ?_
      refine zm_ldB h hc 21 21 4000 (by decide) rfl rfl rfl (by decide) dX1_setText_40 (fun _ hr4 => ?_)
      refine zm_cSz h hc (n := 1) (As := [iv (σ 21 x3)]) (fun o1 e1 => w_isS hc.1 _ (σ 21 x3) hr4.r o1 e1) q1821 q1822 q136 q1823 (by decide +kernel) ⟨by decide, by decide⟩ rfl (Nat.le_of_ble_eq_true rfl) rfl dX1_setText_41 (fun r5 σ6 hr7 => ?_)
      refine r_if_eq h hr7.r 54 dX1_setText_44 rfl ?_ ?_
      · refine r_aload_n h 0 dX1_setText_54 rfl rfl ?_
        refine zm_getA h hc 96 (by decide) rfl q1575 rfl dX1_setText_55 ?_
        refine r_aload_n h 0 dX1_setText_58 rfl rfl ?_
        refine zm_getI h hc 98 98 (by decide) rfl rfl q1577 rfl dX1_setText_59 (fun hr8 => ?_)
        refine r_aload_n h 0 dX1_setText_62 rfl rfl ?_
        refine zm_getA h hc 21 (by decide) rfl q1501 rfl dX1_setText_63 ?_
        refine r_iload_n h 3 dX1_setText_66 rfl rfl ?_
        refine zm_ldB h hc 21 21 4000 (by decide) rfl rfl rfl (by decide) dX1_setText_67 (fun _ hr9 => ?_)
        refine zm_stB h hc 96 96 2000 (by decide) rfl rfl rfl (by decide) hr9 dX1_setText_68 (fun _ σ10 _ => ?_)
        refine r_aload_n h 0 dX1_setText_69 rfl rfl ?_
        refine zm_getA h hc 97 (by decide) rfl q1576 rfl dX1_setText_70 ?_
        refine r_aload_n h 0 dX1_setText_73 rfl rfl ?_
        refine zm_getI h hc 98 98 (by decide) rfl rfl q1577 rfl dX1_setText_74 (fun hr11 => ?_)
        refine r_iload_n h 1 dX1_setText_77 rfl rfl ?_
        refine zm_stI h hc 97 97 2000 (by decide) rfl rfl rfl (by decide) hx1 dX1_setText_78 (fun _ σ12 _ => ?_)
        refine r_aload_n h 0 dX1_setText_79 rfl rfl ?_
        refine r_dup h dX1_setText_80 rfl ?_
        refine zm_getI h hc 98 98 (by decide) rfl rfl q1577 rfl dX1_setText_81 (fun hr13 => ?_)
        refine r_iconst h dX1_setText_84 ?_
        refine r_iadd h dX1_setText_85 ?_
        refine r_ck (fun hk14 => ?_)
        refine zm_putI h hc 98 98 (by decide) rfl rfl q1577 ⟨rfl, rfl, by decide +kernel⟩ hk14 dX1_setText_86 (fun σ15 _ => ?_)
        refine r_iinc (lv' := [(3, iv (x3 + 1)), (0, .ref (zm_h G)), (1, iv x1), (2, iv x2)]) h 3 dX1_setText_89 rfl (hN _ (by decide)) rfl ?_
        refine r_goto h 18 dX1_setText_92 rfl ?_
        refine r_ck (fun hk16 => ?_)
        exact r_lv [1, 2, 3, 0] rfl (ih _ x1 x2 (x3 + 1) hx1 hx2 hk16)
      · refine r_aload_n h 0 dX1_setText_47 rfl rfl ?_
        refine zm_cVv h hc (n := 0) (As := []) (fun o1 e1 => w_endWord hc.1 _ o1 e1) q2135 q2137 qs123 q136 q2138 (by decide +kernel) ⟨by decide, by decide⟩ rfl (Nat.le_of_ble_eq_true rfl) rfl dX1_setText_48 (fun σ17  => ?_)
        refine r_goto h 89 dX1_setText_51 rfl ?_
        refine r_iinc (lv' := [(3, iv (x3 + 1)), (0, .ref (zm_h G)), (1, iv x1), (2, iv x2)]) h 3 dX1_setText_89 rfl (hN _ (by decide)) rfl ?_
        refine r_goto h 18 dX1_setText_92 rfl ?_
        refine r_ck (fun hk18 => ?_)
        exact r_lv [1, 2, 3, 0] rfl (ih _ x1 x2 (x3 + 1) hx1 hx2 hk18)
def m_setText (σ : MEM) (a0 : Int) : Option zm_O := ck (0 ≤ ((600 * (σ (-1) 7)) + a0) ∧ ((600 * (σ (-1) 7)) + a0) < 1200) (ck (inR ((600 * (σ (-1) 7)) + a0)) (m_setText_18 zF σ a0 ((600 * (σ (-1) 7)) + a0) (σ 17 ((600 * (σ (-1) 7)) + a0))))
theorem w_setText {G : zm_G} (hD : zm_D G) (σ : MEM) (a0 : Int) (ha0 : inR a0) (o : zm_O) (hd : m_setText σ a0 = some o) : zm_Met G yX1_setText cX1_setText 4 (Option.none : Option FieldType) 0 2 44 σ [.ref (zm_h G), iv a0] o := by
  refine zm_intro hD hd (by decide) rfl (Nat.le_of_ble_eq_true rfl) rfl (fun C h hc => ?_)
  have hN : ∀ i, i < 4 → i < zv_n C := fun i q => by rw [hc.2.2.1]; exact q
  unfold m_setText
  refine r_sipush h dX1_setText_0 (by decide) ?_
  refine r_aload_n h 0 dX1_setText_3 rfl rfl ?_
  refine zm_getI h hc 7 7 (by decide) rfl rfl q1487 rfl dX1_setText_4 (fun hr1 => ?_)
  refine r_imul h dX1_setText_7 ?_
  refine r_iload_n h 1 dX1_setText_8 rfl rfl ?_
  refine r_iadd h dX1_setText_9 ?_
  refine r_istore_n (lv' := [(2, iv ((600 * (σ (-1) 7)) + a0)), (0, .ref (zm_h G)), (1, iv a0)]) h dX1_setText_10 rfl (hN _ (by decide)) rfl ?_
  refine r_aload_n h 1 dX1_setText_11 rfl rfl ?_
  refine zm_getA h hc 17 (by decide) rfl q1497 rfl dX1_setText_12 ?_
  refine r_iload_n h 0 dX1_setText_15 rfl rfl ?_
  refine zm_ldI h hc 17 17 1200 (by decide) rfl rfl rfl (by decide) dX1_setText_16 (fun _ hr2 => ?_)
  refine r_istore_n (lv' := [(3, iv (σ 17 ((600 * (σ (-1) 7)) + a0))), (2, iv ((600 * (σ (-1) 7)) + a0)), (0, .ref (zm_h G)), (1, iv a0)]) h dX1_setText_17 rfl (hN _ (by decide)) rfl ?_
  refine r_ck (fun hk3 => ?_)
  exact r_lv [2, 3, 1, 0] rfl (w_setText_18 h hc zF _ a0 ((600 * (σ (-1) 7)) + a0) (σ 17 ((600 * (σ (-1) 7)) + a0)) ha0 hk3 hr2)
theorem dX1_toPages_0 : decode cX1_toPages 0 = .ok (.iconst 0, 1) := by decide +kernel
theorem dX1_toPages_1 : decode cX1_toPages 1 = .ok (.istore_n 2, 1) := by decide +kernel
theorem dX1_toPages_2 : decode cX1_toPages 2 = .ok (.iconst 0, 1) := by decide +kernel
theorem dX1_toPages_3 : decode cX1_toPages 3 = .ok (.istore_n 3, 1) := by decide +kernel
theorem dX1_toPages_4 : decode cX1_toPages 4 = .ok (.iconst 0, 1) := by decide +kernel
theorem dX1_toPages_5 : decode cX1_toPages 5 = .ok (.istore 4, 2) := by decide +kernel
theorem dX1_toPages_7 : decode cX1_toPages 7 = .ok (.iload 4, 2) := by decide +kernel
theorem dX1_toPages_9 : decode cX1_toPages 9 = .ok (.aload_n 0, 1) := by decide +kernel
theorem dX1_toPages_10 : decode cX1_toPages 10 = .ok (.getfield 501, 3) := by decide +kernel
theorem dX1_toPages_13 : decode cX1_toPages 13 = .ok (.if_icmp .ge 104, 3) := by decide +kernel
theorem dX1_toPages_16 : decode cX1_toPages 16 = .ok (.iconst 0, 1) := by decide +kernel
theorem dX1_toPages_17 : decode cX1_toPages 17 = .ok (.istore 5, 2) := by decide +kernel
theorem dX1_toPages_19 : decode cX1_toPages 19 = .ok (.iload 5, 2) := by decide +kernel
theorem dX1_toPages_21 : decode cX1_toPages 21 = .ok (.aload_n 0, 1) := by decide +kernel
theorem dX1_toPages_22 : decode cX1_toPages 22 = .ok (.getfield 639, 3) := by decide +kernel
theorem dX1_toPages_25 : decode cX1_toPages 25 = .ok (.if_icmp .ge 57, 3) := by decide +kernel
theorem dX1_toPages_28 : decode cX1_toPages 28 = .ok (.aload_n 0, 1) := by decide +kernel
theorem dX1_toPages_29 : decode cX1_toPages 29 = .ok (.getfield 234, 3) := by decide +kernel
theorem dX1_toPages_32 : decode cX1_toPages 32 = .ok (.iload 5, 2) := by decide +kernel
theorem dX1_toPages_34 : decode cX1_toPages 34 = .ok (.iaload, 1) := by decide +kernel
theorem dX1_toPages_35 : decode cX1_toPages 35 = .ok (.aload_n 0, 1) := by decide +kernel
theorem dX1_toPages_36 : decode cX1_toPages 36 = .ok (.getfield 231, 3) := by decide +kernel
theorem dX1_toPages_39 : decode cX1_toPages 39 = .ok (.iload 5, 2) := by decide +kernel
theorem dX1_toPages_41 : decode cX1_toPages 41 = .ok (.iaload, 1) := by decide +kernel
theorem dX1_toPages_42 : decode cX1_toPages 42 = .ok (.isub, 1) := by decide +kernel
theorem dX1_toPages_43 : decode cX1_toPages 43 = .ok (.istore 6, 2) := by decide +kernel
theorem dX1_toPages_45 : decode cX1_toPages 45 = .ok (.aload_n 0, 1) := by decide +kernel
theorem dX1_toPages_46 : decode cX1_toPages 46 = .ok (.getfield 231, 3) := by decide +kernel
theorem dX1_toPages_49 : decode cX1_toPages 49 = .ok (.iload 5, 2) := by decide +kernel
theorem dX1_toPages_51 : decode cX1_toPages 51 = .ok (.iaload, 1) := by decide +kernel
theorem dX1_toPages_52 : decode cX1_toPages 52 = .ok (.iload 4, 2) := by decide +kernel
theorem dX1_toPages_54 : decode cX1_toPages 54 = .ok (.if_icmp .ne 22, 3) := by decide +kernel
theorem dX1_toPages_57 : decode cX1_toPages 57 = .ok (.iload 6, 2) := by decide +kernel
theorem dX1_toPages_59 : decode cX1_toPages 59 = .ok (.iload_n 1, 1) := by decide +kernel
theorem dX1_toPages_60 : decode cX1_toPages 60 = .ok (.if_icmp .gt 16, 3) := by decide +kernel
theorem dX1_toPages_63 : decode cX1_toPages 63 = .ok (.iload_n 3, 1) := by decide +kernel
theorem dX1_toPages_64 : decode cX1_toPages 64 = .ok (.iload 6, 2) := by decide +kernel
theorem dX1_toPages_66 : decode cX1_toPages 66 = .ok (.iadd, 1) := by decide +kernel
theorem dX1_toPages_67 : decode cX1_toPages 67 = .ok (.iload_n 1, 1) := by decide +kernel
theorem dX1_toPages_68 : decode cX1_toPages 68 = .ok (.if_icmp .le 8, 3) := by decide +kernel
theorem dX1_toPages_71 : decode cX1_toPages 71 = .ok (.iinc 2 1, 3) := by decide +kernel
theorem dX1_toPages_74 : decode cX1_toPages 74 = .ok (.iconst 0, 1) := by decide +kernel
theorem dX1_toPages_75 : decode cX1_toPages 75 = .ok (.istore_n 3, 1) := by decide +kernel
theorem dX1_toPages_76 : decode cX1_toPages 76 = .ok (.iinc 5 1, 3) := by decide +kernel
theorem dX1_toPages_79 : decode cX1_toPages 79 = .ok (.goto (-60), 3) := by decide +kernel
theorem dX1_toPages_82 : decode cX1_toPages 82 = .ok (.iload_n 3, 1) := by decide +kernel
theorem dX1_toPages_83 : decode cX1_toPages 83 = .ok (.iload_n 1, 1) := by decide +kernel
theorem dX1_toPages_84 : decode cX1_toPages 84 = .ok (.if_icmp .ne 8, 3) := by decide +kernel
theorem dX1_toPages_87 : decode cX1_toPages 87 = .ok (.iinc 2 1, 3) := by decide +kernel
theorem dX1_toPages_90 : decode cX1_toPages 90 = .ok (.iconst 0, 1) := by decide +kernel
theorem dX1_toPages_91 : decode cX1_toPages 91 = .ok (.istore_n 3, 1) := by decide +kernel
theorem dX1_toPages_92 : decode cX1_toPages 92 = .ok (.aload_n 0, 1) := by decide +kernel
theorem dX1_toPages_93 : decode cX1_toPages 93 = .ok (.getfield 222, 3) := by decide +kernel
theorem dX1_toPages_96 : decode cX1_toPages 96 = .ok (.iload 4, 2) := by decide +kernel
theorem dX1_toPages_98 : decode cX1_toPages 98 = .ok (.iload_n 2, 1) := by decide +kernel
theorem dX1_toPages_99 : decode cX1_toPages 99 = .ok (.iastore, 1) := by decide +kernel
theorem dX1_toPages_100 : decode cX1_toPages 100 = .ok (.aload_n 0, 1) := by decide +kernel
theorem dX1_toPages_101 : decode cX1_toPages 101 = .ok (.getfield 225, 3) := by decide +kernel
theorem dX1_toPages_104 : decode cX1_toPages 104 = .ok (.iload 4, 2) := by decide +kernel
theorem dX1_toPages_106 : decode cX1_toPages 106 = .ok (.iload_n 3, 1) := by decide +kernel
theorem dX1_toPages_107 : decode cX1_toPages 107 = .ok (.iastore, 1) := by decide +kernel
theorem dX1_toPages_108 : decode cX1_toPages 108 = .ok (.iinc 3 1, 3) := by decide +kernel
theorem dX1_toPages_111 : decode cX1_toPages 111 = .ok (.iinc 4 1, 3) := by decide +kernel
theorem dX1_toPages_114 : decode cX1_toPages 114 = .ok (.goto (-107), 3) := by decide +kernel
theorem dX1_toPages_117 : decode cX1_toPages 117 = .ok (.aload_n 0, 1) := by decide +kernel
theorem dX1_toPages_118 : decode cX1_toPages 118 = .ok (.aload_n 0, 1) := by decide +kernel
theorem dX1_toPages_119 : decode cX1_toPages 119 = .ok (.getfield 501, 3) := by decide +kernel
theorem dX1_toPages_122 : decode cX1_toPages 122 = .ok (.ifCond .ne 7, 3) := by decide +kernel
theorem dX1_toPages_125 : decode cX1_toPages 125 = .ok (.iconst 0, 1) := by decide +kernel
theorem dX1_toPages_126 : decode cX1_toPages 126 = .ok (.goto 6, 3) := by decide +kernel
theorem dX1_toPages_129 : decode cX1_toPages 129 = .ok (.iload_n 2, 1) := by decide +kernel
theorem dX1_toPages_130 : decode cX1_toPages 130 = .ok (.iconst 1, 1) := by decide +kernel
theorem dX1_toPages_131 : decode cX1_toPages 131 = .ok (.iadd, 1) := by decide +kernel
theorem dX1_toPages_132 : decode cX1_toPages 132 = .ok (.putfield 661, 3) := by decide +kernel
theorem dX1_toPages_135 : decode cX1_toPages 135 = .ok (.return_, 1) := by decide +kernel
def m_toPages_92 (lp7 : MEM → Int → Int → Int → Int → Option zm_O) (σ : MEM) (x1 x2 x3 x4 : Int) : Option zm_O := ck (0 ≤ x4 ∧ x4 < 4000) (nu (mup σ 90 x4 x2) (fun σ1 => ck (0 ≤ x4 ∧ x4 < 4000) (nu (mup σ1 91 x4 x3) (fun σ2 => ck (inR (x3 + 1)) (ck (inR (x4 + 1)) (lp7 σ2 x1 x2 (x3 + 1) (x4 + 1)))))))
theorem w_toPages_92 {C : zv_Cx zm_O} {G : zm_G} (h : zv_Ok C cX1_toPages RX1) (hc : zm_C C G 7 (Option.none : Option FieldType) 0 0 0) (lp7 : MEM → Int → Int → Int → Int → Option zm_O) (hlp7 : ∀ (σ : MEM) (x1 x2 x3 x4 : Int), inR x1 → inR x2 → inR x3 → inR x4 → VV C (lp7 σ x1 x2 x3 x4) σ [(0, .ref (zm_h G)), (1, iv x1), (2, iv x2), (3, iv x3), (4, iv x4)] [] 7) (σ : MEM) (x1 x2 x3 x4 : Int) (hx1 : inR x1) (hx2 : inR x2) (hx3 : inR x3) (hx4 : inR x4) : VV C (m_toPages_92 lp7 σ x1 x2 x3 x4) σ [(0, .ref (zm_h G)), (1, iv x1), (2, iv x2), (3, iv x3), (4, iv x4)] [] 92 := by
  have hN : ∀ i, i < 7 → i < zv_n C := fun i q => by rw [hc.2.2.1]; exact q
  unfold m_toPages_92
  refine r_aload_n h 0 dX1_toPages_92 rfl rfl ?_
  refine zm_getA h hc 90 (by decide) rfl q1569 rfl dX1_toPages_93 ?_
  refine r_iload h 4 dX1_toPages_96 rfl ?_
  refine r_iload_n h 2 dX1_toPages_98 rfl rfl ?_
  refine zm_stI h hc 90 90 4000 (by decide) rfl rfl rfl (by decide) hx2 dX1_toPages_99 (fun _ σ1 _ => ?_)
  refine r_aload_n h 0 dX1_toPages_100 rfl rfl ?_
  refine zm_getA h hc 91 (by decide) rfl q1570 rfl dX1_toPages_101 ?_
  refine r_iload h 4 dX1_toPages_104 rfl ?_
  refine r_iload_n h 3 dX1_toPages_106 rfl rfl ?_
  refine zm_stI h hc 91 91 4000 (by decide) rfl rfl rfl (by decide) hx3 dX1_toPages_107 (fun _ σ2 _ => ?_)
  refine r_iinc (lv' := [(3, iv (x3 + 1)), (0, .ref (zm_h G)), (1, iv x1), (2, iv x2), (4, iv x4)]) h 3 dX1_toPages_108 rfl (hN _ (by decide)) rfl ?_
  refine r_iinc (lv' := [(4, iv (x4 + 1)), (3, iv (x3 + 1)), (0, .ref (zm_h G)), (1, iv x1), (2, iv x2)]) h 4 dX1_toPages_111 rfl (hN _ (by decide)) rfl ?_
  refine r_goto h 7 dX1_toPages_114 rfl ?_
  refine r_ck (fun hk3 => ?_)
  refine r_ck (fun hk4 => ?_)
  exact r_lv [2, 3, 4, 1, 0] rfl (hlp7 _ x1 x2 (x3 + 1) (x4 + 1) hx1 hx2 hk3 hk4)
def m_toPages_19 (lp7 : MEM → Int → Int → Int → Int → Option zm_O) : Nat → MEM → Int → Int → Int → Int → Int → Option zm_O
  | 0, _, _, _, _, _, _ => none
  | n + 1, σ, x1, x2, x3, x4, x5 => if (σ (-1) 95) ≤ x5 then (if x3 = x1 then (ck (inR (x2 + 1)) (m_toPages_92 lp7 σ x1 (x2 + 1) 0 x4)) else (m_toPages_92 lp7 σ x1 x2 x3 x4)) else (ck (0 ≤ x5 ∧ x5 < 600) (ck (0 ≤ x5 ∧ x5 < 600) (ck (0 ≤ x5 ∧ x5 < 600) (if (σ 93 x5) = x4 then (ck (inR ((σ 94 x5) - (σ 93 x5))) (if x1 < ((σ 94 x5) - (σ 93 x5)) then (ck (inR (x5 + 1)) (m_toPages_19 lp7 n σ x1 x2 x3 x4 (x5 + 1))) else (ck (inR (x3 + ((σ 94 x5) - (σ 93 x5)))) (if (x3 + ((σ 94 x5) - (σ 93 x5))) ≤ x1 then (ck (inR (x5 + 1)) (m_toPages_19 lp7 n σ x1 x2 x3 x4 (x5 + 1))) else (ck (inR (x2 + 1)) (ck (inR (x5 + 1)) (m_toPages_19 lp7 n σ x1 (x2 + 1) 0 x4 (x5 + 1)))))))) else (ck (inR (x5 + 1)) (m_toPages_19 lp7 n σ x1 x2 x3 x4 (x5 + 1)))))))
theorem w_toPages_19 {C : zv_Cx zm_O} {G : zm_G} (h : zv_Ok C cX1_toPages RX1) (hc : zm_C C G 7 (Option.none : Option FieldType) 0 0 0) (lp7 : MEM → Int → Int → Int → Int → Option zm_O) (hlp7 : ∀ (σ : MEM) (x1 x2 x3 x4 : Int), inR x1 → inR x2 → inR x3 → inR x4 → VV C (lp7 σ x1 x2 x3 x4) σ [(0, .ref (zm_h G)), (1, iv x1), (2, iv x2), (3, iv x3), (4, iv x4)] [] 7) : ∀ (n : Nat) (σ : MEM) (x1 x2 x3 x4 x5 : Int), inR x1 → inR x2 → inR x3 → inR x4 → inR x5 → VV C (m_toPages_19 lp7 n σ x1 x2 x3 x4 x5) σ [(0, .ref (zm_h G)), (1, iv x1), (2, iv x2), (3, iv x3), (4, iv x4), (5, iv x5)] [] 19 := by
  have hN : ∀ i, i < 7 → i < zv_n C := fun i q => by rw [hc.2.2.1]; exact q
  intro n
  induction n with
  | zero => intros; exact r_none
  | succ n ih =>
    intro σ x1 x2 x3 x4 x5 hx1 hx2 hx3 hx4 hx5
    rw [m_toPages_19]
    refine r_iload h 5 dX1_toPages_19 rfl ?_
    refine r_aload_n h 0 dX1_toPages_21 rfl rfl ?_
    refine zm_getI h hc 95 95 (by decide) rfl rfl q1574 rfl dX1_toPages_22 (fun hr1 => ?_)
    refine r_icmp_ge h hx5 hr1 82 dX1_toPages_25 rfl ?_ ?_
    · refine r_iload_n h 3 dX1_toPages_82 rfl rfl ?_
      refine r_iload_n h 1 dX1_toPages_83 rfl rfl ?_
      refine r_icmp_ne h hx3 hx1 92 dX1_toPages_84 rfl ?_ ?_
      · refine r_iinc (lv' := [(2, iv (x2 + 1)), (0, .ref (zm_h G)), (1, iv x1), (3, iv x3), (4, iv x4), (5, iv x5)]) h 2 dX1_toPages_87 rfl (hN _ (by decide)) rfl ?_
        refine r_iconst h dX1_toPages_90 ?_
        refine r_istore_n (lv' := [(3, iv 0), (2, iv (x2 + 1)), (0, .ref (zm_h G)), (1, iv x1), (4, iv x4), (5, iv x5)]) h dX1_toPages_91 rfl (hN _ (by decide)) rfl ?_
        refine r_ck (fun hk2 => ?_)
        exact r_lv [2, 3, 1, 0, 4] rfl (w_toPages_92 h hc lp7 hlp7 _ x1 (x2 + 1) 0 x4 hx1 hk2 (by decide) hx4)
      · exact r_lv [0, 1, 2, 3, 4] rfl (w_toPages_92 h hc lp7 hlp7 _ x1 x2 x3 x4 hx1 hx2 hx3 hx4)
    · refine r_aload_n h 0 dX1_toPages_28 rfl rfl ?_
      refine zm_getA h hc 94 (by decide) rfl q1573 rfl dX1_toPages_29 ?_
      refine r_iload h 5 dX1_toPages_32 rfl ?_
      refine zm_ldI h hc 94 94 600 (by decide) rfl rfl rfl (by decide) dX1_toPages_34 (fun _ hr3 => ?_)
      refine r_aload_n h 0 dX1_toPages_35 rfl rfl ?_
      refine zm_getA h hc 93 (by decide) rfl q1572 rfl dX1_toPages_36 ?_
      refine r_iload h 5 dX1_toPages_39 rfl ?_
      refine zm_ldI h hc 93 93 600 (by decide) rfl rfl rfl (by decide) dX1_toPages_41 (fun _ hr4 => ?_)
      refine r_isub h dX1_toPages_42 ?_
      refine r_istore (lv' := [(6, iv ((σ 94 x5) - (σ 93 x5))), (0, .ref (zm_h G)), (1, iv x1), (2, iv x2), (3, iv x3), (4, iv x4), (5, iv x5)]) h dX1_toPages_43 (hN _ (by decide)) rfl ?_
      refine r_aload_n h 1 dX1_toPages_45 rfl rfl ?_
      refine zm_getA h hc 93 (by decide) rfl q1572 rfl dX1_toPages_46 ?_
      refine r_iload h 6 dX1_toPages_49 rfl ?_
      refine zm_ldI h hc 93 93 600 (by decide) rfl rfl rfl (by decide) dX1_toPages_51 (fun _ hr5 => ?_)
      refine r_iload h 5 dX1_toPages_52 rfl ?_
      refine r_icmp_ne h hr5 hx4 76 dX1_toPages_54 rfl ?_ ?_
      · refine r_iload h 0 dX1_toPages_57 rfl ?_
        refine r_iload_n h 2 dX1_toPages_59 rfl rfl ?_
        refine r_ck (fun hk6 => ?_)
        refine r_icmp_gt h hk6 hx1 76 dX1_toPages_60 rfl ?_ ?_
        · refine r_iinc (lv' := [(5, iv (x5 + 1)), (6, iv ((σ 94 x5) - (σ 93 x5))), (0, .ref (zm_h G)), (1, iv x1), (2, iv x2), (3, iv x3), (4, iv x4)]) h 6 dX1_toPages_76 rfl (hN _ (by decide)) rfl ?_
          refine r_goto h 19 dX1_toPages_79 rfl ?_
          refine r_ck (fun hk7 => ?_)
          exact r_lv [2, 3, 4, 5, 6, 0] rfl (ih _ x1 x2 x3 x4 (x5 + 1) hx1 hx2 hx3 hx4 hk7)
        · refine r_iload_n h 4 dX1_toPages_63 rfl rfl ?_
          refine r_iload h 0 dX1_toPages_64 rfl ?_
          refine r_iadd h dX1_toPages_66 ?_
          refine r_iload_n h 2 dX1_toPages_67 rfl rfl ?_
          refine r_ck (fun hk8 => ?_)
          refine r_icmp_le h hk8 hx1 76 dX1_toPages_68 rfl ?_ ?_
          · refine r_iinc (lv' := [(5, iv (x5 + 1)), (6, iv ((σ 94 x5) - (σ 93 x5))), (0, .ref (zm_h G)), (1, iv x1), (2, iv x2), (3, iv x3), (4, iv x4)]) h 6 dX1_toPages_76 rfl (hN _ (by decide)) rfl ?_
            refine r_goto h 19 dX1_toPages_79 rfl ?_
            refine r_ck (fun hk9 => ?_)
            exact r_lv [2, 3, 4, 5, 6, 0] rfl (ih _ x1 x2 x3 x4 (x5 + 1) hx1 hx2 hx3 hx4 hk9)
          · refine r_iinc (lv' := [(2, iv (x2 + 1)), (6, iv ((σ 94 x5) - (σ 93 x5))), (0, .ref (zm_h G)), (1, iv x1), (3, iv x3), (4, iv x4), (5, iv x5)]) h 3 dX1_toPages_71 rfl (hN _ (by decide)) rfl ?_
            refine r_iconst h dX1_toPages_74 ?_
            refine r_istore_n (lv' := [(3, iv 0), (2, iv (x2 + 1)), (6, iv ((σ 94 x5) - (σ 93 x5))), (0, .ref (zm_h G)), (1, iv x1), (4, iv x4), (5, iv x5)]) h dX1_toPages_75 rfl (hN _ (by decide)) rfl ?_
            refine r_iinc (lv' := [(5, iv (x5 + 1)), (3, iv 0), (2, iv (x2 + 1)), (6, iv ((σ 94 x5) - (σ 93 x5))), (0, .ref (zm_h G)), (1, iv x1), (4, iv x4)]) h 6 dX1_toPages_76 rfl (hN _ (by decide)) rfl ?_
            refine r_goto h 19 dX1_toPages_79 rfl ?_
            refine r_ck (fun hk10 => ?_)
            refine r_ck (fun hk11 => ?_)
            exact r_lv [4, 5, 2, 1, 6, 0] rfl (ih _ x1 (x2 + 1) 0 x4 (x5 + 1) hx1 hk10 (by decide) hx4 hk11)
      · refine r_iinc (lv' := [(5, iv (x5 + 1)), (6, iv ((σ 94 x5) - (σ 93 x5))), (0, .ref (zm_h G)), (1, iv x1), (2, iv x2), (3, iv x3), (4, iv x4)]) h 6 dX1_toPages_76 rfl (hN _ (by decide)) rfl ?_
        refine r_goto h 19 dX1_toPages_79 rfl ?_
        refine r_ck (fun hk12 => ?_)
        exact r_lv [2, 3, 4, 5, 6, 0] rfl (ih _ x1 x2 x3 x4 (x5 + 1) hx1 hx2 hx3 hx4 hk12)
def m_toPages_7 : Nat → MEM → Int → Int → Int → Int → Option zm_O
  | 0, _, _, _, _, _ => none
  | n + 1, σ, x1, x2, x3, x4 => if (σ (-1) 86) ≤ x4 then (if (σ (-1) 86) = 0 then (nu (mup σ (-1) 87 0) (fun σ3 => some (0, σ3))) else (ck (inR (x2 + 1)) (nu (mup σ (-1) 87 (x2 + 1)) (fun σ5 => some (0, σ5))))) else (m_toPages_19 (m_toPages_7 n) zF σ x1 x2 x3 x4 0)
theorem w_toPages_7 {C : zv_Cx zm_O} {G : zm_G} (h : zv_Ok C cX1_toPages RX1) (hc : zm_C C G 7 (Option.none : Option FieldType) 0 0 0) : ∀ (n : Nat) (σ : MEM) (x1 x2 x3 x4 : Int), inR x1 → inR x2 → inR x3 → inR x4 → VV C (m_toPages_7 n σ x1 x2 x3 x4) σ [(0, .ref (zm_h G)), (1, iv x1), (2, iv x2), (3, iv x3), (4, iv x4)] [] 7 := by
  have hN : ∀ i, i < 7 → i < zv_n C := fun i q => by rw [hc.2.2.1]; exact q
  intro n
  induction n with
  | zero => intros; exact r_none
  | succ n ih =>
    intro σ x1 x2 x3 x4 hx1 hx2 hx3 hx4
    rw [m_toPages_7]
    refine r_iload h 4 dX1_toPages_7 rfl ?_
    refine r_aload_n h 0 dX1_toPages_9 rfl rfl ?_
    refine zm_getI h hc 86 86 (by decide) rfl rfl q1565 rfl dX1_toPages_10 (fun hr1 => ?_)
    refine r_icmp_ge h hx4 hr1 117 dX1_toPages_13 rfl ?_ ?_
    · refine r_aload_n h 0 dX1_toPages_117 rfl rfl ?_
      refine r_aload_n h 0 dX1_toPages_118 rfl rfl ?_
      refine zm_getI h hc 86 86 (by decide) rfl rfl q1565 rfl dX1_toPages_119 (fun hr2 => ?_)
      refine r_if_ne h hr2 129 dX1_toPages_122 rfl ?_ ?_
      · refine r_iconst h dX1_toPages_125 ?_
        refine r_goto h 132 dX1_toPages_126 rfl ?_
        refine zm_putI h hc 87 87 (by decide) rfl rfl q1566 ⟨rfl, rfl, by decide +kernel⟩ (by decide) dX1_toPages_132 (fun σ3 _ => ?_)
        exact zm_vret h hc rfl dX1_toPages_135
      · refine r_iload_n h 2 dX1_toPages_129 rfl rfl ?_
        refine r_iconst h dX1_toPages_130 ?_
        refine r_iadd h dX1_toPages_131 ?_
        refine r_ck (fun hk4 => ?_)
        refine zm_putI h hc 87 87 (by decide) rfl rfl q1566 ⟨rfl, rfl, by decide +kernel⟩ hk4 dX1_toPages_132 (fun σ5 _ => ?_)
        exact zm_vret h hc rfl dX1_toPages_135
    · refine r_iconst h dX1_toPages_16 ?_
      refine r_istore (lv' := [(5, iv 0), (0, .ref (zm_h G)), (1, iv x1), (2, iv x2), (3, iv x3), (4, iv x4)]) h dX1_toPages_17 (hN _ (by decide)) rfl ?_
      exact r_lv [1, 2, 3, 4, 5, 0] rfl (w_toPages_19 h hc (m_toPages_7 n) ih zF _ x1 x2 x3 x4 0 hx1 hx2 hx3 hx4 (by decide))
def m_toPages (σ : MEM) (a0 : Int) : Option zm_O := m_toPages_7 zF σ a0 0 0 0
theorem w_toPages {G : zm_G} (hD : zm_D G) (σ : MEM) (a0 : Int) (ha0 : inR a0) (o : zm_O) (hd : m_toPages σ a0 = some o) : zm_Met G yX1_toPages cX1_toPages 7 (Option.none : Option FieldType) 0 0 0 σ [.ref (zm_h G), iv a0] o := by
  refine zm_intro hD hd (by decide) rfl (Nat.le_of_ble_eq_true rfl) rfl (fun C h hc => ?_)
  have hN : ∀ i, i < 7 → i < zv_n C := fun i q => by rw [hc.2.2.1]; exact q
  unfold m_toPages
  refine r_iconst h dX1_toPages_0 ?_
  refine r_istore_n (lv' := [(2, iv 0), (0, .ref (zm_h G)), (1, iv a0)]) h dX1_toPages_1 rfl (hN _ (by decide)) rfl ?_
  refine r_iconst h dX1_toPages_2 ?_
  refine r_istore_n (lv' := [(3, iv 0), (2, iv 0), (0, .ref (zm_h G)), (1, iv a0)]) h dX1_toPages_3 rfl (hN _ (by decide)) rfl ?_
  refine r_iconst h dX1_toPages_4 ?_
  refine r_istore (lv' := [(4, iv 0), (3, iv 0), (2, iv 0), (0, .ref (zm_h G)), (1, iv a0)]) h dX1_toPages_5 (hN _ (by decide)) rfl ?_
  exact r_lv [3, 4, 2, 1, 0] rfl (w_toPages_7 h hc zF _ a0 0 0 0 ha0 (by decide) (by decide) (by decide))
theorem dX1_set_0 : decode cX1_set 0 = .ok (.aload_n 0, 1) := by decide +kernel
theorem dX1_set_1 : decode cX1_set 1 = .ok (.getfield 498, 3) := by decide +kernel
theorem dX1_set_4 : decode cX1_set 4 = .ok (.ifCond .eq 27, 3) := by decide +kernel
theorem dX1_set_7 : decode cX1_set 7 = .ok (.iload_n 1, 1) := by decide +kernel
theorem dX1_set_8 : decode cX1_set 8 = .ok (.i2l, 1) := by decide +kernel
theorem dX1_set_9 : decode cX1_set 9 = .ok (.lconst 1, 1) := by decide +kernel
theorem dX1_set_10 : decode cX1_set 10 = .ok (.ldc2_w 642, 3) := by decide +kernel
theorem dX1_set_13 : decode cX1_set 13 = .ok (.invokestatic 256, 3) := by decide +kernel
theorem dX1_set_16 : decode cX1_set 16 = .ok (.ifCond .eq 15, 3) := by decide +kernel
theorem dX1_set_19 : decode cX1_set 19 = .ok (.iload_n 2, 1) := by decide +kernel
theorem dX1_set_20 : decode cX1_set 20 = .ok (.i2l, 1) := by decide +kernel
theorem dX1_set_21 : decode cX1_set 21 = .ok (.lconst 1, 1) := by decide +kernel
theorem dX1_set_22 : decode cX1_set 22 = .ok (.ldc2_w 644, 3) := by decide +kernel
theorem dX1_set_25 : decode cX1_set 25 = .ok (.invokestatic 256, 3) := by decide +kernel
theorem dX1_set_28 : decode cX1_set 28 = .ok (.ifCond .ne 6, 3) := by decide +kernel
theorem dX1_set_31 : decode cX1_set 31 = .ok (.bipush (-9), 2) := by decide +kernel
theorem dX1_set_33 : decode cX1_set 33 = .ok (.ireturn, 1) := by decide +kernel
theorem dX1_set_34 : decode cX1_set 34 = .ok (.aload_n 0, 1) := by decide +kernel
theorem dX1_set_35 : decode cX1_set 35 = .ok (.iload_n 1, 1) := by decide +kernel
theorem dX1_set_36 : decode cX1_set 36 = .ok (.putfield 624, 3) := by decide +kernel
theorem dX1_set_39 : decode cX1_set 39 = .ok (.aload_n 0, 1) := by decide +kernel
theorem dX1_set_40 : decode cX1_set 40 = .ok (.iconst 0, 1) := by decide +kernel
theorem dX1_set_41 : decode cX1_set 41 = .ok (.putfield 501, 3) := by decide +kernel
theorem dX1_set_44 : decode cX1_set 44 = .ok (.aload_n 0, 1) := by decide +kernel
theorem dX1_set_45 : decode cX1_set 45 = .ok (.getfield 219, 3) := by decide +kernel
theorem dX1_set_48 : decode cX1_set 48 = .ok (.iconst 0, 1) := by decide +kernel
theorem dX1_set_49 : decode cX1_set 49 = .ok (.iconst 0, 1) := by decide +kernel
theorem dX1_set_50 : decode cX1_set 50 = .ok (.iastore, 1) := by decide +kernel
theorem dX1_set_51 : decode cX1_set 51 = .ok (.aload_n 0, 1) := by decide +kernel
theorem dX1_set_52 : decode cX1_set 52 = .ok (.iconst 0, 1) := by decide +kernel
theorem dX1_set_53 : decode cX1_set 53 = .ok (.putfield 618, 3) := by decide +kernel
theorem dX1_set_56 : decode cX1_set 56 = .ok (.aload_n 0, 1) := by decide +kernel
theorem dX1_set_57 : decode cX1_set 57 = .ok (.iconst 0, 1) := by decide +kernel
theorem dX1_set_58 : decode cX1_set 58 = .ok (.putfield 621, 3) := by decide +kernel
theorem dX1_set_61 : decode cX1_set 61 = .ok (.aload_n 0, 1) := by decide +kernel
theorem dX1_set_62 : decode cX1_set 62 = .ok (.iconst 0, 1) := by decide +kernel
theorem dX1_set_63 : decode cX1_set 63 = .ok (.putfield 639, 3) := by decide +kernel
theorem dX1_set_66 : decode cX1_set 66 = .ok (.iconst 0, 1) := by decide +kernel
theorem dX1_set_67 : decode cX1_set 67 = .ok (.istore_n 3, 1) := by decide +kernel
theorem dX1_set_68 : decode cX1_set 68 = .ok (.iconst 1, 1) := by decide +kernel
theorem dX1_set_69 : decode cX1_set 69 = .ok (.istore 4, 2) := by decide +kernel
theorem dX1_set_71 : decode cX1_set 71 = .ok (.iload 4, 2) := by decide +kernel
theorem dX1_set_73 : decode cX1_set 73 = .ok (.aload_n 0, 1) := by decide +kernel
theorem dX1_set_74 : decode cX1_set 74 = .ok (.getfield 27, 3) := by decide +kernel
theorem dX1_set_77 : decode cX1_set 77 = .ok (.aload_n 0, 1) := by decide +kernel
theorem dX1_set_78 : decode cX1_set 78 = .ok (.getfield 482, 3) := by decide +kernel
theorem dX1_set_81 : decode cX1_set 81 = .ok (.iaload, 1) := by decide +kernel
theorem dX1_set_82 : decode cX1_set 82 = .ok (.if_icmp .ge 73, 3) := by decide +kernel
theorem dX1_set_85 : decode cX1_set 85 = .ok (.sipush 600, 3) := by decide +kernel
theorem dX1_set_88 : decode cX1_set 88 = .ok (.aload_n 0, 1) := by decide +kernel
theorem dX1_set_89 : decode cX1_set 89 = .ok (.getfield 482, 3) := by decide +kernel
theorem dX1_set_92 : decode cX1_set 92 = .ok (.imul, 1) := by decide +kernel
theorem dX1_set_93 : decode cX1_set 93 = .ok (.iload 4, 2) := by decide +kernel
theorem dX1_set_95 : decode cX1_set 95 = .ok (.iadd, 1) := by decide +kernel
theorem dX1_set_96 : decode cX1_set 96 = .ok (.istore 5, 2) := by decide +kernel
theorem dX1_set_98 : decode cX1_set 98 = .ok (.aload_n 0, 1) := by decide +kernel
theorem dX1_set_99 : decode cX1_set 99 = .ok (.getfield 31, 3) := by decide +kernel
theorem dX1_set_102 : decode cX1_set 102 = .ok (.iload 5, 2) := by decide +kernel
theorem dX1_set_104 : decode cX1_set 104 = .ok (.iaload, 1) := by decide +kernel
theorem dX1_set_105 : decode cX1_set 105 = .ok (.iconst 2, 1) := by decide +kernel
theorem dX1_set_106 : decode cX1_set 106 = .ok (.if_icmp .ne 6, 3) := by decide +kernel
theorem dX1_set_109 : decode cX1_set 109 = .ok (.goto 40, 3) := by decide +kernel
theorem dX1_set_112 : decode cX1_set 112 = .ok (.aload_n 0, 1) := by decide +kernel
theorem dX1_set_113 : decode cX1_set 113 = .ok (.iload_n 3, 1) := by decide +kernel
theorem dX1_set_114 : decode cX1_set 114 = .ok (.iload 4, 2) := by decide +kernel
theorem dX1_set_116 : decode cX1_set 116 = .ok (.invokevirtual 646, 3) := by decide +kernel
theorem dX1_set_119 : decode cX1_set 119 = .ok (.istore_n 3, 1) := by decide +kernel
theorem dX1_set_120 : decode cX1_set 120 = .ok (.aload_n 0, 1) := by decide +kernel
theorem dX1_set_121 : decode cX1_set 121 = .ok (.getfield 31, 3) := by decide +kernel
theorem dX1_set_124 : decode cX1_set 124 = .ok (.iload 5, 2) := by decide +kernel
theorem dX1_set_126 : decode cX1_set 126 = .ok (.iaload, 1) := by decide +kernel
theorem dX1_set_127 : decode cX1_set 127 = .ok (.iconst 1, 1) := by decide +kernel
theorem dX1_set_128 : decode cX1_set 128 = .ok (.if_icmp .ne 15, 3) := by decide +kernel
theorem dX1_set_131 : decode cX1_set 131 = .ok (.iload 4, 2) := by decide +kernel
theorem dX1_set_133 : decode cX1_set 133 = .ok (.istore_n 3, 1) := by decide +kernel
theorem dX1_set_134 : decode cX1_set 134 = .ok (.aload_n 0, 1) := by decide +kernel
theorem dX1_set_135 : decode cX1_set 135 = .ok (.iload 4, 2) := by decide +kernel
theorem dX1_set_137 : decode cX1_set 137 = .ok (.invokevirtual 649, 3) := by decide +kernel
theorem dX1_set_140 : decode cX1_set 140 = .ok (.goto 9, 3) := by decide +kernel
theorem dX1_set_143 : decode cX1_set 143 = .ok (.aload_n 0, 1) := by decide +kernel
theorem dX1_set_144 : decode cX1_set 144 = .ok (.iload 4, 2) := by decide +kernel
theorem dX1_set_146 : decode cX1_set 146 = .ok (.invokevirtual 652, 3) := by decide +kernel
theorem dX1_set_149 : decode cX1_set 149 = .ok (.iinc 4 1, 3) := by decide +kernel
theorem dX1_set_152 : decode cX1_set 152 = .ok (.goto (-81), 3) := by decide +kernel
theorem dX1_set_155 : decode cX1_set 155 = .ok (.aload_n 0, 1) := by decide +kernel
theorem dX1_set_156 : decode cX1_set 156 = .ok (.iload_n 3, 1) := by decide +kernel
theorem dX1_set_157 : decode cX1_set 157 = .ok (.iconst 0, 1) := by decide +kernel
theorem dX1_set_158 : decode cX1_set 158 = .ok (.invokevirtual 646, 3) := by decide +kernel
theorem dX1_set_161 : decode cX1_set 161 = .ok (.istore_n 3, 1) := by decide +kernel
theorem dX1_set_162 : decode cX1_set 162 = .ok (.aload_n 0, 1) := by decide +kernel
theorem dX1_set_163 : decode cX1_set 163 = .ok (.invokevirtual 636, 3) := by decide +kernel
theorem dX1_set_166 : decode cX1_set 166 = .ok (.aload_n 0, 1) := by decide +kernel
theorem dX1_set_167 : decode cX1_set 167 = .ok (.invokevirtual 630, 3) := by decide +kernel
theorem dX1_set_170 : decode cX1_set 170 = .ok (.aload_n 0, 1) := by decide +kernel
theorem dX1_set_171 : decode cX1_set 171 = .ok (.iload_n 2, 1) := by decide +kernel
theorem dX1_set_172 : decode cX1_set 172 = .ok (.invokevirtual 655, 3) := by decide +kernel
theorem dX1_set_175 : decode cX1_set 175 = .ok (.aload_n 0, 1) := by decide +kernel
theorem dX1_set_176 : decode cX1_set 176 = .ok (.getfield 501, 3) := by decide +kernel
theorem dX1_set_179 : decode cX1_set 179 = .ok (.ireturn, 1) := by decide +kernel
def m_set_71 : Nat → MEM → Int → Int → Int → Option zm_O
  | 0, _, _, _, _ => none
  | n + 1, σ, x2, x3, x4 => ck (0 ≤ (σ (-1) 7) ∧ (σ (-1) 7) < 2) (if (σ 12 (σ (-1) 7)) ≤ x4 then (bd (m_leave σ x3 0) (fun r3 σ4 => bd (m_endWord σ4) (fun _ σ6 => bd (m_endLine σ6) (fun _ σ7 => bd (m_toPages σ7 x2) (fun _ σ8 => some ((σ8 (-1) 86), σ8)))))) else (ck (0 ≤ ((600 * (σ (-1) 7)) + x4) ∧ ((600 * (σ (-1) 7)) + x4) < 1200) (if (σ 13 ((600 * (σ (-1) 7)) + x4)) = 2 then (ck (inR (x4 + 1)) (m_set_71 n σ x2 x3 (x4 + 1))) else (bd (m_leave σ x3 x4) (fun r13 σ14 => ck (0 ≤ ((600 * (σ (-1) 7)) + x4) ∧ ((600 * (σ (-1) 7)) + x4) < 1200) (if (σ14 13 ((600 * (σ (-1) 7)) + x4)) = 1 then (bd (m_beginElement σ14 x4) (fun _ σ17 => ck (inR (x4 + 1)) (m_set_71 n σ17 x2 x4 (x4 + 1)))) else (bd (m_setText σ14 x4) (fun _ σ19 => ck (inR (x4 + 1)) (m_set_71 n σ19 x2 r13 (x4 + 1))))))))))
theorem w_set_71 {C : zv_Cx zm_O} {G : zm_G} (h : zv_Ok C cX1_set RX1) (hc : zm_C C G 6 (Option.some FieldType.int) 1 3 71) : ∀ (n : Nat) (σ : MEM) (x2 x3 x4 : Int), inR x2 → inR x3 → inR x4 → VV C (m_set_71 n σ x2 x3 x4) σ [(0, .ref (zm_h G)), (2, iv x2), (3, iv x3), (4, iv x4)] [] 71 := by
  have hN : ∀ i, i < 6 → i < zv_n C := fun i q => by rw [hc.2.2.1]; exact q
  intro n
  induction n with
  | zero => intros; exact r_none
  | succ n ih =>
    intro σ x2 x3 x4 hx2 hx3 hx4
    rw [m_set_71]
    refine r_iload h 3 dX1_set_71 rfl ?_
    refine r_aload_n h 0 dX1_set_73 rfl rfl ?_
    refine zm_getA h hc 12 (by decide) rfl q1492 rfl dX1_set_74 ?_
    refine r_aload_n h 0 dX1_set_77 rfl rfl ?_
    refine zm_getI h hc 7 7 (by decide) rfl rfl q1487 rfl dX1_set_78 (fun hr1 => ?_)
    refine zm_ldI h hc 12 12 2 (by decide) rfl rfl rfl (by decide) dX1_set_81 (fun _ hr2 => ?_)
    refine r_icmp_ge h hx4 hr2 155 dX1_set_82 rfl ?_ ?_
    · refine r_aload_n h 0 dX1_set_155 rfl rfl ?_
      refine r_iload_n h 2 dX1_set_156 rfl rfl ?_
      refine r_iconst h dX1_set_157 ?_
      refine zm_cVi h hc (n := 2) (As := [iv x3, iv 0]) (fun o1 e1 => w_leave hc.1 _ x3 0 hx3 (by decide) o1 e1) q2127 q2129 qs121 q136 q2130 (by decide +kernel) ⟨by decide, by decide⟩ rfl (Nat.le_of_ble_eq_true rfl) rfl dX1_set_158 (fun r3 σ4 hr5 => ?_)
      refine r_istore_n (lv' := [(3, iv r3), (0, .ref (zm_h G)), (2, iv x2), (4, iv x4)]) h dX1_set_161 rfl (hN _ (by decide)) rfl ?_
      refine r_aload_n h 1 dX1_set_162 rfl rfl ?_
      refine zm_cVv h hc (n := 0) (As := []) (fun o1 e1 => w_endWord hc.1 _ o1 e1) q2135 q2137 qs123 q136 q2138 (by decide +kernel) ⟨by decide, by decide⟩ rfl (Nat.le_of_ble_eq_true rfl) rfl dX1_set_163 (fun σ6  => ?_)
      refine r_aload_n h 1 dX1_set_166 rfl rfl ?_
      refine zm_cVv h hc (n := 0) (As := []) (fun o1 e1 => w_endLine hc.1 _ o1 e1) q2143 q2145 qs125 q136 q2146 (by decide +kernel) ⟨by decide, by decide⟩ rfl (Nat.le_of_ble_eq_true rfl) rfl dX1_set_167 (fun σ7  => ?_)
      refine r_aload_n h 1 dX1_set_170 rfl rfl ?_
      refine r_iload_n h 2 dX1_set_171 rfl rfl ?_
      refine zm_cVv h hc (n := 1) (As := [iv x2]) (fun o1 e1 => w_toPages hc.1 _ x2 hx2 o1 e1) q2159 q2161 qs129 q136 q2162 (by decide +kernel) ⟨by decide, by decide⟩ rfl (Nat.le_of_ble_eq_true rfl) rfl dX1_set_172 (fun σ8  => ?_)
      refine r_aload_n h 1 dX1_set_175 rfl rfl ?_
      refine zm_getI h hc 86 86 (by decide) rfl rfl q1565 rfl dX1_set_176 (fun hr9 => ?_)
      exact zm_iret h hc rfl hr9 dX1_set_179
    · refine r_sipush h dX1_set_85 (by decide) ?_
      refine r_aload_n h 0 dX1_set_88 rfl rfl ?_
      refine zm_getI h hc 7 7 (by decide) rfl rfl q1487 rfl dX1_set_89 (fun hr10 => ?_)
      refine r_imul h dX1_set_92 ?_
      refine r_iload h 3 dX1_set_93 rfl ?_
      refine r_iadd h dX1_set_95 ?_
      refine r_istore (lv' := [(5, iv ((600 * (σ (-1) 7)) + x4)), (0, .ref (zm_h G)), (2, iv x2), (3, iv x3), (4, iv x4)]) h dX1_set_96 (hN _ (by decide)) rfl ?_
      refine r_aload_n h 1 dX1_set_98 rfl rfl ?_
      refine zm_getA h hc 13 (by decide) rfl q1493 rfl dX1_set_99 ?_
      refine r_iload h 0 dX1_set_102 rfl ?_
      refine zm_ldI h hc 13 13 1200 (by decide) rfl rfl rfl (by decide) dX1_set_104 (fun _ hr11 => ?_)
      refine r_iconst h dX1_set_105 ?_
      refine r_icmp_ne h hr11 (by decide) 112 dX1_set_106 rfl ?_ ?_
      · refine r_goto h 149 dX1_set_109 rfl ?_
        refine r_iinc (lv' := [(4, iv (x4 + 1)), (5, iv ((600 * (σ (-1) 7)) + x4)), (0, .ref (zm_h G)), (2, iv x2), (3, iv x3)]) h 4 dX1_set_149 rfl (hN _ (by decide)) rfl ?_
        refine r_goto h 71 dX1_set_152 rfl ?_
        refine r_ck (fun hk12 => ?_)
        exact r_lv [2, 3, 4, 0] rfl (ih _ x2 x3 (x4 + 1) hx2 hx3 hk12)
      · refine r_aload_n h 1 dX1_set_112 rfl rfl ?_
        refine r_iload_n h 3 dX1_set_113 rfl rfl ?_
        refine r_iload h 4 dX1_set_114 rfl ?_
        refine zm_cVi h hc (n := 2) (As := [iv x3, iv x4]) (fun o1 e1 => w_leave hc.1 _ x3 x4 hx3 hx4 o1 e1) q2127 q2129 qs121 q136 q2130 (by decide +kernel) ⟨by decide, by decide⟩ rfl (Nat.le_of_ble_eq_true rfl) rfl dX1_set_116 (fun r13 σ14 hr15 => ?_)
        refine r_istore_n (lv' := [(3, iv r13), (5, iv ((600 * (σ (-1) 7)) + x4)), (0, .ref (zm_h G)), (2, iv x2), (4, iv x4)]) h dX1_set_119 rfl (hN _ (by decide)) rfl ?_
        refine r_aload_n h 2 dX1_set_120 rfl rfl ?_
        refine zm_getA h hc 13 (by decide) rfl q1493 rfl dX1_set_121 ?_
        refine r_iload h 1 dX1_set_124 rfl ?_
        refine zm_ldI h hc 13 13 1200 (by decide) rfl rfl rfl (by decide) dX1_set_126 (fun _ hr16 => ?_)
        refine r_iconst h dX1_set_127 ?_
        refine r_icmp_ne h hr16 (by decide) 143 dX1_set_128 rfl ?_ ?_
        · refine r_iload h 4 dX1_set_131 rfl ?_
          refine r_istore_n (lv' := [(3, iv x4), (5, iv ((600 * (σ (-1) 7)) + x4)), (0, .ref (zm_h G)), (2, iv x2), (4, iv x4)]) h dX1_set_133 rfl (hN _ (by decide)) rfl ?_
          refine r_aload_n h 2 dX1_set_134 rfl rfl ?_
          refine r_iload h 4 dX1_set_135 rfl ?_
          refine zm_cVv h hc (n := 1) (As := [iv x4]) (fun o1 e1 => w_beginElement hc.1 _ x4 hx4 o1 e1) q2147 q2149 qs126 q136 q2150 (by decide +kernel) ⟨by decide, by decide⟩ rfl (Nat.le_of_ble_eq_true rfl) rfl dX1_set_137 (fun σ17  => ?_)
          refine r_goto h 149 dX1_set_140 rfl ?_
          refine r_iinc (lv' := [(4, iv (x4 + 1)), (3, iv x4), (5, iv ((600 * (σ (-1) 7)) + x4)), (0, .ref (zm_h G)), (2, iv x2)]) h 4 dX1_set_149 rfl (hN _ (by decide)) rfl ?_
          refine r_goto h 71 dX1_set_152 rfl ?_
          refine r_ck (fun hk18 => ?_)
          exact r_lv [3, 4, 1, 0] rfl (ih _ x2 x4 (x4 + 1) hx2 hx4 hk18)
        · refine r_aload_n h 2 dX1_set_143 rfl rfl ?_
          refine r_iload h 4 dX1_set_144 rfl ?_
          refine zm_cVv h hc (n := 1) (As := [iv x4]) (fun o1 e1 => w_setText hc.1 _ x4 hx4 o1 e1) q2155 q2157 qs128 q136 q2158 (by decide +kernel) ⟨by decide, by decide⟩ rfl (Nat.le_of_ble_eq_true rfl) rfl dX1_set_146 (fun σ19  => ?_)
          refine r_iinc (lv' := [(4, iv (x4 + 1)), (3, iv r13), (5, iv ((600 * (σ (-1) 7)) + x4)), (0, .ref (zm_h G)), (2, iv x2)]) h 4 dX1_set_149 rfl (hN _ (by decide)) rfl ?_
          refine r_goto h 71 dX1_set_152 rfl ?_
          refine r_ck (fun hk20 => ?_)
          exact r_lv [3, 4, 1, 0] rfl (ih _ x2 r13 (x4 + 1) hx2 hr15 hk20)
def m_set (σ : MEM) (a0 a1 : Int) : Option zm_O := if (σ (-1) 9) = 0 then (some ((-9), σ)) else (bd (m_in σ a0 1 60) (fun r2 σ3 => if r2 = 0 then (some ((-9), σ3)) else (bd (m_in σ3 a1 1 50) (fun r5 σ6 => if r5 = 0 then (some ((-9), σ6)) else (nu (mup σ6 (-1) 100 a0) (fun σ8 => nu (mup σ8 (-1) 86 0) (fun σ9 => ck (0 ≤ 0 ∧ 0 < 4000) (nu (mup σ9 89 0 0) (fun σ10 => nu (mup σ10 (-1) 99 0) (fun σ11 => nu (mup σ11 (-1) 98 0) (fun σ12 => nu (mup σ12 (-1) 95 0) (fun σ13 => m_set_71 zF σ13 a1 0 1))))))))))))
theorem w_set {G : zm_G} (hD : zm_D G) (σ : MEM) (a0 a1 : Int) (ha0 : inR a0) (ha1 : inR a1) (o : zm_O) (hd : m_set σ a0 a1 = some o) : zm_Met G yX1_set cX1_set 6 (Option.some FieldType.int) 1 3 71 σ [.ref (zm_h G), iv a0, iv a1] o := by
  refine zm_intro hD hd (by decide) rfl (Nat.le_of_ble_eq_true rfl) rfl (fun C h hc => ?_)
  have hN : ∀ i, i < 6 → i < zv_n C := fun i q => by rw [hc.2.2.1]; exact q
  unfold m_set
  refine r_aload_n h 0 dX1_set_0 rfl rfl ?_
  refine zm_getZ h hc 9 9 (by decide) rfl rfl q1489 rfl dX1_set_1 (fun hr1 => ?_)
  refine r_if_eq h hr1.r 31 dX1_set_4 rfl ?_ ?_
  · refine r_bipush h dX1_set_31 (by decide) ?_
    exact zm_iret h hc rfl (by decide) dX1_set_33
  · refine r_iload_n h 1 dX1_set_7 rfl rfl ?_
    refine r_i2l h ha0 dX1_set_8 ?_
    refine r_lconst (x := 1) h dX1_set_9 (by decide) ?_
    refine r_ldc2 (x := 60) h q2125 (by decide) dX1_set_10 ?_
    refine zm_cSz h hc (n := 3) (As := [jv a0, jv 1, jv 60]) (fun o1 e1 => w_in hc.1 _ a0 1 60 ha0.l (by decide) (by decide) o1 e1) q1790 q1791 q136 q1792 (by decide +kernel) ⟨by decide, by decide⟩ rfl (Nat.le_of_ble_eq_true rfl) rfl dX1_set_13 (fun r2 σ3 hr4 => ?_)
    refine r_if_eq h hr4.r 31 dX1_set_16 rfl ?_ ?_
    · refine r_bipush h dX1_set_31 (by decide) ?_
      exact zm_iret h hc rfl (by decide) dX1_set_33
    · refine r_iload_n h 2 dX1_set_19 rfl rfl ?_
      refine r_i2l h ha1 dX1_set_20 ?_
      refine r_lconst (x := 1) h dX1_set_21 (by decide) ?_
      refine r_ldc2 (x := 50) h q2126 (by decide) dX1_set_22 ?_
      refine zm_cSz h hc (n := 3) (As := [jv a1, jv 1, jv 50]) (fun o1 e1 => w_in hc.1 _ a1 1 50 ha1.l (by decide) (by decide) o1 e1) q1790 q1791 q136 q1792 (by decide +kernel) ⟨by decide, by decide⟩ rfl (Nat.le_of_ble_eq_true rfl) rfl dX1_set_25 (fun r5 σ6 hr7 => ?_)
      refine r_if_ne h hr7.r 34 dX1_set_28 rfl ?_ ?_
      · refine r_bipush h dX1_set_31 (by decide) ?_
        exact zm_iret h hc rfl (by decide) dX1_set_33
      · refine r_aload_n h 0 dX1_set_34 rfl rfl ?_
        refine r_iload_n h 1 dX1_set_35 rfl rfl ?_
        refine zm_putI h hc 100 100 (by decide) rfl rfl q1579 ⟨rfl, rfl, by decide +kernel⟩ ha0 dX1_set_36 (fun σ8 _ => ?_)
        refine r_aload_n h 0 dX1_set_39 rfl rfl ?_
        refine r_iconst h dX1_set_40 ?_
        refine zm_putI h hc 86 86 (by decide) rfl rfl q1565 ⟨rfl, rfl, by decide +kernel⟩ (by decide) dX1_set_41 (fun σ9 _ => ?_)
        refine r_aload_n h 0 dX1_set_44 rfl rfl ?_
        refine zm_getA h hc 89 (by decide) rfl q1568 rfl dX1_set_45 ?_
        refine r_iconst h dX1_set_48 ?_
        refine r_iconst h dX1_set_49 ?_
        refine zm_stI (x := 0) (y := 0) h hc 89 89 4000 (by decide) rfl rfl rfl (by decide) (by decide) dX1_set_50 (fun _ σ10 _ => ?_)
        refine r_aload_n h 0 dX1_set_51 rfl rfl ?_
        refine r_iconst h dX1_set_52 ?_
        refine zm_putZ h hc 99 99 (by decide) rfl rfl q1578 ⟨rfl, rfl, by decide +kernel⟩ (by decide) dX1_set_53 (fun σ11 _ => ?_)
        refine r_aload_n h 0 dX1_set_56 rfl rfl ?_
        refine r_iconst h dX1_set_57 ?_
        refine zm_putI h hc 98 98 (by decide) rfl rfl q1577 ⟨rfl, rfl, by decide +kernel⟩ (by decide) dX1_set_58 (fun σ12 _ => ?_)
        refine r_aload_n h 0 dX1_set_61 rfl rfl ?_
        refine r_iconst h dX1_set_62 ?_
        refine zm_putI h hc 95 95 (by decide) rfl rfl q1574 ⟨rfl, rfl, by decide +kernel⟩ (by decide) dX1_set_63 (fun σ13 _ => ?_)
        refine r_iconst h dX1_set_66 ?_
        refine r_istore_n (lv' := [(3, iv 0), (0, .ref (zm_h G)), (1, iv a0), (2, iv a1)]) h dX1_set_67 rfl (hN _ (by decide)) rfl ?_
        refine r_iconst h dX1_set_68 ?_
        refine r_istore (lv' := [(4, iv 1), (3, iv 0), (0, .ref (zm_h G)), (1, iv a0), (2, iv a1)]) h dX1_set_69 (hN _ (by decide)) rfl ?_
        exact r_lv [2, 4, 1, 0] rfl (w_set_71 h hc zF _ a1 0 1 ha1 (by decide) (by decide))
