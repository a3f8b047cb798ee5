set_option maxRecDepth 100000
/-! methods of the Model: decode rows, denotations m_.., walks w_.. (written by wip/gen/gen.py) -/
theorem dX1_path_0 : decode cX1_path 0 = .ok (.aload_n 0, 1) := by decide +kernel
theorem dX1_path_1 : decode cX1_path 1 = .ok (.iconst 0, 1) := by decide +kernel
theorem dX1_path_2 : decode cX1_path 2 = .ok (.putfield 569, 3) := by decide +kernel
theorem dX1_path_5 : decode cX1_path 5 = .ok (.aload_n 0, 1) := by decide +kernel
theorem dX1_path_6 : decode cX1_path 6 = .ok (.aload_n 0, 1) := by decide +kernel
theorem dX1_path_7 : decode cX1_path 7 = .ok (.aload_n 0, 1) := by decide +kernel
theorem dX1_path_8 : decode cX1_path 8 = .ok (.getfield 276, 3) := by decide +kernel
theorem dX1_path_11 : decode cX1_path 11 = .ok (.invokevirtual 279, 3) := by decide +kernel
theorem dX1_path_14 : decode cX1_path 14 = .ok (.bipush 47, 2) := by decide +kernel
theorem dX1_path_16 : decode cX1_path 16 = .ok (.if_icmp .ne 7, 3) := by decide +kernel
theorem dX1_path_19 : decode cX1_path 19 = .ok (.iconst 1, 1) := by decide +kernel
theorem dX1_path_20 : decode cX1_path 20 = .ok (.goto 4, 3) := by decide +kernel
theorem dX1_path_23 : decode cX1_path 23 = .ok (.iconst 0, 1) := by decide +kernel
theorem dX1_path_24 : decode cX1_path 24 = .ok (.putfield 579, 3) := by decide +kernel
theorem dX1_path_27 : decode cX1_path 27 = .ok (.aload_n 0, 1) := by decide +kernel
theorem dX1_path_28 : decode cX1_path 28 = .ok (.ldc2_w 582, 3) := by decide +kernel
theorem dX1_path_31 : decode cX1_path 31 = .ok (.iconst 2, 1) := by decide +kernel
theorem dX1_path_32 : decode cX1_path 32 = .ok (.invokevirtual 285, 3) := by decide +kernel
theorem dX1_path_35 : decode cX1_path 35 = .ok (.istore_n 1, 1) := by decide +kernel
theorem dX1_path_36 : decode cX1_path 36 = .ok (.aload_n 0, 1) := by decide +kernel
theorem dX1_path_37 : decode cX1_path 37 = .ok (.dup, 1) := by decide +kernel
theorem dX1_path_38 : decode cX1_path 38 = .ok (.getfield 276, 3) := by decide +kernel
theorem dX1_path_41 : decode cX1_path 41 = .ok (.iload_n 1, 1) := by decide +kernel
theorem dX1_path_42 : decode cX1_path 42 = .ok (.ifCond .eq 7, 3) := by decide +kernel
theorem dX1_path_45 : decode cX1_path 45 = .ok (.iconst 2, 1) := by decide +kernel
theorem dX1_path_46 : decode cX1_path 46 = .ok (.goto 15, 3) := by decide +kernel
theorem dX1_path_49 : decode cX1_path 49 = .ok (.aload_n 0, 1) := by decide +kernel
theorem dX1_path_50 : decode cX1_path 50 = .ok (.getfield 579, 3) := by decide +kernel
theorem dX1_path_53 : decode cX1_path 53 = .ok (.ifCond .eq 7, 3) := by decide +kernel
theorem dX1_path_56 : decode cX1_path 56 = .ok (.iconst 1, 1) := by decide +kernel
theorem dX1_path_57 : decode cX1_path 57 = .ok (.goto 4, 3) := by decide +kernel
theorem dX1_path_60 : decode cX1_path 60 = .ok (.iconst 0, 1) := by decide +kernel
theorem dX1_path_61 : decode cX1_path 61 = .ok (.iadd, 1) := by decide +kernel
theorem dX1_path_62 : decode cX1_path 62 = .ok (.putfield 276, 3) := by decide +kernel
theorem dX1_path_65 : decode cX1_path 65 = .ok (.aload_n 0, 1) := by decide +kernel
theorem dX1_path_66 : decode cX1_path 66 = .ok (.getfield 579, 3) := by decide +kernel
theorem dX1_path_69 : decode cX1_path 69 = .ok (.ifCond .eq 19, 3) := by decide +kernel
theorem dX1_path_72 : decode cX1_path 72 = .ok (.iload_n 1, 1) := by decide +kernel
theorem dX1_path_73 : decode cX1_path 73 = .ok (.ifCond .ne 15, 3) := by decide +kernel
theorem dX1_path_76 : decode cX1_path 76 = .ok (.aload_n 0, 1) := by decide +kernel
theorem dX1_path_77 : decode cX1_path 77 = .ok (.getfield 276, 3) := by decide +kernel
theorem dX1_path_80 : decode cX1_path 80 = .ok (.aload_n 0, 1) := by decide +kernel
theorem dX1_path_81 : decode cX1_path 81 = .ok (.getfield 249, 3) := by decide +kernel
theorem dX1_path_84 : decode cX1_path 84 = .ok (.if_icmp .ne 4, 3) := by decide +kernel
theorem dX1_path_87 : decode cX1_path 87 = .ok (.return_, 1) := by decide +kernel
theorem dX1_path_88 : decode cX1_path 88 = .ok (.iconst 1, 1) := by decide +kernel
theorem dX1_path_89 : decode cX1_path 89 = .ok (.istore_n 2, 1) := by decide +kernel
theorem dX1_path_90 : decode cX1_path 90 = .ok (.aload_n 0, 1) := by decide +kernel
theorem dX1_path_91 : decode cX1_path 91 = .ok (.invokevirtual 289, 3) := by decide +kernel
theorem dX1_path_94 : decode cX1_path 94 = .ok (.ifCond .eq 76, 3) := by decide +kernel
theorem dX1_path_97 : decode cX1_path 97 = .ok (.iload_n 2, 1) := by decide +kernel
theorem dX1_path_98 : decode cX1_path 98 = .ok (.ifCond .eq 72, 3) := by decide +kernel
theorem dX1_path_101 : decode cX1_path 101 = .ok (.aload_n 0, 1) := by decide +kernel
theorem dX1_path_102 : decode cX1_path 102 = .ok (.iload_n 1, 1) := by decide +kernel
theorem dX1_path_103 : decode cX1_path 103 = .ok (.invokevirtual 584, 3) := by decide +kernel
theorem dX1_path_106 : decode cX1_path 106 = .ok (.aload_n 0, 1) := by decide +kernel
theorem dX1_path_107 : decode cX1_path 107 = .ok (.ldc2_w 582, 3) := by decide +kernel
theorem dX1_path_110 : decode cX1_path 110 = .ok (.iconst 2, 1) := by decide +kernel
theorem dX1_path_111 : decode cX1_path 111 = .ok (.invokevirtual 285, 3) := by decide +kernel
theorem dX1_path_114 : decode cX1_path 114 = .ok (.istore_n 1, 1) := by decide +kernel
theorem dX1_path_115 : decode cX1_path 115 = .ok (.aload_n 0, 1) := by decide +kernel
theorem dX1_path_116 : decode cX1_path 116 = .ok (.aload_n 0, 1) := by decide +kernel
theorem dX1_path_117 : decode cX1_path 117 = .ok (.getfield 276, 3) := by decide +kernel
theorem dX1_path_120 : decode cX1_path 120 = .ok (.invokevirtual 279, 3) := by decide +kernel
theorem dX1_path_123 : decode cX1_path 123 = .ok (.bipush 47, 2) := by decide +kernel
theorem dX1_path_125 : decode cX1_path 125 = .ok (.if_icmp .ne 7, 3) := by decide +kernel
theorem dX1_path_128 : decode cX1_path 128 = .ok (.iconst 1, 1) := by decide +kernel
theorem dX1_path_129 : decode cX1_path 129 = .ok (.goto 4, 3) := by decide +kernel
theorem dX1_path_132 : decode cX1_path 132 = .ok (.iconst 0, 1) := by decide +kernel
theorem dX1_path_133 : decode cX1_path 133 = .ok (.istore_n 2, 1) := by decide +kernel
theorem dX1_path_134 : decode cX1_path 134 = .ok (.aload_n 0, 1) := by decide +kernel
theorem dX1_path_135 : decode cX1_path 135 = .ok (.dup, 1) := by decide +kernel
theorem dX1_path_136 : decode cX1_path 136 = .ok (.getfield 276, 3) := by decide +kernel
theorem dX1_path_139 : decode cX1_path 139 = .ok (.aload_n 0, 1) := by decide +kernel
theorem dX1_path_140 : decode cX1_path 140 = .ok (.invokevirtual 289, 3) := by decide +kernel
theorem dX1_path_143 : decode cX1_path 143 = .ok (.ifCond .eq 7, 3) := by decide +kernel
theorem dX1_path_146 : decode cX1_path 146 = .ok (.iload_n 2, 1) := by decide +kernel
theorem dX1_path_147 : decode cX1_path 147 = .ok (.ifCond .ne 7, 3) := by decide +kernel
theorem dX1_path_150 : decode cX1_path 150 = .ok (.iconst 0, 1) := by decide +kernel
theorem dX1_path_151 : decode cX1_path 151 = .ok (.goto 12, 3) := by decide +kernel
theorem dX1_path_154 : decode cX1_path 154 = .ok (.iload_n 1, 1) := by decide +kernel
theorem dX1_path_155 : decode cX1_path 155 = .ok (.ifCond .eq 7, 3) := by decide +kernel
theorem dX1_path_158 : decode cX1_path 158 = .ok (.iconst 2, 1) := by decide +kernel
theorem dX1_path_159 : decode cX1_path 159 = .ok (.goto 4, 3) := by decide +kernel
theorem dX1_path_162 : decode cX1_path 162 = .ok (.iconst 1, 1) := by decide +kernel
theorem dX1_path_163 : decode cX1_path 163 = .ok (.iadd, 1) := by decide +kernel
theorem dX1_path_164 : decode cX1_path 164 = .ok (.putfield 276, 3) := by decide +kernel
theorem dX1_path_167 : decode cX1_path 167 = .ok (.goto (-77), 3) := by decide +kernel
theorem dX1_path_170 : decode cX1_path 170 = .ok (.aload_n 0, 1) := by decide +kernel
theorem dX1_path_171 : decode cX1_path 171 = .ok (.invokevirtual 289, 3) := by decide +kernel
theorem dX1_path_174 : decode cX1_path 174 = .ok (.ifCond .eq 23, 3) := by decide +kernel
theorem dX1_path_177 : decode cX1_path 177 = .ok (.aload_n 0, 1) := by decide +kernel
theorem dX1_path_178 : decode cX1_path 178 = .ok (.getfield 276, 3) := by decide +kernel
theorem dX1_path_181 : decode cX1_path 181 = .ok (.aload_n 0, 1) := by decide +kernel
theorem dX1_path_182 : decode cX1_path 182 = .ok (.getfield 249, 3) := by decide +kernel
theorem dX1_path_185 : decode cX1_path 185 = .ok (.if_icmp .ge 12, 3) := by decide +kernel
theorem dX1_path_188 : decode cX1_path 188 = .ok (.aload_n 0, 1) := by decide +kernel
theorem dX1_path_189 : decode cX1_path 189 = .ok (.iconst (-1), 1) := by decide +kernel
theorem dX1_path_190 : decode cX1_path 190 = .ok (.aload_n 0, 1) := by decide +kernel
theorem dX1_path_191 : decode cX1_path 191 = .ok (.getfield 276, 3) := by decide +kernel
theorem dX1_path_194 : decode cX1_path 194 = .ok (.invokevirtual 293, 3) := by decide +kernel
theorem dX1_path_197 : decode cX1_path 197 = .ok (.return_, 1) := by decide +kernel
def m_path_170 (σ : MEM) : Option zm_O := bd (m_isGood σ) (fun r1 σ2 => if r1 = 0 then (some (0, σ2)) else (if (σ2 (-1) 3) ≤ (σ2 (-1) 4) then (some (0, σ2)) else (bd (m_fail σ2 (-1) (σ2 (-1) 4)) (fun _ σ7 => some (0, σ7)))))
theorem w_path_170 {C : zv_Cx zm_O} {G : zm_G} (h : zv_Ok C cX1_path RX1) (hc : zm_C C G 3 (Option.none : Option FieldType) 0 6 133) (σ : MEM) : VV C (m_path_170 σ ) σ [(0, .ref (zm_h G))] [] 170 := by
  have hN : ∀ i, i < 3 → i < zv_n C := fun i q => by rw [hc.2.2.1]; exact q
  unfold m_path_170
  refine r_aload_n h 0 dX1_path_170 rfl rfl ?_
  refine zm_cVz h hc (n := 0) (As := []) (fun o1 e1 => w_isGood hc.1 _ o1 e1) q1801 q1803 qs56 q136 q1804 (by decide +kernel) ⟨by decide, by decide⟩ rfl (Nat.le_of_ble_eq_true rfl) rfl dX1_path_171 (fun r1 σ2 hr3 => ?_)
  refine r_if_eq h hr3.r 197 dX1_path_174 rfl ?_ ?_
  · exact zm_vret h hc rfl dX1_path_197
  · refine r_aload_n h 0 dX1_path_177 rfl rfl ?_
    refine zm_getI h hc 4 4 (by decide) rfl rfl q1484 rfl dX1_path_178 (fun hr4 => ?_)
    refine r_aload_n h 0 dX1_path_181 rfl rfl ?_
    refine zm_getI h hc 3 3 (by decide) rfl rfl q1483 rfl dX1_path_182 (fun hr5 => ?_)
    refine r_icmp_ge h hr4 hr5 197 dX1_path_185 rfl ?_ ?_
    · exact zm_vret h hc rfl dX1_path_197
    · refine r_aload_n h 0 dX1_path_188 rfl rfl ?_
      refine r_iconst h dX1_path_189 ?_
      refine r_aload_n h 0 dX1_path_190 rfl rfl ?_
      refine zm_getI h hc 4 4 (by decide) rfl rfl q1484 rfl dX1_path_191 (fun hr6 => ?_)
      refine zm_cVv h hc (n := 2) (As := [iv (-1), iv (σ2 (-1) 4)]) (fun o1 e1 => w_fail hc.1 _ (-1) (σ2 (-1) 4) (by decide) hr6 o1 e1) q1805 q1807 qs57 q136 q1808 (by decide +kernel) ⟨by decide, by decide⟩ rfl (Nat.le_of_ble_eq_true rfl) rfl dX1_path_194 (fun σ7  => ?_)
      exact zm_vret h hc rfl dX1_path_197
def m_path_133 (lp90 : MEM → Int → Int → Option zm_O) (σ : MEM) (x1 s0 : Int) : Option zm_O := bd (m_isGood σ) (fun r2 σ3 => if r2 = 0 then (ck (inR ((σ (-1) 4) + 0)) (nu (mup σ3 (-1) 4 ((σ (-1) 4) + 0)) (fun σ6 => lp90 σ6 x1 s0))) else (if s0 = 0 then (ck (inR ((σ (-1) 4) + 0)) (nu (mup σ3 (-1) 4 ((σ (-1) 4) + 0)) (fun σ8 => lp90 σ8 x1 s0))) else (if x1 = 0 then (ck (inR ((σ (-1) 4) + 1)) (nu (mup σ3 (-1) 4 ((σ (-1) 4) + 1)) (fun σ10 => lp90 σ10 x1 s0))) else (ck (inR ((σ (-1) 4) + 2)) (nu (mup σ3 (-1) 4 ((σ (-1) 4) + 2)) (fun σ12 => lp90 σ12 x1 s0))))))
theorem w_path_133 {C : zv_Cx zm_O} {G : zm_G} (h : zv_Ok C cX1_path RX1) (hc : zm_C C G 3 (Option.none : Option FieldType) 0 6 133) (lp90 : MEM → Int → Int → Option zm_O) (hlp90 : ∀ (σ : MEM) (x1 x2 : Int), isB x1 → isB x2 → VV C (lp90 σ x1 x2) σ [(0, .ref (zm_h G)), (1, iv x1), (2, iv x2)] [] 90) (σ : MEM) (x1 s0 : Int) (hx1 : isB x1) (hs0 : isB s0) : VV C (m_path_133 lp90 σ x1 s0) σ [(0, .ref (zm_h G)), (1, iv x1)] [iv s0] 133 := by
  have hN : ∀ i, i < 3 → i < zv_n C := fun i q => by rw [hc.2.2.1]; exact q
  unfold m_path_133
  refine r_istore_n (lv' := [(2, iv s0), (0, .ref (zm_h G)), (1, iv x1)]) h dX1_path_133 rfl (hN _ (by decide)) rfl ?_
  refine r_aload_n h 1 dX1_path_134 rfl rfl ?_
  refine r_dup h dX1_path_135 rfl ?_
  refine zm_getI h hc 4 4 (by decide) rfl rfl q1484 rfl dX1_path_136 (fun hr1 => ?_)
  refine r_aload_n h 1 dX1_path_139 rfl rfl ?_
  refine zm_cVz h hc (n := 0) (As := []) (fun o1 e1 => w_isGood hc.1 _ o1 e1) q1801 q1803 qs56 q136 q1804 (by decide +kernel) ⟨by decide, by decide⟩ rfl (Nat.le_of_ble_eq_true rfl) rfl dX1_path_140 (fun r2 σ3 hr4 => ?_)
  refine r_if_eq h hr4.r 150 dX1_path_143 rfl ?_ ?_
  · refine r_iconst h dX1_path_150 ?_
    refine r_goto h 163 dX1_path_151 rfl ?_
    refine r_iadd h dX1_path_163 ?_
    refine r_ck (fun hk5 => ?_)
    refine zm_putI h hc 4 4 (by decide) rfl rfl q1484 ⟨rfl, rfl, by decide +kernel⟩ hk5 dX1_path_164 (fun σ6 _ => ?_)
    refine r_goto h 90 dX1_path_167 rfl ?_
    exact r_lv [1, 2, 0] rfl (hlp90 _ x1 s0 hx1 hs0)
  · refine r_iload_n h 0 dX1_path_146 rfl rfl ?_
    refine r_if_ne h hs0.r 154 dX1_path_147 rfl ?_ ?_
    · refine r_iconst h dX1_path_150 ?_
      refine r_goto h 163 dX1_path_151 rfl ?_
      refine r_iadd h dX1_path_163 ?_
      refine r_ck (fun hk7 => ?_)
      refine zm_putI h hc 4 4 (by decide) rfl rfl q1484 ⟨rfl, rfl, by decide +kernel⟩ hk7 dX1_path_164 (fun σ8 _ => ?_)
      refine r_goto h 90 dX1_path_167 rfl ?_
      exact r_lv [1, 2, 0] rfl (hlp90 _ x1 s0 hx1 hs0)
    · refine r_iload_n h 2 dX1_path_154 rfl rfl ?_
      refine r_if_eq h hx1.r 162 dX1_path_155 rfl ?_ ?_
      · refine r_iconst h dX1_path_162 ?_
        refine r_iadd h dX1_path_163 ?_
        refine r_ck (fun hk9 => ?_)
        refine zm_putI h hc 4 4 (by decide) rfl rfl q1484 ⟨rfl, rfl, by decide +kernel⟩ hk9 dX1_path_164 (fun σ10 _ => ?_)
        refine r_goto h 90 dX1_path_167 rfl ?_
        exact r_lv [1, 2, 0] rfl (hlp90 _ x1 s0 hx1 hs0)
      · refine r_iconst h dX1_path_158 ?_
        refine r_goto h 163 dX1_path_159 rfl ?_
        refine r_iadd h dX1_path_163 ?_
        refine r_ck (fun hk11 => ?_)
        refine zm_putI h hc 4 4 (by decide) rfl rfl q1484 ⟨rfl, rfl, by decide +kernel⟩ hk11 dX1_path_164 (fun σ12 _ => ?_)
        refine r_goto h 90 dX1_path_167 rfl ?_
        exact r_lv [1, 2, 0] rfl (hlp90 _ x1 s0 hx1 hs0)
def m_path_90 : Nat → MEM → Int → Int → Option zm_O
  | 0, _, _, _ => none
  | n + 1, σ, x1, x2 => bd (m_isGood σ) (fun r1 σ2 => if r1 = 0 then (m_path_170 σ2) else (if x2 = 0 then (m_path_170 σ2) else (bd (m_step σ2 x1) (fun _ σ4 => bd (m_stands σ4 12079 2) (fun r5 σ6 => bd (m_octet σ6 (σ6 (-1) 4)) (fun r9 σ10 => if r9 = 47 then (m_path_133 (m_path_90 n) σ10 r5 1) else (m_path_133 (m_path_90 n) σ10 r5 0)))))))
theorem w_path_90 {C : zv_Cx zm_O} {G : zm_G} (h : zv_Ok C cX1_path RX1) (hc : zm_C C G 3 (Option.none : Option FieldType) 0 6 133) : ∀ (n : Nat) (σ : MEM) (x1 x2 : Int), isB x1 → isB x2 → VV C (m_path_90 n σ x1 x2) σ [(0, .ref (zm_h G)), (1, iv x1), (2, iv x2)] [] 90 := by
  have hN : ∀ i, i < 3 → i < zv_n C := fun i q => by rw [hc.2.2.1]; exact q
  intro n
  induction n with
  | zero => intros; exact r_none
  | succ n ih =>
    intro σ x1 x2 hx1 hx2
    rw [m_path_90]
    refine r_aload_n h 0 dX1_path_90 rfl rfl ?_
    refine zm_cVz h hc (n := 0) (As := []) (fun o1 e1 => w_isGood hc.1 _ o1 e1) q1801 q1803 qs56 q136 q1804 (by decide +kernel) ⟨by decide, by decide⟩ rfl (Nat.le_of_ble_eq_true rfl) rfl dX1_path_91 (fun r1 σ2 hr3 => ?_)
    refine r_if_eq h hr3.r 170 dX1_path_94 rfl ?_ ?_
    · exact r_lv [0] rfl (w_path_170 h hc _)
    · refine r_iload_n h 2 dX1_path_97 rfl rfl ?_
      refine r_if_eq h hx2.r 170 dX1_path_98 rfl ?_ ?_
      · exact r_lv [0] rfl (w_path_170 h hc _)
      · refine r_aload_n h 0 dX1_path_101 rfl rfl ?_
        refine r_iload_n h 1 dX1_path_102 rfl rfl ?_
        refine zm_cVv h hc (n := 1) (As := [iv x1]) (fun o1 e1 => w_step hc.1 _ x1 hx1 o1 e1) q2065 q2067 qs109 q136 q2068 (by decide +kernel) ⟨by decide, by decide⟩ rfl (Nat.le_of_ble_eq_true rfl) rfl dX1_path_103 (fun σ4  => ?_)
        refine r_aload_n h 0 dX1_path_106 rfl rfl ?_
        refine r_ldc2 (x := 12079) h q2064 (by decide) dX1_path_107 ?_
        refine r_iconst h dX1_path_110 ?_
        refine zm_cVz h hc (n := 2) (As := [jv 12079, iv 2]) (fun o1 e1 => w_stands hc.1 _ 12079 2 (by decide) (by decide) o1 e1) q1825 q1827 qs61 q136 q1828 (by decide +kernel) ⟨by decide, by decide⟩ rfl (Nat.le_of_ble_eq_true rfl) rfl dX1_path_111 (fun r5 σ6 hr7 => ?_)
        refine r_istore_n (lv' := [(1, iv r5), (0, .ref (zm_h G)), (2, iv x2)]) h dX1_path_114 rfl (hN _ (by decide)) rfl ?_
        refine r_aload_n h 1 dX1_path_115 rfl rfl ?_
        refine r_aload_n h 1 dX1_path_116 rfl rfl ?_
        refine zm_getI h hc 4 4 (by decide) rfl rfl q1484 rfl dX1_path_117 (fun hr8 => ?_)
        refine zm_cVi h hc (n := 1) (As := [iv (σ6 (-1) 4)]) (fun o1 e1 => w_octet hc.1 _ (σ6 (-1) 4) hr8 o1 e1) q1817 q1819 qs60 q136 q1820 (by decide +kernel) ⟨by decide, by decide⟩ rfl (Nat.le_of_ble_eq_true rfl) rfl dX1_path_120 (fun r9 σ10 hr11 => ?_)
        refine r_bipush h dX1_path_123 (by decide) ?_
        refine r_icmp_ne h hr11 (by decide) 132 dX1_path_125 rfl ?_ ?_
        · refine r_iconst h dX1_path_128 ?_
          refine r_goto h 133 dX1_path_129 rfl ?_
          exact r_lv [1, 0] rfl (w_path_133 h hc (m_path_90 n) ih _ r5 1 hr7 (by decide))
        · refine r_iconst h dX1_path_132 ?_
          exact r_lv [1, 0] rfl (w_path_133 h hc (m_path_90 n) ih _ r5 0 hr7 (by decide))
def m_path_61 (σ : MEM) (x1 s1 s2 : Int) : Option zm_O := ck (inR (s1 + s2)) (nu (mup σ (-1) 4 (s1 + s2)) (fun σ2 => if (σ2 (-1) 85) = 0 then (m_path_90 zF σ2 x1 1) else (if x1 = 0 then (if (σ2 (-1) 4) = (σ2 (-1) 3) then (some (0, σ2)) else (m_path_90 zF σ2 x1 1)) else (m_path_90 zF σ2 x1 1))))
theorem w_path_61 {C : zv_Cx zm_O} {G : zm_G} (h : zv_Ok C cX1_path RX1) (hc : zm_C C G 3 (Option.none : Option FieldType) 0 6 133) (σ : MEM) (x1 s1 s2 : Int) (hx1 : isB x1) (hs1 : inR s1) (hs2 : inR s2) : VV C (m_path_61 σ x1 s1 s2) σ [(0, .ref (zm_h G)), (1, iv x1)] [iv s2, iv s1, .ref (zm_h G)] 61 := by
  have hN : ∀ i, i < 3 → i < zv_n C := fun i q => by rw [hc.2.2.1]; exact q
  unfold m_path_61
  refine r_iadd h dX1_path_61 ?_
  refine r_ck (fun hk1 => ?_)
  refine zm_putI h hc 4 4 (by decide) rfl rfl q1484 ⟨rfl, rfl, by decide +kernel⟩ hk1 dX1_path_62 (fun σ2 _ => ?_)
  refine r_aload_n h 0 dX1_path_65 rfl rfl ?_
  refine zm_getZ h hc 85 85 (by decide) rfl rfl q1564 rfl dX1_path_66 (fun hr3 => ?_)
  refine r_if_eq h hr3.r 88 dX1_path_69 rfl ?_ ?_
  · refine r_iconst h dX1_path_88 ?_
    refine r_istore_n (lv' := [(2, iv 1), (0, .ref (zm_h G)), (1, iv x1)]) h dX1_path_89 rfl (hN _ (by decide)) rfl ?_
    exact r_lv [1, 2, 0] rfl (w_path_90 h hc zF _ x1 1 hx1 (by decide))
  · refine r_iload_n h 1 dX1_path_72 rfl rfl ?_
    refine r_if_ne h hx1.r 88 dX1_path_73 rfl ?_ ?_
    · refine r_aload_n h 0 dX1_path_76 rfl rfl ?_
      refine zm_getI h hc 4 4 (by decide) rfl rfl q1484 rfl dX1_path_77 (fun hr4 => ?_)
      refine r_aload_n h 0 dX1_path_80 rfl rfl ?_
      refine zm_getI h hc 3 3 (by decide) rfl rfl q1483 rfl dX1_path_81 (fun hr5 => ?_)
      refine r_icmp_ne h hr4 hr5 88 dX1_path_84 rfl ?_ ?_
      · exact zm_vret h hc rfl dX1_path_87
      · refine r_iconst h dX1_path_88 ?_
        refine r_istore_n (lv' := [(2, iv 1), (0, .ref (zm_h G)), (1, iv x1)]) h dX1_path_89 rfl (hN _ (by decide)) rfl ?_
        exact r_lv [1, 2, 0] rfl (w_path_90 h hc zF _ x1 1 hx1 (by decide))
    · refine r_iconst h dX1_path_88 ?_
      refine r_istore_n (lv' := [(2, iv 1), (0, .ref (zm_h G)), (1, iv x1)]) h dX1_path_89 rfl (hN _ (by decide)) rfl ?_
      exact r_lv [1, 2, 0] rfl (w_path_90 h hc zF _ x1 1 hx1 (by decide))
def m_path_24 (σ : MEM) (s1 : Int) : Option zm_O := nu (mup σ (-1) 85 s1) (fun σ1 => bd (m_stands σ1 12079 2) (fun r2 σ3 => if r2 = 0 then (if (σ3 (-1) 85) = 0 then (m_path_61 σ3 r2 (σ3 (-1) 4) 0) else (m_path_61 σ3 r2 (σ3 (-1) 4) 1)) else (m_path_61 σ3 r2 (σ3 (-1) 4) 2)))
theorem w_path_24 {C : zv_Cx zm_O} {G : zm_G} (h : zv_Ok C cX1_path RX1) (hc : zm_C C G 3 (Option.none : Option FieldType) 0 6 133) (σ : MEM) (s1 : Int) (hs1 : isB s1) : VV C (m_path_24 σ s1) σ [(0, .ref (zm_h G))] [iv s1, .ref (zm_h G)] 24 := by
  have hN : ∀ i, i < 3 → i < zv_n C := fun i q => by rw [hc.2.2.1]; exact q
  unfold m_path_24
  refine zm_putZ h hc 85 85 (by decide) rfl rfl q1564 ⟨rfl, rfl, by decide +kernel⟩ hs1 dX1_path_24 (fun σ1 _ => ?_)
  refine r_aload_n h 0 dX1_path_27 rfl rfl ?_
  refine r_ldc2 (x := 12079) h q2064 (by decide) dX1_path_28 ?_
  refine r_iconst h dX1_path_31 ?_
  refine zm_cVz h hc (n := 2) (As := [jv 12079, iv 2]) (fun o1 e1 => w_stands hc.1 _ 12079 2 (by decide) (by decide) o1 e1) q1825 q1827 qs61 q136 q1828 (by decide +kernel) ⟨by decide, by decide⟩ rfl (Nat.le_of_ble_eq_true rfl) rfl dX1_path_32 (fun r2 σ3 hr4 => ?_)
  refine r_istore_n (lv' := [(1, iv r2), (0, .ref (zm_h G))]) h dX1_path_35 rfl (hN _ (by decide)) rfl ?_
  refine r_aload_n h 1 dX1_path_36 rfl rfl ?_
  refine r_dup h dX1_path_37 rfl ?_
  refine zm_getI h hc 4 4 (by decide) rfl rfl q1484 rfl dX1_path_38 (fun hr5 => ?_)
  refine r_iload_n h 0 dX1_path_41 rfl rfl ?_
  refine r_if_eq h hr4.r 49 dX1_path_42 rfl ?_ ?_
  · refine r_aload_n h 1 dX1_path_49 rfl rfl ?_
    refine zm_getZ h hc 85 85 (by decide) rfl rfl q1564 rfl dX1_path_50 (fun hr6 => ?_)
    refine r_if_eq h hr6.r 60 dX1_path_53 rfl ?_ ?_
    · refine r_iconst h dX1_path_60 ?_
      exact r_lv [1, 0] rfl (w_path_61 h hc _ r2 (σ3 (-1) 4) 0 hr4 hr5 (by decide))
    · refine r_iconst h dX1_path_56 ?_
      refine r_goto h 61 dX1_path_57 rfl ?_
      exact r_lv [1, 0] rfl (w_path_61 h hc _ r2 (σ3 (-1) 4) 1 hr4 hr5 (by decide))
  · refine r_iconst h dX1_path_45 ?_
    refine r_goto h 61 dX1_path_46 rfl ?_
    exact r_lv [1, 0] rfl (w_path_61 h hc _ r2 (σ3 (-1) 4) 2 hr4 hr5 (by decide))
def m_path (σ : MEM) : Option zm_O := nu (mup σ (-1) 84 0) (fun σ1 => bd (m_octet σ1 (σ1 (-1) 4)) (fun r3 σ4 => if r3 = 47 then (m_path_24 σ4 1) else (m_path_24 σ4 0)))
theorem w_path {G : zm_G} (hD : zm_D G) (σ : MEM) (o : zm_O) (hd : m_path σ  = some o) : zm_Met G yX1_path cX1_path 3 (Option.none : Option FieldType) 0 6 133 σ [.ref (zm_h G)] o := by
  refine zm_intro hD hd (by decide) rfl (Nat.le_of_ble_eq_true rfl) rfl (fun C h hc => ?_)
  have hN : ∀ i, i < 3 → i < zv_n C := fun i q => by rw [hc.2.2.1]; exact q
  unfold m_path
  refine r_aload_n h 0 dX1_path_0 rfl rfl ?_
  refine r_iconst h dX1_path_1 ?_
  refine zm_putI h hc 84 84 (by decide) rfl rfl q1563 ⟨rfl, rfl, by decide +kernel⟩ (by decide) dX1_path_2 (fun σ1 _ => ?_)
  refine r_aload_n h 0 dX1_path_5 rfl rfl ?_
  refine r_aload_n h 0 dX1_path_6 rfl rfl ?_
  refine r_aload_n h 0 dX1_path_7 rfl rfl ?_
  refine zm_getI h hc 4 4 (by decide) rfl rfl q1484 rfl dX1_path_8 (fun hr2 => ?_)
  refine zm_cVi h hc (n := 1) (As := [iv (σ1 (-1) 4)]) (fun o1 e1 => w_octet hc.1 _ (σ1 (-1) 4) hr2 o1 e1) q1817 q1819 qs60 q136 q1820 (by decide +kernel) ⟨by decide, by decide⟩ rfl (Nat.le_of_ble_eq_true rfl) rfl dX1_path_11 (fun r3 σ4 hr5 => ?_)
  refine r_bipush h dX1_path_14 (by decide) ?_
  refine r_icmp_ne h hr5 (by decide) 23 dX1_path_16 rfl ?_ ?_
  · refine r_iconst h dX1_path_19 ?_
    refine r_goto h 24 dX1_path_20 rfl ?_
    exact r_lv [0] rfl (w_path_24 h hc _ 1 (by decide))
  · refine r_iconst h dX1_path_23 ?_
    exact r_lv [0] rfl (w_path_24 h hc _ 0 (by decide))
theorem dX1_isWithin_0 : decode cX1_isWithin 0 = .ok (.iconst 0, 1) := by decide +kernel
theorem dX1_isWithin_1 : decode cX1_isWithin 1 = .ok (.istore_n 3, 1) := by decide +kernel
theorem dX1_isWithin_2 : decode cX1_isWithin 2 = .ok (.iload_n 1, 1) := by decide +kernel
theorem dX1_isWithin_3 : decode cX1_isWithin 3 = .ok (.istore 4, 2) := by decide +kernel
theorem dX1_isWithin_5 : decode cX1_isWithin 5 = .ok (.iload 4, 2) := by decide +kernel
theorem dX1_isWithin_7 : decode cX1_isWithin 7 = .ok (.ifCond .lt 40, 3) := by decide +kernel
theorem dX1_isWithin_10 : decode cX1_isWithin 10 = .ok (.iload_n 3, 1) := by decide +kernel
theorem dX1_isWithin_11 : decode cX1_isWithin 11 = .ok (.ifCond .ne 9, 3) := by decide +kernel
theorem dX1_isWithin_14 : decode cX1_isWithin 14 = .ok (.iload 4, 2) := by decide +kernel
theorem dX1_isWithin_16 : decode cX1_isWithin 16 = .ok (.iload_n 2, 1) := by decide +kernel
theorem dX1_isWithin_17 : decode cX1_isWithin 17 = .ok (.if_icmp .ne 7, 3) := by decide +kernel
theorem dX1_isWithin_20 : decode cX1_isWithin 20 = .ok (.iconst 1, 1) := by decide +kernel
theorem dX1_isWithin_21 : decode cX1_isWithin 21 = .ok (.goto 4, 3) := by decide +kernel
theorem dX1_isWithin_24 : decode cX1_isWithin 24 = .ok (.iconst 0, 1) := by decide +kernel
theorem dX1_isWithin_25 : decode cX1_isWithin 25 = .ok (.istore_n 3, 1) := by decide +kernel
theorem dX1_isWithin_26 : decode cX1_isWithin 26 = .ok (.aload_n 0, 1) := by decide +kernel
theorem dX1_isWithin_27 : decode cX1_isWithin 27 = .ok (.getfield 34, 3) := by decide +kernel
theorem dX1_isWithin_30 : decode cX1_isWithin 30 = .ok (.sipush 600, 3) := by decide +kernel
theorem dX1_isWithin_33 : decode cX1_isWithin 33 = .ok (.aload_n 0, 1) := by decide +kernel
theorem dX1_isWithin_34 : decode cX1_isWithin 34 = .ok (.getfield 482, 3) := by decide +kernel
theorem dX1_isWithin_37 : decode cX1_isWithin 37 = .ok (.imul, 1) := by decide +kernel
theorem dX1_isWithin_38 : decode cX1_isWithin 38 = .ok (.iload 4, 2) := by decide +kernel
theorem dX1_isWithin_40 : decode cX1_isWithin 40 = .ok (.iadd, 1) := by decide +kernel
theorem dX1_isWithin_41 : decode cX1_isWithin 41 = .ok (.iaload, 1) := by decide +kernel
theorem dX1_isWithin_42 : decode cX1_isWithin 42 = .ok (.istore 4, 2) := by decide +kernel
theorem dX1_isWithin_44 : decode cX1_isWithin 44 = .ok (.goto (-39), 3) := by decide +kernel
theorem dX1_isWithin_47 : decode cX1_isWithin 47 = .ok (.iload_n 3, 1) := by decide +kernel
theorem dX1_isWithin_48 : decode cX1_isWithin 48 = .ok (.ireturn, 1) := by decide +kernel
def m_isWithin_25 (lp5 : MEM → Int → Int → Int → Option zm_O) (σ : MEM) (x2 x4 s0 : Int) : Option zm_O := ck (0 ≤ ((600 * (σ (-1) 7)) + x4) ∧ ((600 * (σ (-1) 7)) + x4) < 1200) (lp5 σ x2 s0 (σ 14 ((600 * (σ (-1) 7)) + x4)))
theorem w_isWithin_25 {C : zv_Cx zm_O} {G : zm_G} (h : zv_Ok C cX1_isWithin RX1) (hc : zm_C C G 5 (Option.some FieldType.boolean) 3 0 0) (lp5 : MEM → Int → Int → Int → Option zm_O) (hlp5 : ∀ (σ : MEM) (x2 x3 x4 : Int), inR x2 → isB x3 → inR x4 → VV C (lp5 σ x2 x3 x4) σ [(0, .ref (zm_h G)), (2, iv x2), (3, iv x3), (4, iv x4)] [] 5) (σ : MEM) (x2 x4 s0 : Int) (hx2 : inR x2) (hx4 : inR x4) (hs0 : isB s0) : VV C (m_isWithin_25 lp5 σ x2 x4 s0) σ [(0, .ref (zm_h G)), (2, iv x2), (4, iv x4)] [iv s0] 25 := by
  have hN : ∀ i, i < 5 → i < zv_n C := fun i q => by rw [hc.2.2.1]; exact q
  unfold m_isWithin_25
  refine r_istore_n (lv' := [(3, iv s0), (0, .ref (zm_h G)), (2, iv x2), (4, iv x4)]) h dX1_isWithin_25 rfl (hN _ (by decide)) rfl ?_
  refine r_aload_n h 1 dX1_isWithin_26 rfl rfl ?_
  refine zm_getA h hc 14 (by decide) rfl q1494 rfl dX1_isWithin_27 ?_
  refine r_sipush h dX1_isWithin_30 (by decide) ?_
  refine r_aload_n h 1 dX1_isWithin_33 rfl rfl ?_
  refine zm_getI h hc 7 7 (by decide) rfl rfl q1487 rfl dX1_isWithin_34 (fun hr1 => ?_)
  refine r_imul h dX1_isWithin_37 ?_
  refine r_iload h 3 dX1_isWithin_38 rfl ?_
  refine r_iadd h dX1_isWithin_40 ?_
  refine zm_ldI h hc 14 14 1200 (by decide) rfl rfl rfl (by decide) dX1_isWithin_41 (fun _ hr2 => ?_)
  refine r_istore (lv' := [(4, iv (σ 14 ((600 * (σ (-1) 7)) + x4))), (3, iv s0), (0, .ref (zm_h G)), (2, iv x2)]) h dX1_isWithin_42 (hN _ (by decide)) rfl ?_
  refine r_goto h 5 dX1_isWithin_44 rfl ?_
  exact r_lv [2, 3, 1, 0] rfl (hlp5 _ x2 s0 (σ 14 ((600 * (σ (-1) 7)) + x4)) hx2 hs0 hr2)
def m_isWithin_20 (lp5 : MEM → Int → Int → Int → Option zm_O) (σ : MEM) (x2 x4 : Int) : Option zm_O := m_isWithin_25 lp5 σ x2 x4 1
theorem w_isWithin_20 {C : zv_Cx zm_O} {G : zm_G} (h : zv_Ok C cX1_isWithin RX1) (hc : zm_C C G 5 (Option.some FieldType.boolean) 3 0 0) (lp5 : MEM → Int → Int → Int → Option zm_O) (hlp5 : ∀ (σ : MEM) (x2 x3 x4 : Int), inR x2 → isB x3 → inR x4 → VV C (lp5 σ x2 x3 x4) σ [(0, .ref (zm_h G)), (2, iv x2), (3, iv x3), (4, iv x4)] [] 5) (σ : MEM) (x2 x4 : Int) (hx2 : inR x2) (hx4 : inR x4) : VV C (m_isWithin_20 lp5 σ x2 x4) σ [(0, .ref (zm_h G)), (2, iv x2), (4, iv x4)] [] 20 := by
  have hN : ∀ i, i < 5 → i < zv_n C := fun i q => by rw [hc.2.2.1]; exact q
  unfold m_isWithin_20
  refine r_iconst h dX1_isWithin_20 ?_
  refine r_goto h 25 dX1_isWithin_21 rfl ?_
  exact r_lv [0, 1, 2] rfl (w_isWithin_25 h hc lp5 hlp5 _ x2 x4 1 hx2 hx4 (by decide))
def m_isWithin_5 : Nat → MEM → Int → Int → Int → Option zm_O
  | 0, _, _, _, _ => none
  | n + 1, σ, x2, x3, x4 => if x4 < 0 then (some (x3, σ)) else (if x3 = 0 then (if x4 = x2 then (m_isWithin_20 (m_isWithin_5 n) σ x2 x4) else (m_isWithin_25 (m_isWithin_5 n) σ x2 x4 0)) else (m_isWithin_20 (m_isWithin_5 n) σ x2 x4))
theorem w_isWithin_5 {C : zv_Cx zm_O} {G : zm_G} (h : zv_Ok C cX1_isWithin RX1) (hc : zm_C C G 5 (Option.some FieldType.boolean) 3 0 0) : ∀ (n : Nat) (σ : MEM) (x2 x3 x4 : Int), inR x2 → isB x3 → inR x4 → VV C (m_isWithin_5 n σ x2 x3 x4) σ [(0, .ref (zm_h G)), (2, iv x2), (3, iv x3), (4, iv x4)] [] 5 := by
  have hN : ∀ i, i < 5 → i < zv_n C := fun i q => by rw [hc.2.2.1]; exact q
  intro n
  induction n with
  | zero => intros; exact r_none
  | succ n ih =>
    intro σ x2 x3 x4 hx2 hx3 hx4
    rw [m_isWithin_5]
    refine r_iload h 3 dX1_isWithin_5 rfl ?_
    refine r_if_lt h hx4 47 dX1_isWithin_7 rfl ?_ ?_
    · refine r_iload_n h 2 dX1_isWithin_47 rfl rfl ?_
      exact zm_zret h hc rfl hx3 dX1_isWithin_48
    · refine r_iload_n h 2 dX1_isWithin_10 rfl rfl ?_
      refine r_if_ne h hx3.r 20 dX1_isWithin_11 rfl ?_ ?_
      · refine r_iload h 3 dX1_isWithin_14 rfl ?_
        refine r_iload_n h 1 dX1_isWithin_16 rfl rfl ?_
        refine r_icmp_ne h hx4 hx2 24 dX1_isWithin_17 rfl ?_ ?_
        · exact r_lv [0, 1, 3] rfl (w_isWithin_20 h hc (m_isWithin_5 n) ih _ x2 x4 hx2 hx4)
        · refine r_iconst h dX1_isWithin_24 ?_
          exact r_lv [0, 1, 3] rfl (w_isWithin_25 h hc (m_isWithin_5 n) ih _ x2 x4 0 hx2 hx4 (by decide))
      · exact r_lv [0, 1, 3] rfl (w_isWithin_20 h hc (m_isWithin_5 n) ih _ x2 x4 hx2 hx4)
def m_isWithin (σ : MEM) (a0 a1 : Int) : Option zm_O := m_isWithin_5 zF σ a1 0 a0
theorem w_isWithin {G : zm_G} (hD : zm_D G) (σ : MEM) (a0 a1 : Int) (ha0 : inR a0) (ha1 : inR a1) (o : zm_O) (hd : m_isWithin σ a0 a1 = some o) : zm_Met G yX1_isWithin cX1_isWithin 5 (Option.some FieldType.boolean) 3 0 0 σ [.ref (zm_h G), iv a0, iv a1] o := by
  refine zm_intro hD hd (by decide) rfl (Nat.le_of_ble_eq_true rfl) rfl (fun C h hc => ?_)
  have hN : ∀ i, i < 5 → i < zv_n C := fun i q => by rw [hc.2.2.1]; exact q
  unfold m_isWithin
  refine r_iconst h dX1_isWithin_0 ?_
  refine r_istore_n (lv' := [(3, iv 0), (0, .ref (zm_h G)), (1, iv a0), (2, iv a1)]) h dX1_isWithin_1 rfl (hN _ (by decide)) rfl ?_
  refine r_iload_n h 2 dX1_isWithin_2 rfl rfl ?_
  refine r_istore (lv' := [(4, iv a0), (3, iv 0), (0, .ref (zm_h G)), (1, iv a0), (2, iv a1)]) h dX1_isWithin_3 (hN _ (by decide)) rfl ?_
  exact r_lv [2, 4, 1, 0] rfl (w_isWithin_5 h hc zF _ a1 0 a0 ha1 (by decide) ha0)
theorem dX1_isCalled_0 : decode cX1_isCalled 0 = .ok (.aload_n 0, 1) := by decide +kernel
theorem dX1_isCalled_1 : decode cX1_isCalled 1 = .ok (.getfield 40, 3) := by decide +kernel
theorem dX1_isCalled_4 : decode cX1_isCalled 4 = .ok (.sipush 600, 3) := by decide +kernel
theorem dX1_isCalled_7 : decode cX1_isCalled 7 = .ok (.aload_n 0, 1) := by decide +kernel
theorem dX1_isCalled_8 : decode cX1_isCalled 8 = .ok (.getfield 482, 3) := by decide +kernel
theorem dX1_isCalled_11 : decode cX1_isCalled 11 = .ok (.imul, 1) := by decide +kernel
theorem dX1_isCalled_12 : decode cX1_isCalled 12 = .ok (.iload_n 1, 1) := by decide +kernel
theorem dX1_isCalled_13 : decode cX1_isCalled 13 = .ok (.iadd, 1) := by decide +kernel
theorem dX1_isCalled_14 : decode cX1_isCalled 14 = .ok (.iaload, 1) := by decide +kernel
theorem dX1_isCalled_15 : decode cX1_isCalled 15 = .ok (.iload_n 3, 1) := by decide +kernel
theorem dX1_isCalled_16 : decode cX1_isCalled 16 = .ok (.if_icmp .ne 7, 3) := by decide +kernel
theorem dX1_isCalled_19 : decode cX1_isCalled 19 = .ok (.iconst 1, 1) := by decide +kernel
theorem dX1_isCalled_20 : decode cX1_isCalled 20 = .ok (.goto 4, 3) := by decide +kernel
theorem dX1_isCalled_23 : decode cX1_isCalled 23 = .ok (.iconst 0, 1) := by decide +kernel
theorem dX1_isCalled_24 : decode cX1_isCalled 24 = .ok (.istore 4, 2) := by decide +kernel
theorem dX1_isCalled_26 : decode cX1_isCalled 26 = .ok (.iconst 0, 1) := by decide +kernel
theorem dX1_isCalled_27 : decode cX1_isCalled 27 = .ok (.istore 5, 2) := by decide +kernel
theorem dX1_isCalled_29 : decode cX1_isCalled 29 = .ok (.iload 5, 2) := by decide +kernel
theorem dX1_isCalled_31 : decode cX1_isCalled 31 = .ok (.iload_n 3, 1) := by decide +kernel
theorem dX1_isCalled_32 : decode cX1_isCalled 32 = .ok (.if_icmp .ge 56, 3) := by decide +kernel
theorem dX1_isCalled_35 : decode cX1_isCalled 35 = .ok (.iload 4, 2) := by decide +kernel
theorem dX1_isCalled_37 : decode cX1_isCalled 37 = .ok (.ifCond .eq 51, 3) := by decide +kernel
theorem dX1_isCalled_40 : decode cX1_isCalled 40 = .ok (.aload_n 0, 1) := by decide +kernel
theorem dX1_isCalled_41 : decode cX1_isCalled 41 = .ok (.getfield 24, 3) := by decide +kernel
theorem dX1_isCalled_44 : decode cX1_isCalled 44 = .ok (.aload_n 0, 1) := by decide +kernel
theorem dX1_isCalled_45 : decode cX1_isCalled 45 = .ok (.getfield 37, 3) := by decide +kernel
theorem dX1_isCalled_48 : decode cX1_isCalled 48 = .ok (.sipush 600, 3) := by decide +kernel
theorem dX1_isCalled_51 : decode cX1_isCalled 51 = .ok (.aload_n 0, 1) := by decide +kernel
theorem dX1_isCalled_52 : decode cX1_isCalled 52 = .ok (.getfield 482, 3) := by decide +kernel
theorem dX1_isCalled_55 : decode cX1_isCalled 55 = .ok (.imul, 1) := by decide +kernel
theorem dX1_isCalled_56 : decode cX1_isCalled 56 = .ok (.iload_n 1, 1) := by decide +kernel
theorem dX1_isCalled_57 : decode cX1_isCalled 57 = .ok (.iadd, 1) := by decide +kernel
theorem dX1_isCalled_58 : decode cX1_isCalled 58 = .ok (.iaload, 1) := by decide +kernel
theorem dX1_isCalled_59 : decode cX1_isCalled 59 = .ok (.iload 5, 2) := by decide +kernel
theorem dX1_isCalled_61 : decode cX1_isCalled 61 = .ok (.iadd, 1) := by decide +kernel
theorem dX1_isCalled_62 : decode cX1_isCalled 62 = .ok (.baload, 1) := by decide +kernel
theorem dX1_isCalled_63 : decode cX1_isCalled 63 = .ok (.aload_n 0, 1) := by decide +kernel
theorem dX1_isCalled_64 : decode cX1_isCalled 64 = .ok (.getfield 13, 3) := by decide +kernel
theorem dX1_isCalled_67 : decode cX1_isCalled 67 = .ok (.iload_n 2, 1) := by decide +kernel
theorem dX1_isCalled_68 : decode cX1_isCalled 68 = .ok (.iload 5, 2) := by decide +kernel
theorem dX1_isCalled_70 : decode cX1_isCalled 70 = .ok (.iadd, 1) := by decide +kernel
theorem dX1_isCalled_71 : decode cX1_isCalled 71 = .ok (.baload, 1) := by decide +kernel
theorem dX1_isCalled_72 : decode cX1_isCalled 72 = .ok (.if_icmp .ne 7, 3) := by decide +kernel
theorem dX1_isCalled_75 : decode cX1_isCalled 75 = .ok (.iconst 1, 1) := by decide +kernel
theorem dX1_isCalled_76 : decode cX1_isCalled 76 = .ok (.goto 4, 3) := by decide +kernel
theorem dX1_isCalled_79 : decode cX1_isCalled 79 = .ok (.iconst 0, 1) := by decide +kernel
theorem dX1_isCalled_80 : decode cX1_isCalled 80 = .ok (.istore 4, 2) := by decide +kernel
theorem dX1_isCalled_82 : decode cX1_isCalled 82 = .ok (.iinc 5 1, 3) := by decide +kernel
theorem dX1_isCalled_85 : decode cX1_isCalled 85 = .ok (.goto (-56), 3) := by decide +kernel
theorem dX1_isCalled_88 : decode cX1_isCalled 88 = .ok (.iload 4, 2) := by decide +kernel
theorem dX1_isCalled_90 : decode cX1_isCalled 90 = .ok (.ireturn, 1) := by decide +kernel
def m_isCalled_29 : Nat → MEM → Int → Int → Int → Int → Int → Option zm_O
  | 0, _, _, _, _, _, _ => none
  | n + 1, σ, x1, x2, x3, x4, x5 => if x3 ≤ x5 then (some (x4, σ)) else (if x4 = 0 then (some (x4, σ)) else (ck (0 ≤ ((600 * (σ (-1) 7)) + x1) ∧ ((600 * (σ (-1) 7)) + x1) < 1200) (ck (0 ≤ ((σ 15 ((600 * (σ (-1) 7)) + x1)) + x5) ∧ ((σ 15 ((600 * (σ (-1) 7)) + x1)) + x5) < 12000) (ck (0 ≤ (x2 + x5) ∧ (x2 + x5) < 6000) (if (σ 11 ((σ 15 ((600 * (σ (-1) 7)) + x1)) + x5)) = (σ 2 (x2 + x5)) then (ck (inR (x5 + 1)) (m_isCalled_29 n σ x1 x2 x3 1 (x5 + 1))) else (ck (inR (x5 + 1)) (m_isCalled_29 n σ x1 x2 x3 0 (x5 + 1))))))))
theorem w_isCalled_29 {C : zv_Cx zm_O} {G : zm_G} (h : zv_Ok C cX1_isCalled RX1) (hc : zm_C C G 6 (Option.some FieldType.boolean) 3 0 0) : ∀ (n : Nat) (σ : MEM) (x1 x2 x3 x4 x5 : Int), inR x1 → inR x2 → inR x3 → isB x4 → inR x5 → VV C (m_isCalled_29 n σ x1 x2 x3 x4 x5) σ [(0, .ref (zm_h G)), (1, iv x1), (2, iv x2), (3, iv x3), (4, iv x4), (5, iv x5)] [] 29 := by
  have hN : ∀ i, i < 6 → i < zv_n C := fun i q => by rw [hc.2.2.1]; exact q
  intro n
  induction n with
  | zero => intros; exact r_none
  | succ n ih =>
    intro σ x1 x2 x3 x4 x5 hx1 hx2 hx3 hx4 hx5
    rw [m_isCalled_29]
    refine r_iload h 5 dX1_isCalled_29 rfl ?_
    refine r_iload_n h 3 dX1_isCalled_31 rfl rfl ?_
    refine r_icmp_ge h hx5 hx3 88 dX1_isCalled_32 rfl ?_ ?_
    · refine r_iload h 4 dX1_isCalled_88 rfl ?_
      exact zm_zret h hc rfl hx4 dX1_isCalled_90
    · refine r_iload h 4 dX1_isCalled_35 rfl ?_
      refine r_if_eq h hx4.r 88 dX1_isCalled_37 rfl ?_ ?_
      · refine r_iload h 4 dX1_isCalled_88 rfl ?_
        exact zm_zret h hc rfl hx4 dX1_isCalled_90
      · refine r_aload_n h 0 dX1_isCalled_40 rfl rfl ?_
        refine zm_getA h hc 11 (by decide) rfl q1491 rfl dX1_isCalled_41 ?_
        refine r_aload_n h 0 dX1_isCalled_44 rfl rfl ?_
        refine zm_getA h hc 15 (by decide) rfl q1495 rfl dX1_isCalled_45 ?_
        refine r_sipush h dX1_isCalled_48 (by decide) ?_
        refine r_aload_n h 0 dX1_isCalled_51 rfl rfl ?_
        refine zm_getI h hc 7 7 (by decide) rfl rfl q1487 rfl dX1_isCalled_52 (fun hr1 => ?_)
        refine r_imul h dX1_isCalled_55 ?_
        refine r_iload_n h 1 dX1_isCalled_56 rfl rfl ?_
        refine r_iadd h dX1_isCalled_57 ?_
        refine zm_ldI h hc 15 15 1200 (by decide) rfl rfl rfl (by decide) dX1_isCalled_58 (fun _ hr2 => ?_)
        refine r_iload h 5 dX1_isCalled_59 rfl ?_
        refine r_iadd h dX1_isCalled_61 ?_
        refine zm_ldB h hc 11 11 12000 (by decide) rfl rfl rfl (by decide) dX1_isCalled_62 (fun _ hr3 => ?_)
        refine r_aload_n h 0 dX1_isCalled_63 rfl rfl ?_
        refine zm_getA h hc 2 (by decide) rfl q1482 rfl dX1_isCalled_64 ?_
        refine r_iload_n h 2 dX1_isCalled_67 rfl rfl ?_
        refine r_iload h 5 dX1_isCalled_68 rfl ?_
        refine r_iadd h dX1_isCalled_70 ?_
        refine zm_ldB h hc 2 2 6000 (by decide) rfl rfl rfl (by decide) dX1_isCalled_71 (fun _ hr4 => ?_)
        refine r_icmp_ne h hr3.r hr4.r 79 dX1_isCalled_72 rfl ?_ ?_
        · refine r_iconst h dX1_isCalled_75 ?_
          refine r_goto h 80 dX1_isCalled_76 rfl ?_
          refine r_istore (lv' := [(4, iv 1), (0, .ref (zm_h G)), (1, iv x1), (2, iv x2), (3, iv x3), (5, iv x5)]) h dX1_isCalled_80 (hN _ (by decide)) rfl ?_
          refine r_iinc (lv' := [(5, iv (x5 + 1)), (4, iv 1), (0, .ref (zm_h G)), (1, iv x1), (2, iv x2), (3, iv x3)]) h 5 dX1_isCalled_82 rfl (hN _ (by decide)) rfl ?_
          refine r_goto h 29 dX1_isCalled_85 rfl ?_
          refine r_ck (fun hk5 => ?_)
          exact r_lv [2, 3, 4, 5, 1, 0] rfl (ih _ x1 x2 x3 1 (x5 + 1) hx1 hx2 hx3 (by decide) hk5)
        · refine r_iconst h dX1_isCalled_79 ?_
          refine r_istore (lv' := [(4, iv 0), (0, .ref (zm_h G)), (1, iv x1), (2, iv x2), (3, iv x3), (5, iv x5)]) h dX1_isCalled_80 (hN _ (by decide)) rfl ?_
          refine r_iinc (lv' := [(5, iv (x5 + 1)), (4, iv 0), (0, .ref (zm_h G)), (1, iv x1), (2, iv x2), (3, iv x3)]) h 5 dX1_isCalled_82 rfl (hN _ (by decide)) rfl ?_
          refine r_goto h 29 dX1_isCalled_85 rfl ?_
          refine r_ck (fun hk6 => ?_)
          exact r_lv [2, 3, 4, 5, 1, 0] rfl (ih _ x1 x2 x3 0 (x5 + 1) hx1 hx2 hx3 (by decide) hk6)
def m_isCalled (σ : MEM) (a0 a1 a2 : Int) : Option zm_O := ck (0 ≤ ((600 * (σ (-1) 7)) + a0) ∧ ((600 * (σ (-1) 7)) + a0) < 1200) (if (σ 16 ((600 * (σ (-1) 7)) + a0)) = a2 then (m_isCalled_29 zF σ a0 a1 a2 1 0) else (m_isCalled_29 zF σ a0 a1 a2 0 0))
theorem w_isCalled {G : zm_G} (hD : zm_D G) (σ : MEM) (a0 a1 a2 : Int) (ha0 : inR a0) (ha1 : inR a1) (ha2 : inR a2) (o : zm_O) (hd : m_isCalled σ a0 a1 a2 = some o) : zm_Met G yX1_isCalled cX1_isCalled 6 (Option.some FieldType.boolean) 3 0 0 σ [.ref (zm_h G), iv a0, iv a1, iv a2] o := by
  refine zm_intro hD hd (by decide) rfl (Nat.le_of_ble_eq_true rfl) rfl (fun C h hc => ?_)
  have hN : ∀ i, i < 6 → i < zv_n C := fun i q => by rw [hc.2.2.1]; exact q
  unfold m_isCalled
  refine r_aload_n h 0 dX1_isCalled_0 rfl rfl ?_
  refine zm_getA h hc 16 (by decide) rfl q1496 rfl dX1_isCalled_1 ?_
  refine r_sipush h dX1_isCalled_4 (by decide) ?_
  refine r_aload_n h 0 dX1_isCalled_7 rfl rfl ?_
  refine zm_getI h hc 7 7 (by decide) rfl rfl q1487 rfl dX1_isCalled_8 (fun hr1 => ?_)
  refine r_imul h dX1_isCalled_11 ?_
  refine r_iload_n h 1 dX1_isCalled_12 rfl rfl ?_
  refine r_iadd h dX1_isCalled_13 ?_
  refine zm_ldI h hc 16 16 1200 (by decide) rfl rfl rfl (by decide) dX1_isCalled_14 (fun _ hr2 => ?_)
  refine r_iload_n h 3 dX1_isCalled_15 rfl rfl ?_
  refine r_icmp_ne h hr2 ha2 23 dX1_isCalled_16 rfl ?_ ?_
  · refine r_iconst h dX1_isCalled_19 ?_
    refine r_goto h 24 dX1_isCalled_20 rfl ?_
    refine r_istore (lv' := [(4, iv 1), (0, .ref (zm_h G)), (1, iv a0), (2, iv a1), (3, iv a2)]) h dX1_isCalled_24 (hN _ (by decide)) rfl ?_
    refine r_iconst h dX1_isCalled_26 ?_
    refine r_istore (lv' := [(5, iv 0), (4, iv 1), (0, .ref (zm_h G)), (1, iv a0), (2, iv a1), (3, iv a2)]) h dX1_isCalled_27 (hN _ (by decide)) rfl ?_
    exact r_lv [2, 3, 4, 5, 1, 0] rfl (w_isCalled_29 h hc zF _ a0 a1 a2 1 0 ha0 ha1 ha2 (by decide) (by decide))
  · refine r_iconst h dX1_isCalled_23 ?_
    refine r_istore (lv' := [(4, iv 0), (0, .ref (zm_h G)), (1, iv a0), (2, iv a1), (3, iv a2)]) h dX1_isCalled_24 (hN _ (by decide)) rfl ?_
    refine r_iconst h dX1_isCalled_26 ?_
    refine r_istore (lv' := [(5, iv 0), (4, iv 0), (0, .ref (zm_h G)), (1, iv a0), (2, iv a1), (3, iv a2)]) h dX1_isCalled_27 (hN _ (by decide)) rfl ?_
    exact r_lv [2, 3, 4, 5, 1, 0] rfl (w_isCalled_29 h hc zF _ a0 a1 a2 0 0 ha0 ha1 ha2 (by decide) (by decide))
theorem dX1_leads_0 : decode cX1_leads 0 = .ok (.aload_n 0, 1) := by decide +kernel
theorem dX1_leads_1 : decode cX1_leads 1 = .ok (.getfield 31, 3) := by decide +kernel
theorem dX1_leads_4 : decode cX1_leads 4 = .ok (.sipush 600, 3) := by decide +kernel
theorem dX1_leads_7 : decode cX1_leads 7 = .ok (.aload_n 0, 1) := by decide +kernel
theorem dX1_leads_8 : decode cX1_leads 8 = .ok (.getfield 482, 3) := by decide +kernel
theorem dX1_leads_11 : decode cX1_leads 11 = .ok (.imul, 1) := by decide +kernel
theorem dX1_leads_12 : decode cX1_leads 12 = .ok (.iload_n 3, 1) := by decide +kernel
theorem dX1_leads_13 : decode cX1_leads 13 = .ok (.iadd, 1) := by decide +kernel
theorem dX1_leads_14 : decode cX1_leads 14 = .ok (.iaload, 1) := by decide +kernel
theorem dX1_leads_15 : decode cX1_leads 15 = .ok (.istore 4, 2) := by decide +kernel
theorem dX1_leads_17 : decode cX1_leads 17 = .ok (.aload_n 0, 1) := by decide +kernel
theorem dX1_leads_18 : decode cX1_leads 18 = .ok (.getfield 34, 3) := by decide +kernel
theorem dX1_leads_21 : decode cX1_leads 21 = .ok (.sipush 600, 3) := by decide +kernel
theorem dX1_leads_24 : decode cX1_leads 24 = .ok (.aload_n 0, 1) := by decide +kernel
theorem dX1_leads_25 : decode cX1_leads 25 = .ok (.getfield 482, 3) := by decide +kernel
theorem dX1_leads_28 : decode cX1_leads 28 = .ok (.imul, 1) := by decide +kernel
theorem dX1_leads_29 : decode cX1_leads 29 = .ok (.iload_n 3, 1) := by decide +kernel
theorem dX1_leads_30 : decode cX1_leads 30 = .ok (.iadd, 1) := by decide +kernel
theorem dX1_leads_31 : decode cX1_leads 31 = .ok (.iaload, 1) := by decide +kernel
theorem dX1_leads_32 : decode cX1_leads 32 = .ok (.iload_n 2, 1) := by decide +kernel
theorem dX1_leads_33 : decode cX1_leads 33 = .ok (.if_icmp .ne 7, 3) := by decide +kernel
theorem dX1_leads_36 : decode cX1_leads 36 = .ok (.iconst 1, 1) := by decide +kernel
theorem dX1_leads_37 : decode cX1_leads 37 = .ok (.goto 4, 3) := by decide +kernel
theorem dX1_leads_40 : decode cX1_leads 40 = .ok (.iconst 0, 1) := by decide +kernel
theorem dX1_leads_41 : decode cX1_leads 41 = .ok (.istore 5, 2) := by decide +kernel
theorem dX1_leads_43 : decode cX1_leads 43 = .ok (.aload_n 0, 1) := by decide +kernel
theorem dX1_leads_44 : decode cX1_leads 44 = .ok (.getfield 182, 3) := by decide +kernel
theorem dX1_leads_47 : decode cX1_leads 47 = .ok (.iload_n 1, 1) := by decide +kernel
theorem dX1_leads_48 : decode cX1_leads 48 = .ok (.iaload, 1) := by decide +kernel
theorem dX1_leads_49 : decode cX1_leads 49 = .ok (.tableswitch 183 0 5 #[39, 50, 75, 92, 129, 146], 39) := by decide +kernel
theorem dX1_leads_88 : decode cX1_leads 88 = .ok (.iload_n 3, 1) := by decide +kernel
theorem dX1_leads_89 : decode cX1_leads 89 = .ok (.iload_n 2, 1) := by decide +kernel
theorem dX1_leads_90 : decode cX1_leads 90 = .ok (.if_icmp .ne 7, 3) := by decide +kernel
theorem dX1_leads_93 : decode cX1_leads 93 = .ok (.iconst 1, 1) := by decide +kernel
theorem dX1_leads_94 : decode cX1_leads 94 = .ok (.goto 4, 3) := by decide +kernel
theorem dX1_leads_97 : decode cX1_leads 97 = .ok (.iconst 0, 1) := by decide +kernel
theorem dX1_leads_98 : decode cX1_leads 98 = .ok (.ireturn, 1) := by decide +kernel
theorem dX1_leads_99 : decode cX1_leads 99 = .ok (.aload_n 0, 1) := by decide +kernel
theorem dX1_leads_100 : decode cX1_leads 100 = .ok (.getfield 34, 3) := by decide +kernel
theorem dX1_leads_103 : decode cX1_leads 103 = .ok (.sipush 600, 3) := by decide +kernel
theorem dX1_leads_106 : decode cX1_leads 106 = .ok (.aload_n 0, 1) := by decide +kernel
theorem dX1_leads_107 : decode cX1_leads 107 = .ok (.getfield 482, 3) := by decide +kernel
theorem dX1_leads_110 : decode cX1_leads 110 = .ok (.imul, 1) := by decide +kernel
theorem dX1_leads_111 : decode cX1_leads 111 = .ok (.iload_n 2, 1) := by decide +kernel
theorem dX1_leads_112 : decode cX1_leads 112 = .ok (.iadd, 1) := by decide +kernel
theorem dX1_leads_113 : decode cX1_leads 113 = .ok (.iaload, 1) := by decide +kernel
theorem dX1_leads_114 : decode cX1_leads 114 = .ok (.iload_n 3, 1) := by decide +kernel
theorem dX1_leads_115 : decode cX1_leads 115 = .ok (.if_icmp .ne 7, 3) := by decide +kernel
theorem dX1_leads_118 : decode cX1_leads 118 = .ok (.iconst 1, 1) := by decide +kernel
theorem dX1_leads_119 : decode cX1_leads 119 = .ok (.goto 4, 3) := by decide +kernel
theorem dX1_leads_122 : decode cX1_leads 122 = .ok (.iconst 0, 1) := by decide +kernel
theorem dX1_leads_123 : decode cX1_leads 123 = .ok (.ireturn, 1) := by decide +kernel
theorem dX1_leads_124 : decode cX1_leads 124 = .ok (.iload 5, 2) := by decide +kernel
theorem dX1_leads_126 : decode cX1_leads 126 = .ok (.ifCond .eq 13, 3) := by decide +kernel
theorem dX1_leads_129 : decode cX1_leads 129 = .ok (.iload 4, 2) := by decide +kernel
theorem dX1_leads_131 : decode cX1_leads 131 = .ok (.iconst 3, 1) := by decide +kernel
theorem dX1_leads_132 : decode cX1_leads 132 = .ok (.if_icmp .ne 7, 3) := by decide +kernel
theorem dX1_leads_135 : decode cX1_leads 135 = .ok (.iconst 1, 1) := by decide +kernel
theorem dX1_leads_136 : decode cX1_leads 136 = .ok (.goto 4, 3) := by decide +kernel
theorem dX1_leads_139 : decode cX1_leads 139 = .ok (.iconst 0, 1) := by decide +kernel
theorem dX1_leads_140 : decode cX1_leads 140 = .ok (.ireturn, 1) := by decide +kernel
theorem dX1_leads_141 : decode cX1_leads 141 = .ok (.iload 5, 2) := by decide +kernel
theorem dX1_leads_143 : decode cX1_leads 143 = .ok (.ifCond .eq 33, 3) := by decide +kernel
theorem dX1_leads_146 : decode cX1_leads 146 = .ok (.iload 4, 2) := by decide +kernel
theorem dX1_leads_148 : decode cX1_leads 148 = .ok (.iconst 1, 1) := by decide +kernel
theorem dX1_leads_149 : decode cX1_leads 149 = .ok (.if_icmp .ne 27, 3) := by decide +kernel
theorem dX1_leads_152 : decode cX1_leads 152 = .ok (.aload_n 0, 1) := by decide +kernel
theorem dX1_leads_153 : decode cX1_leads 153 = .ok (.iload_n 3, 1) := by decide +kernel
theorem dX1_leads_154 : decode cX1_leads 154 = .ok (.aload_n 0, 1) := by decide +kernel
theorem dX1_leads_155 : decode cX1_leads 155 = .ok (.getfield 188, 3) := by decide +kernel
theorem dX1_leads_158 : decode cX1_leads 158 = .ok (.iload_n 1, 1) := by decide +kernel
theorem dX1_leads_159 : decode cX1_leads 159 = .ok (.iaload, 1) := by decide +kernel
theorem dX1_leads_160 : decode cX1_leads 160 = .ok (.aload_n 0, 1) := by decide +kernel
theorem dX1_leads_161 : decode cX1_leads 161 = .ok (.getfield 191, 3) := by decide +kernel
theorem dX1_leads_164 : decode cX1_leads 164 = .ok (.iload_n 1, 1) := by decide +kernel
theorem dX1_leads_165 : decode cX1_leads 165 = .ok (.iaload, 1) := by decide +kernel
theorem dX1_leads_166 : decode cX1_leads 166 = .ok (.invokevirtual 588, 3) := by decide +kernel
theorem dX1_leads_169 : decode cX1_leads 169 = .ok (.ifCond .eq 7, 3) := by decide +kernel
theorem dX1_leads_172 : decode cX1_leads 172 = .ok (.iconst 1, 1) := by decide +kernel
theorem dX1_leads_173 : decode cX1_leads 173 = .ok (.goto 4, 3) := by decide +kernel
theorem dX1_leads_176 : decode cX1_leads 176 = .ok (.iconst 0, 1) := by decide +kernel
theorem dX1_leads_177 : decode cX1_leads 177 = .ok (.ireturn, 1) := by decide +kernel
theorem dX1_leads_178 : decode cX1_leads 178 = .ok (.iload 5, 2) := by decide +kernel
theorem dX1_leads_180 : decode cX1_leads 180 = .ok (.ifCond .eq 13, 3) := by decide +kernel
theorem dX1_leads_183 : decode cX1_leads 183 = .ok (.iload 4, 2) := by decide +kernel
theorem dX1_leads_185 : decode cX1_leads 185 = .ok (.iconst 1, 1) := by decide +kernel
theorem dX1_leads_186 : decode cX1_leads 186 = .ok (.if_icmp .ne 7, 3) := by decide +kernel
theorem dX1_leads_189 : decode cX1_leads 189 = .ok (.iconst 1, 1) := by decide +kernel
theorem dX1_leads_190 : decode cX1_leads 190 = .ok (.goto 4, 3) := by decide +kernel
theorem dX1_leads_193 : decode cX1_leads 193 = .ok (.iconst 0, 1) := by decide +kernel
theorem dX1_leads_194 : decode cX1_leads 194 = .ok (.ireturn, 1) := by decide +kernel
theorem dX1_leads_195 : decode cX1_leads 195 = .ok (.iload 5, 2) := by decide +kernel
theorem dX1_leads_197 : decode cX1_leads 197 = .ok (.ifCond .eq 33, 3) := by decide +kernel
theorem dX1_leads_200 : decode cX1_leads 200 = .ok (.iload 4, 2) := by decide +kernel
theorem dX1_leads_202 : decode cX1_leads 202 = .ok (.iconst 2, 1) := by decide +kernel
theorem dX1_leads_203 : decode cX1_leads 203 = .ok (.if_icmp .ne 27, 3) := by decide +kernel
theorem dX1_leads_206 : decode cX1_leads 206 = .ok (.aload_n 0, 1) := by decide +kernel
theorem dX1_leads_207 : decode cX1_leads 207 = .ok (.iload_n 3, 1) := by decide +kernel
theorem dX1_leads_208 : decode cX1_leads 208 = .ok (.aload_n 0, 1) := by decide +kernel
theorem dX1_leads_209 : decode cX1_leads 209 = .ok (.getfield 188, 3) := by decide +kernel
theorem dX1_leads_212 : decode cX1_leads 212 = .ok (.iload_n 1, 1) := by decide +kernel
theorem dX1_leads_213 : decode cX1_leads 213 = .ok (.iaload, 1) := by decide +kernel
theorem dX1_leads_214 : decode cX1_leads 214 = .ok (.aload_n 0, 1) := by decide +kernel
theorem dX1_leads_215 : decode cX1_leads 215 = .ok (.getfield 191, 3) := by decide +kernel
theorem dX1_leads_218 : decode cX1_leads 218 = .ok (.iload_n 1, 1) := by decide +kernel
theorem dX1_leads_219 : decode cX1_leads 219 = .ok (.iaload, 1) := by decide +kernel
theorem dX1_leads_220 : decode cX1_leads 220 = .ok (.invokevirtual 588, 3) := by decide +kernel
theorem dX1_leads_223 : decode cX1_leads 223 = .ok (.ifCond .eq 7, 3) := by decide +kernel
theorem dX1_leads_226 : decode cX1_leads 226 = .ok (.iconst 1, 1) := by decide +kernel
theorem dX1_leads_227 : decode cX1_leads 227 = .ok (.goto 4, 3) := by decide +kernel
theorem dX1_leads_230 : decode cX1_leads 230 = .ok (.iconst 0, 1) := by decide +kernel
theorem dX1_leads_231 : decode cX1_leads 231 = .ok (.ireturn, 1) := by decide +kernel
theorem dX1_leads_232 : decode cX1_leads 232 = .ok (.iload 5, 2) := by decide +kernel
theorem dX1_leads_234 : decode cX1_leads 234 = .ok (.ifCond .eq 13, 3) := by decide +kernel
theorem dX1_leads_237 : decode cX1_leads 237 = .ok (.iload 4, 2) := by decide +kernel
theorem dX1_leads_239 : decode cX1_leads 239 = .ok (.iconst 2, 1) := by decide +kernel
theorem dX1_leads_240 : decode cX1_leads 240 = .ok (.if_icmp .ne 7, 3) := by decide +kernel
theorem dX1_leads_243 : decode cX1_leads 243 = .ok (.iconst 1, 1) := by decide +kernel
theorem dX1_leads_244 : decode cX1_leads 244 = .ok (.goto 4, 3) := by decide +kernel
theorem dX1_leads_247 : decode cX1_leads 247 = .ok (.iconst 0, 1) := by decide +kernel
theorem dX1_leads_248 : decode cX1_leads 248 = .ok (.ireturn, 1) := by decide +kernel
def m_leads_41 (σ : MEM) (x1 x2 x3 x4 s0 : Int) : Option zm_O := ck (0 ≤ x1 ∧ x1 < 12) (if (σ 73 x1) = 0 then (if x3 = x2 then (some (1, σ)) else (some (0, σ))) else if (σ 73 x1) = 1 then (ck (0 ≤ ((600 * (σ (-1) 7)) + x2) ∧ ((600 * (σ (-1) 7)) + x2) < 1200) (if (σ 14 ((600 * (σ (-1) 7)) + x2)) = x3 then (some (1, σ)) else (some (0, σ)))) else if (σ 73 x1) = 2 then (if s0 = 0 then (some (0, σ)) else (if x4 = 3 then (some (1, σ)) else (some (0, σ)))) else if (σ 73 x1) = 3 then (if s0 = 0 then (some (0, σ)) else (if x4 = 1 then (ck (0 ≤ x1 ∧ x1 < 12) (ck (0 ≤ x1 ∧ x1 < 12) (bd (m_isCalled σ x3 (σ 75 x1) (σ 76 x1)) (fun r10 σ11 => if r10 = 0 then (some (0, σ11)) else (some (1, σ11)))))) else (some (0, σ)))) else if (σ 73 x1) = 4 then (if s0 = 0 then (some (0, σ)) else (if x4 = 1 then (some (1, σ)) else (some (0, σ)))) else if (σ 73 x1) = 5 then (if s0 = 0 then (some (0, σ)) else (if x4 = 2 then (ck (0 ≤ x1 ∧ x1 < 12) (ck (0 ≤ x1 ∧ x1 < 12) (bd (m_isCalled σ x3 (σ 75 x1) (σ 76 x1)) (fun r17 σ18 => if r17 = 0 then (some (0, σ18)) else (some (1, σ18)))))) else (some (0, σ)))) else (if s0 = 0 then (some (0, σ)) else (if x4 = 2 then (some (1, σ)) else (some (0, σ)))))
theorem w_leads_41 {C : zv_Cx zm_O} {G : zm_G} (h : zv_Ok C cX1_leads RX1) (hc : zm_C C G 6 (Option.some FieldType.boolean) 3 1 25) (σ : MEM) (x1 x2 x3 x4 s0 : Int) (hx1 : inR x1) (hx2 : inR x2) (hx3 : inR x3) (hx4 : inR x4) (hs0 : isB s0) : VV C (m_leads_41 σ x1 x2 x3 x4 s0) σ [(0, .ref (zm_h G)), (1, iv x1), (2, iv x2), (3, iv x3), (4, iv x4)] [iv s0] 41 := by
  have hN : ∀ i, i < 6 → i < zv_n C := fun i q => by rw [hc.2.2.1]; exact q
  unfold m_leads_41
  refine r_istore (lv' := [(5, iv s0), (0, .ref (zm_h G)), (1, iv x1), (2, iv x2), (3, iv x3), (4, iv x4)]) h dX1_leads_41 (hN _ (by decide)) rfl ?_
  refine r_aload_n h 1 dX1_leads_43 rfl rfl ?_
  refine zm_getA h hc 73 (by decide) rfl q1552 rfl dX1_leads_44 ?_
  refine r_iload_n h 2 dX1_leads_47 rfl rfl ?_
  refine zm_ldI h hc 73 73 12 (by decide) rfl rfl rfl (by decide) dX1_leads_48 (fun _ hr1 => ?_)
  refine r_if (fun he2 => ?_) (fun he2 => ?_)
  · refine r_tsIn h 0 88 hr1 he2 dX1_leads_49 (by decide) (by decide) rfl rfl ?_
    refine r_iload_n h 4 dX1_leads_88 rfl rfl ?_
    refine r_iload_n h 3 dX1_leads_89 rfl rfl ?_
    refine r_icmp_ne h hx3 hx2 97 dX1_leads_90 rfl ?_ ?_
    · refine r_iconst h dX1_leads_93 ?_
      refine r_goto h 98 dX1_leads_94 rfl ?_
      exact zm_zret h hc rfl (by decide) dX1_leads_98
    · refine r_iconst h dX1_leads_97 ?_
      exact zm_zret h hc rfl (by decide) dX1_leads_98
  refine r_if (fun he3 => ?_) (fun he3 => ?_)
  · refine r_tsIn h 1 99 hr1 he3 dX1_leads_49 (by decide) (by decide) rfl rfl ?_
    refine r_aload_n h 1 dX1_leads_99 rfl rfl ?_
    refine zm_getA h hc 14 (by decide) rfl q1494 rfl dX1_leads_100 ?_
    refine r_sipush h dX1_leads_103 (by decide) ?_
    refine r_aload_n h 1 dX1_leads_106 rfl rfl ?_
    refine zm_getI h hc 7 7 (by decide) rfl rfl q1487 rfl dX1_leads_107 (fun hr4 => ?_)
    refine r_imul h dX1_leads_110 ?_
    refine r_iload_n h 3 dX1_leads_111 rfl rfl ?_
    refine r_iadd h dX1_leads_112 ?_
    refine zm_ldI h hc 14 14 1200 (by decide) rfl rfl rfl (by decide) dX1_leads_113 (fun _ hr5 => ?_)
    refine r_iload_n h 4 dX1_leads_114 rfl rfl ?_
    refine r_icmp_ne h hr5 hx3 122 dX1_leads_115 rfl ?_ ?_
    · refine r_iconst h dX1_leads_118 ?_
      refine r_goto h 123 dX1_leads_119 rfl ?_
      exact zm_zret h hc rfl (by decide) dX1_leads_123
    · refine r_iconst h dX1_leads_122 ?_
      exact zm_zret h hc rfl (by decide) dX1_leads_123
  refine r_if (fun he6 => ?_) (fun he6 => ?_)
  · refine r_tsIn h 2 124 hr1 he6 dX1_leads_49 (by decide) (by decide) rfl rfl ?_
    refine r_iload h 0 dX1_leads_124 rfl ?_
    refine r_if_eq h hs0.r 139 dX1_leads_126 rfl ?_ ?_
    · refine r_iconst h dX1_leads_139 ?_
      exact zm_zret h hc rfl (by decide) dX1_leads_140
    · refine r_iload h 5 dX1_leads_129 rfl ?_
      refine r_iconst h dX1_leads_131 ?_
      refine r_icmp_ne h hx4 (by decide) 139 dX1_leads_132 rfl ?_ ?_
      · refine r_iconst h dX1_leads_135 ?_
        refine r_goto h 140 dX1_leads_136 rfl ?_
        exact zm_zret h hc rfl (by decide) dX1_leads_140
      · refine r_iconst h dX1_leads_139 ?_
        exact zm_zret h hc rfl (by decide) dX1_leads_140
  refine r_if (fun he7 => ?_) (fun he7 => ?_)
  · refine r_tsIn h 3 141 hr1 he7 dX1_leads_49 (by decide) (by decide) rfl rfl ?_
    refine r_iload h 0 dX1_leads_141 rfl ?_
    refine r_if_eq h hs0.r 176 dX1_leads_143 rfl ?_ ?_
    · refine r_iconst h dX1_leads_176 ?_
      exact zm_zret h hc rfl (by decide) dX1_leads_177
    · refine r_iload h 5 dX1_leads_146 rfl ?_
      refine r_iconst h dX1_leads_148 ?_
      refine r_icmp_ne h hx4 (by decide) 176 dX1_leads_149 rfl ?_ ?_
      · refine r_aload_n h 1 dX1_leads_152 rfl rfl ?_
        refine r_iload_n h 4 dX1_leads_153 rfl rfl ?_
        refine r_aload_n h 1 dX1_leads_154 rfl rfl ?_
        refine zm_getA h hc 75 (by decide) rfl q1554 rfl dX1_leads_155 ?_
        refine r_iload_n h 2 dX1_leads_158 rfl rfl ?_
        refine zm_ldI h hc 75 75 12 (by decide) rfl rfl rfl (by decide) dX1_leads_159 (fun _ hr8 => ?_)
        refine r_aload_n h 1 dX1_leads_160 rfl rfl ?_
        refine zm_getA h hc 76 (by decide) rfl q1555 rfl dX1_leads_161 ?_
        refine r_iload_n h 2 dX1_leads_164 rfl rfl ?_
        refine zm_ldI h hc 76 76 12 (by decide) rfl rfl rfl (by decide) dX1_leads_165 (fun _ hr9 => ?_)
        refine zm_cVz h hc (n := 3) (As := [iv x3, iv (σ 75 x1), iv (σ 76 x1)]) (fun o1 e1 => w_isCalled hc.1 _ x3 (σ 75 x1) (σ 76 x1) hx3 hr8 hr9 o1 e1) q2093 q2095 qs115 q136 q2096 (by decide +kernel) ⟨by decide, by decide⟩ rfl (Nat.le_of_ble_eq_true rfl) rfl dX1_leads_166 (fun r10 σ11 hr12 => ?_)
        refine r_if_eq h hr12.r 176 dX1_leads_169 rfl ?_ ?_
        · refine r_iconst h dX1_leads_176 ?_
          exact zm_zret h hc rfl (by decide) dX1_leads_177
        · refine r_iconst h dX1_leads_172 ?_
          refine r_goto h 177 dX1_leads_173 rfl ?_
          exact zm_zret h hc rfl (by decide) dX1_leads_177
      · refine r_iconst h dX1_leads_176 ?_
        exact zm_zret h hc rfl (by decide) dX1_leads_177
  refine r_if (fun he13 => ?_) (fun he13 => ?_)
  · refine r_tsIn h 4 178 hr1 he13 dX1_leads_49 (by decide) (by decide) rfl rfl ?_
    refine r_iload h 0 dX1_leads_178 rfl ?_
    refine r_if_eq h hs0.r 193 dX1_leads_180 rfl ?_ ?_
    · refine r_iconst h dX1_leads_193 ?_
      exact zm_zret h hc rfl (by decide) dX1_leads_194
    · refine r_iload h 5 dX1_leads_183 rfl ?_
      refine r_iconst h dX1_leads_185 ?_
      refine r_icmp_ne h hx4 (by decide) 193 dX1_leads_186 rfl ?_ ?_
      · refine r_iconst h dX1_leads_189 ?_
        refine r_goto h 194 dX1_leads_190 rfl ?_
        exact zm_zret h hc rfl (by decide) dX1_leads_194
      · refine r_iconst h dX1_leads_193 ?_
        exact zm_zret h hc rfl (by decide) dX1_leads_194
  refine r_if (fun he14 => ?_) (fun he14 => ?_)
  · refine r_tsIn h 5 195 hr1 he14 dX1_leads_49 (by decide) (by decide) rfl rfl ?_
    refine r_iload h 0 dX1_leads_195 rfl ?_
    refine r_if_eq h hs0.r 230 dX1_leads_197 rfl ?_ ?_
    · refine r_iconst h dX1_leads_230 ?_
      exact zm_zret h hc rfl (by decide) dX1_leads_231
    · refine r_iload h 5 dX1_leads_200 rfl ?_
      refine r_iconst h dX1_leads_202 ?_
      refine r_icmp_ne h hx4 (by decide) 230 dX1_leads_203 rfl ?_ ?_
      · refine r_aload_n h 1 dX1_leads_206 rfl rfl ?_
        refine r_iload_n h 4 dX1_leads_207 rfl rfl ?_
        refine r_aload_n h 1 dX1_leads_208 rfl rfl ?_
        refine zm_getA h hc 75 (by decide) rfl q1554 rfl dX1_leads_209 ?_
        refine r_iload_n h 2 dX1_leads_212 rfl rfl ?_
        refine zm_ldI h hc 75 75 12 (by decide) rfl rfl rfl (by decide) dX1_leads_213 (fun _ hr15 => ?_)
        refine r_aload_n h 1 dX1_leads_214 rfl rfl ?_
        refine zm_getA h hc 76 (by decide) rfl q1555 rfl dX1_leads_215 ?_
        refine r_iload_n h 2 dX1_leads_218 rfl rfl ?_
        refine zm_ldI h hc 76 76 12 (by decide) rfl rfl rfl (by decide) dX1_leads_219 (fun _ hr16 => ?_)
        refine zm_cVz h hc (n := 3) (As := [iv x3, iv (σ 75 x1), iv (σ 76 x1)]) (fun o1 e1 => w_isCalled hc.1 _ x3 (σ 75 x1) (σ 76 x1) hx3 hr15 hr16 o1 e1) q2093 q2095 qs115 q136 q2096 (by decide +kernel) ⟨by decide, by decide⟩ rfl (Nat.le_of_ble_eq_true rfl) rfl dX1_leads_220 (fun r17 σ18 hr19 => ?_)
        refine r_if_eq h hr19.r 230 dX1_leads_223 rfl ?_ ?_
        · refine r_iconst h dX1_leads_230 ?_
          exact zm_zret h hc rfl (by decide) dX1_leads_231
        · refine r_iconst h dX1_leads_226 ?_
          refine r_goto h 231 dX1_leads_227 rfl ?_
          exact zm_zret h hc rfl (by decide) dX1_leads_231
      · refine r_iconst h dX1_leads_230 ?_
        exact zm_zret h hc rfl (by decide) dX1_leads_231
  refine r_tsOut h 232 hr1 (by omega) dX1_leads_49 rfl ?_
  refine r_iload h 0 dX1_leads_232 rfl ?_
  refine r_if_eq h hs0.r 247 dX1_leads_234 rfl ?_ ?_
  · refine r_iconst h dX1_leads_247 ?_
    exact zm_zret h hc rfl (by decide) dX1_leads_248
  · refine r_iload h 5 dX1_leads_237 rfl ?_
    refine r_iconst h dX1_leads_239 ?_
    refine r_icmp_ne h hx4 (by decide) 247 dX1_leads_240 rfl ?_ ?_
    · refine r_iconst h dX1_leads_243 ?_
      refine r_goto h 248 dX1_leads_244 rfl ?_
      exact zm_zret h hc rfl (by decide) dX1_leads_248
    · refine r_iconst h dX1_leads_247 ?_
      exact zm_zret h hc rfl (by decide) dX1_leads_248
def m_leads (σ : MEM) (a0 a1 a2 : Int) : Option zm_O := ck (0 ≤ ((600 * (σ (-1) 7)) + a2) ∧ ((600 * (σ (-1) 7)) + a2) < 1200) (ck (0 ≤ ((600 * (σ (-1) 7)) + a2) ∧ ((600 * (σ (-1) 7)) + a2) < 1200) (if (σ 14 ((600 * (σ (-1) 7)) + a2)) = a1 then (m_leads_41 σ a0 a1 a2 (σ 13 ((600 * (σ (-1) 7)) + a2)) 1) else (m_leads_41 σ a0 a1 a2 (σ 13 ((600 * (σ (-1) 7)) + a2)) 0)))
theorem w_leads {G : zm_G} (hD : zm_D G) (σ : MEM) (a0 a1 a2 : Int) (ha0 : inR a0) (ha1 : inR a1) (ha2 : inR a2) (o : zm_O) (hd : m_leads σ a0 a1 a2 = some o) : zm_Met G yX1_leads cX1_leads 6 (Option.some FieldType.boolean) 3 1 25 σ [.ref (zm_h G), iv a0, iv a1, iv a2] o := by
  refine zm_intro hD hd (by decide) rfl (Nat.le_of_ble_eq_true rfl) rfl (fun C h hc => ?_)
  have hN : ∀ i, i < 6 → i < zv_n C := fun i q => by rw [hc.2.2.1]; exact q
  unfold m_leads
  refine r_aload_n h 0 dX1_leads_0 rfl rfl ?_
  refine zm_getA h hc 13 (by decide) rfl q1493 rfl dX1_leads_1 ?_
  refine r_sipush h dX1_leads_4 (by decide) ?_
  refine r_aload_n h 0 dX1_leads_7 rfl rfl ?_
  refine zm_getI h hc 7 7 (by decide) rfl rfl q1487 rfl dX1_leads_8 (fun hr1 => ?_)
  refine r_imul h dX1_leads_11 ?_
  refine r_iload_n h 3 dX1_leads_12 rfl rfl ?_
  refine r_iadd h dX1_leads_13 ?_
  refine zm_ldI h hc 13 13 1200 (by decide) rfl rfl rfl (by decide) dX1_leads_14 (fun _ hr2 => ?_)
  refine r_istore (lv' := [(4, iv (σ 13 ((600 * (σ (-1) 7)) + a2))), (0, .ref (zm_h G)), (1, iv a0), (2, iv a1), (3, iv a2)]) h dX1_leads_15 (hN _ (by decide)) rfl ?_
  refine r_aload_n h 1 dX1_leads_17 rfl rfl ?_
  refine zm_getA h hc 14 (by decide) rfl q1494 rfl dX1_leads_18 ?_
  refine r_sipush h dX1_leads_21 (by decide) ?_
  refine r_aload_n h 1 dX1_leads_24 rfl rfl ?_
  refine zm_getI h hc 7 7 (by decide) rfl rfl q1487 rfl dX1_leads_25 (fun hr3 => ?_)
  refine r_imul h dX1_leads_28 ?_
  refine r_iload_n h 4 dX1_leads_29 rfl rfl ?_
  refine r_iadd h dX1_leads_30 ?_
  refine zm_ldI h hc 14 14 1200 (by decide) rfl rfl rfl (by decide) dX1_leads_31 (fun _ hr4 => ?_)
  refine r_iload_n h 3 dX1_leads_32 rfl rfl ?_
  refine r_icmp_ne h hr4 ha1 40 dX1_leads_33 rfl ?_ ?_
  · refine r_iconst h dX1_leads_36 ?_
    refine r_goto h 41 dX1_leads_37 rfl ?_
    exact r_lv [1, 2, 3, 4, 0] rfl (w_leads_41 h hc _ a0 a1 a2 (σ 13 ((600 * (σ (-1) 7)) + a2)) 1 ha0 ha1 ha2 hr2 (by decide))
  · refine r_iconst h dX1_leads_40 ?_
    exact r_lv [1, 2, 3, 4, 0] rfl (w_leads_41 h hc _ a0 a1 a2 (σ 13 ((600 * (σ (-1) 7)) + a2)) 0 ha0 ha1 ha2 hr2 (by decide))
theorem dX1_stringOf_0 : decode cX1_stringOf 0 = .ok (.iconst 0, 1) := by decide +kernel
theorem dX1_stringOf_1 : decode cX1_stringOf 1 = .ok (.istore_n 2, 1) := by decide +kernel
theorem dX1_stringOf_2 : decode cX1_stringOf 2 = .ok (.iload_n 1, 1) := by decide +kernel
theorem dX1_stringOf_3 : decode cX1_stringOf 3 = .ok (.istore_n 3, 1) := by decide +kernel
theorem dX1_stringOf_4 : decode cX1_stringOf 4 = .ok (.iload_n 3, 1) := by decide +kernel
theorem dX1_stringOf_5 : decode cX1_stringOf 5 = .ok (.aload_n 0, 1) := by decide +kernel
theorem dX1_stringOf_6 : decode cX1_stringOf 6 = .ok (.getfield 27, 3) := by decide +kernel
theorem dX1_stringOf_9 : decode cX1_stringOf 9 = .ok (.aload_n 0, 1) := by decide +kernel
theorem dX1_stringOf_10 : decode cX1_stringOf 10 = .ok (.getfield 482, 3) := by decide +kernel
theorem dX1_stringOf_13 : decode cX1_stringOf 13 = .ok (.iaload, 1) := by decide +kernel
theorem dX1_stringOf_14 : decode cX1_stringOf 14 = .ok (.if_icmp .ge 90, 3) := by decide +kernel
theorem dX1_stringOf_17 : decode cX1_stringOf 17 = .ok (.sipush 600, 3) := by decide +kernel
theorem dX1_stringOf_20 : decode cX1_stringOf 20 = .ok (.aload_n 0, 1) := by decide +kernel
theorem dX1_stringOf_21 : decode cX1_stringOf 21 = .ok (.getfield 482, 3) := by decide +kernel
theorem dX1_stringOf_24 : decode cX1_stringOf 24 = .ok (.imul, 1) := by decide +kernel
theorem dX1_stringOf_25 : decode cX1_stringOf 25 = .ok (.iload_n 3, 1) := by decide +kernel
theorem dX1_stringOf_26 : decode cX1_stringOf 26 = .ok (.iadd, 1) := by decide +kernel
theorem dX1_stringOf_27 : decode cX1_stringOf 27 = .ok (.istore 4, 2) := by decide +kernel
theorem dX1_stringOf_29 : decode cX1_stringOf 29 = .ok (.iload_n 2, 1) := by decide +kernel
theorem dX1_stringOf_30 : decode cX1_stringOf 30 = .ok (.iload_n 3, 1) := by decide +kernel
theorem dX1_stringOf_31 : decode cX1_stringOf 31 = .ok (.iload_n 1, 1) := by decide +kernel
theorem dX1_stringOf_32 : decode cX1_stringOf 32 = .ok (.if_icmp .ne 14, 3) := by decide +kernel
theorem dX1_stringOf_35 : decode cX1_stringOf 35 = .ok (.aload_n 0, 1) := by decide +kernel
theorem dX1_stringOf_36 : decode cX1_stringOf 36 = .ok (.getfield 31, 3) := by decide +kernel
theorem dX1_stringOf_39 : decode cX1_stringOf 39 = .ok (.iload 4, 2) := by decide +kernel
theorem dX1_stringOf_41 : decode cX1_stringOf 41 = .ok (.iaload, 1) := by decide +kernel
theorem dX1_stringOf_42 : decode cX1_stringOf 42 = .ok (.iconst 2, 1) := by decide +kernel
theorem dX1_stringOf_43 : decode cX1_stringOf 43 = .ok (.if_icmp .ge 42, 3) := by decide +kernel
theorem dX1_stringOf_46 : decode cX1_stringOf 46 = .ok (.aload_n 0, 1) := by decide +kernel
theorem dX1_stringOf_47 : decode cX1_stringOf 47 = .ok (.getfield 31, 3) := by decide +kernel
theorem dX1_stringOf_50 : decode cX1_stringOf 50 = .ok (.iload 4, 2) := by decide +kernel
theorem dX1_stringOf_52 : decode cX1_stringOf 52 = .ok (.iaload, 1) := by decide +kernel
theorem dX1_stringOf_53 : decode cX1_stringOf 53 = .ok (.iconst 3, 1) := by decide +kernel
theorem dX1_stringOf_54 : decode cX1_stringOf 54 = .ok (.if_icmp .ne 41, 3) := by decide +kernel
theorem dX1_stringOf_57 : decode cX1_stringOf 57 = .ok (.aload_n 0, 1) := by decide +kernel
theorem dX1_stringOf_58 : decode cX1_stringOf 58 = .ok (.getfield 31, 3) := by decide +kernel
theorem dX1_stringOf_61 : decode cX1_stringOf 61 = .ok (.sipush 600, 3) := by decide +kernel
theorem dX1_stringOf_64 : decode cX1_stringOf 64 = .ok (.aload_n 0, 1) := by decide +kernel
theorem dX1_stringOf_65 : decode cX1_stringOf 65 = .ok (.getfield 482, 3) := by decide +kernel
theorem dX1_stringOf_68 : decode cX1_stringOf 68 = .ok (.imul, 1) := by decide +kernel
theorem dX1_stringOf_69 : decode cX1_stringOf 69 = .ok (.iload_n 1, 1) := by decide +kernel
theorem dX1_stringOf_70 : decode cX1_stringOf 70 = .ok (.iadd, 1) := by decide +kernel
theorem dX1_stringOf_71 : decode cX1_stringOf 71 = .ok (.iaload, 1) := by decide +kernel
theorem dX1_stringOf_72 : decode cX1_stringOf 72 = .ok (.iconst 2, 1) := by decide +kernel
theorem dX1_stringOf_73 : decode cX1_stringOf 73 = .ok (.if_icmp .ge 22, 3) := by decide +kernel
theorem dX1_stringOf_76 : decode cX1_stringOf 76 = .ok (.aload_n 0, 1) := by decide +kernel
theorem dX1_stringOf_77 : decode cX1_stringOf 77 = .ok (.iload_n 3, 1) := by decide +kernel
theorem dX1_stringOf_78 : decode cX1_stringOf 78 = .ok (.iload_n 1, 1) := by decide +kernel
theorem dX1_stringOf_79 : decode cX1_stringOf 79 = .ok (.invokevirtual 603, 3) := by decide +kernel
theorem dX1_stringOf_82 : decode cX1_stringOf 82 = .ok (.ifCond .eq 13, 3) := by decide +kernel
theorem dX1_stringOf_85 : decode cX1_stringOf 85 = .ok (.aload_n 0, 1) := by decide +kernel
theorem dX1_stringOf_86 : decode cX1_stringOf 86 = .ok (.getfield 46, 3) := by decide +kernel
theorem dX1_stringOf_89 : decode cX1_stringOf 89 = .ok (.iload 4, 2) := by decide +kernel
theorem dX1_stringOf_91 : decode cX1_stringOf 91 = .ok (.iaload, 1) := by decide +kernel
theorem dX1_stringOf_92 : decode cX1_stringOf 92 = .ok (.goto 4, 3) := by decide +kernel
theorem dX1_stringOf_95 : decode cX1_stringOf 95 = .ok (.iconst 0, 1) := by decide +kernel
theorem dX1_stringOf_96 : decode cX1_stringOf 96 = .ok (.iadd, 1) := by decide +kernel
theorem dX1_stringOf_97 : decode cX1_stringOf 97 = .ok (.istore_n 2, 1) := by decide +kernel
theorem dX1_stringOf_98 : decode cX1_stringOf 98 = .ok (.iinc 3 1, 3) := by decide +kernel
theorem dX1_stringOf_101 : decode cX1_stringOf 101 = .ok (.goto (-97), 3) := by decide +kernel
theorem dX1_stringOf_104 : decode cX1_stringOf 104 = .ok (.iload_n 2, 1) := by decide +kernel
theorem dX1_stringOf_105 : decode cX1_stringOf 105 = .ok (.ireturn, 1) := by decide +kernel
def m_stringOf_85 (lp4 : MEM → Int → Int → Int → Option zm_O) (σ : MEM) (x1 x3 x4 s0 : Int) : Option zm_O := ck (0 ≤ x4 ∧ x4 < 1200) (ck (inR (s0 + (σ 18 x4))) (ck (inR (x3 + 1)) (lp4 σ x1 (s0 + (σ 18 x4)) (x3 + 1))))
theorem w_stringOf_85 {C : zv_Cx zm_O} {G : zm_G} (h : zv_Ok C cX1_stringOf RX1) (hc : zm_C C G 5 (Option.some FieldType.int) 1 1 24) (lp4 : MEM → Int → Int → Int → Option zm_O) (hlp4 : ∀ (σ : MEM) (x1 x2 x3 : Int), inR x1 → inR x2 → inR x3 → VV C (lp4 σ x1 x2 x3) σ [(0, .ref (zm_h G)), (1, iv x1), (2, iv x2), (3, iv x3)] [] 4) (σ : MEM) (x1 x3 x4 s0 : Int) (hx1 : inR x1) (hx3 : inR x3) (hx4 : inR x4) (hs0 : inR s0) : VV C (m_stringOf_85 lp4 σ x1 x3 x4 s0) σ [(0, .ref (zm_h G)), (1, iv x1), (3, iv x3), (4, iv x4)] [iv s0] 85 := by
  have hN : ∀ i, i < 5 → i < zv_n C := fun i q => by rw [hc.2.2.1]; exact q
  unfold m_stringOf_85
  refine r_aload_n h 0 dX1_stringOf_85 rfl rfl ?_
  refine zm_getA h hc 18 (by decide) rfl q1498 rfl dX1_stringOf_86 ?_
  refine r_iload h 3 dX1_stringOf_89 rfl ?_
  refine zm_ldI h hc 18 18 1200 (by decide) rfl rfl rfl (by decide) dX1_stringOf_91 (fun _ hr1 => ?_)
  refine r_goto h 96 dX1_stringOf_92 rfl ?_
  refine r_iadd h dX1_stringOf_96 ?_
  refine r_istore_n (lv' := [(2, iv (s0 + (σ 18 x4))), (0, .ref (zm_h G)), (1, iv x1), (3, iv x3), (4, iv x4)]) h dX1_stringOf_97 rfl (hN _ (by decide)) rfl ?_
  refine r_iinc (lv' := [(3, iv (x3 + 1)), (2, iv (s0 + (σ 18 x4))), (0, .ref (zm_h G)), (1, iv x1), (4, iv x4)]) h 3 dX1_stringOf_98 rfl (hN _ (by decide)) rfl ?_
  refine r_goto h 4 dX1_stringOf_101 rfl ?_
  refine r_ck (fun hk2 => ?_)
  refine r_ck (fun hk3 => ?_)
  exact r_lv [2, 3, 1, 0] rfl (hlp4 _ x1 (s0 + (σ 18 x4)) (x3 + 1) hx1 hk2 hk3)
def m_stringOf_46 (lp4 : MEM → Int → Int → Int → Option zm_O) (σ : MEM) (x1 x3 x4 s0 : Int) : Option zm_O := ck (0 ≤ x4 ∧ x4 < 1200) (if (σ 13 x4) = 3 then (ck (0 ≤ ((600 * (σ (-1) 7)) + x1) ∧ ((600 * (σ (-1) 7)) + x1) < 1200) (if 2 ≤ (σ 13 ((600 * (σ (-1) 7)) + x1)) then (ck (inR (s0 + 0)) (ck (inR (x3 + 1)) (lp4 σ x1 (s0 + 0) (x3 + 1)))) else (bd (m_isWithin σ x3 x1) (fun r6 σ7 => if r6 = 0 then (ck (inR (s0 + 0)) (ck (inR (x3 + 1)) (lp4 σ7 x1 (s0 + 0) (x3 + 1)))) else (m_stringOf_85 lp4 σ7 x1 x3 x4 s0))))) else (ck (inR (s0 + 0)) (ck (inR (x3 + 1)) (lp4 σ x1 (s0 + 0) (x3 + 1)))))
theorem w_stringOf_46 {C : zv_Cx zm_O} {G : zm_G} (h : zv_Ok C cX1_stringOf RX1) (hc : zm_C C G 5 (Option.some FieldType.int) 1 1 24) (lp4 : MEM → Int → Int → Int → Option zm_O) (hlp4 : ∀ (σ : MEM) (x1 x2 x3 : Int), inR x1 → inR x2 → inR x3 → VV C (lp4 σ x1 x2 x3) σ [(0, .ref (zm_h G)), (1, iv x1), (2, iv x2), (3, iv x3)] [] 4) (σ : MEM) (x1 x3 x4 s0 : Int) (hx1 : inR x1) (hx3 : inR x3) (hx4 : inR x4) (hs0 : inR s0) : VV C (m_stringOf_46 lp4 σ x1 x3 x4 s0) σ [(0, .ref (zm_h G)), (1, iv x1), (3, iv x3), (4, iv x4)] [iv s0] 46 := by
  have hN : ∀ i, i < 5 → i < zv_n C := fun i q => by rw [hc.2.2.1]; exact q
  unfold m_stringOf_46
  refine r_aload_n h 0 dX1_stringOf_46 rfl rfl ?_
  refine zm_getA h hc 13 (by decide) rfl q1493 rfl dX1_stringOf_47 ?_
  refine r_iload h 3 dX1_stringOf_50 rfl ?_
  refine zm_ldI h hc 13 13 1200 (by decide) rfl rfl rfl (by decide) dX1_stringOf_52 (fun _ hr1 => ?_)
  refine r_iconst h dX1_stringOf_53 ?_
  refine r_icmp_ne h hr1 (by decide) 95 dX1_stringOf_54 rfl ?_ ?_
  · refine r_aload_n h 0 dX1_stringOf_57 rfl rfl ?_
    refine zm_getA h hc 13 (by decide) rfl q1493 rfl dX1_stringOf_58 ?_
    refine r_sipush h dX1_stringOf_61 (by decide) ?_
    refine r_aload_n h 0 dX1_stringOf_64 rfl rfl ?_
    refine zm_getI h hc 7 7 (by decide) rfl rfl q1487 rfl dX1_stringOf_65 (fun hr2 => ?_)
    refine r_imul h dX1_stringOf_68 ?_
    refine r_iload_n h 1 dX1_stringOf_69 rfl rfl ?_
    refine r_iadd h dX1_stringOf_70 ?_
    refine zm_ldI h hc 13 13 1200 (by decide) rfl rfl rfl (by decide) dX1_stringOf_71 (fun _ hr3 => ?_)
    refine r_iconst h dX1_stringOf_72 ?_
    refine r_icmp_ge h hr3 (by decide) 95 dX1_stringOf_73 rfl ?_ ?_
    · refine r_iconst h dX1_stringOf_95 ?_
      refine r_iadd h dX1_stringOf_96 ?_
      refine r_istore_n (lv' := [(2, iv (s0 + 0)), (0, .ref (zm_h G)), (1, iv x1), (3, iv x3), (4, iv x4)]) h dX1_stringOf_97 rfl (hN _ (by decide)) rfl ?_
      refine r_iinc (lv' := [(3, iv (x3 + 1)), (2, iv (s0 + 0)), (0, .ref (zm_h G)), (1, iv x1), (4, iv x4)]) h 3 dX1_stringOf_98 rfl (hN _ (by decide)) rfl ?_
      refine r_goto h 4 dX1_stringOf_101 rfl ?_
      refine r_ck (fun hk4 => ?_)
      refine r_ck (fun hk5 => ?_)
      exact r_lv [2, 3, 1, 0] rfl (hlp4 _ x1 (s0 + 0) (x3 + 1) hx1 hk4 hk5)
    · refine r_aload_n h 0 dX1_stringOf_76 rfl rfl ?_
      refine r_iload_n h 2 dX1_stringOf_77 rfl rfl ?_
      refine r_iload_n h 1 dX1_stringOf_78 rfl rfl ?_
      refine zm_cVz h hc (n := 2) (As := [iv x3, iv x1]) (fun o1 e1 => w_isWithin hc.1 _ x3 x1 hx3 hx1 o1 e1) q2085 q2087 qs113 q136 q2088 (by decide +kernel) ⟨by decide, by decide⟩ rfl (Nat.le_of_ble_eq_true rfl) rfl dX1_stringOf_79 (fun r6 σ7 hr8 => ?_)
      refine r_if_eq h hr8.r 95 dX1_stringOf_82 rfl ?_ ?_
      · refine r_iconst h dX1_stringOf_95 ?_
        refine r_iadd h dX1_stringOf_96 ?_
        refine r_istore_n (lv' := [(2, iv (s0 + 0)), (0, .ref (zm_h G)), (1, iv x1), (3, iv x3), (4, iv x4)]) h dX1_stringOf_97 rfl (hN _ (by decide)) rfl ?_
        refine r_iinc (lv' := [(3, iv (x3 + 1)), (2, iv (s0 + 0)), (0, .ref (zm_h G)), (1, iv x1), (4, iv x4)]) h 3 dX1_stringOf_98 rfl (hN _ (by decide)) rfl ?_
        refine r_goto h 4 dX1_stringOf_101 rfl ?_
        refine r_ck (fun hk9 => ?_)
        refine r_ck (fun hk10 => ?_)
        exact r_lv [2, 3, 1, 0] rfl (hlp4 _ x1 (s0 + 0) (x3 + 1) hx1 hk9 hk10)
      · exact r_lv [0, 1, 2, 3] rfl (w_stringOf_85 h hc lp4 hlp4 _ x1 x3 x4 s0 hx1 hx3 hx4 hs0)
  · refine r_iconst h dX1_stringOf_95 ?_
    refine r_iadd h dX1_stringOf_96 ?_
    refine r_istore_n (lv' := [(2, iv (s0 + 0)), (0, .ref (zm_h G)), (1, iv x1), (3, iv x3), (4, iv x4)]) h dX1_stringOf_97 rfl (hN _ (by decide)) rfl ?_
    refine r_iinc (lv' := [(3, iv (x3 + 1)), (2, iv (s0 + 0)), (0, .ref (zm_h G)), (1, iv x1), (4, iv x4)]) h 3 dX1_stringOf_98 rfl (hN _ (by decide)) rfl ?_
    refine r_goto h 4 dX1_stringOf_101 rfl ?_
    refine r_ck (fun hk11 => ?_)
    refine r_ck (fun hk12 => ?_)
    exact r_lv [2, 3, 1, 0] rfl (hlp4 _ x1 (s0 + 0) (x3 + 1) hx1 hk11 hk12)
def m_stringOf_4 : Nat → MEM → Int → Int → Int → Option zm_O
  | 0, _, _, _, _ => none
  | n + 1, σ, x1, x2, x3 => ck (0 ≤ (σ (-1) 7) ∧ (σ (-1) 7) < 2) (if (σ 12 (σ (-1) 7)) ≤ x3 then (some (x2, σ)) else (if x3 = x1 then (ck (0 ≤ ((600 * (σ (-1) 7)) + x3) ∧ ((600 * (σ (-1) 7)) + x3) < 1200) (if 2 ≤ (σ 13 ((600 * (σ (-1) 7)) + x3)) then (ck (inR ((600 * (σ (-1) 7)) + x3)) (m_stringOf_85 (m_stringOf_4 n) σ x1 x3 ((600 * (σ (-1) 7)) + x3) x2)) else (ck (inR ((600 * (σ (-1) 7)) + x3)) (m_stringOf_46 (m_stringOf_4 n) σ x1 x3 ((600 * (σ (-1) 7)) + x3) x2)))) else (ck (inR ((600 * (σ (-1) 7)) + x3)) (m_stringOf_46 (m_stringOf_4 n) σ x1 x3 ((600 * (σ (-1) 7)) + x3) x2))))
theorem w_stringOf_4 {C : zv_Cx zm_O} {G : zm_G} (h : zv_Ok C cX1_stringOf RX1) (hc : zm_C C G 5 (Option.some FieldType.int) 1 1 24) : ∀ (n : Nat) (σ : MEM) (x1 x2 x3 : Int), inR x1 → inR x2 → inR x3 → VV C (m_stringOf_4 n σ x1 x2 x3) σ [(0, .ref (zm_h G)), (1, iv x1), (2, iv x2), (3, iv x3)] [] 4 := by
  have hN : ∀ i, i < 5 → i < zv_n C := fun i q => by rw [hc.2.2.1]; exact q
  intro n
  induction n with
  | zero => intros; exact r_none
  | succ n ih =>
    intro σ x1 x2 x3 hx1 hx2 hx3
    rw [m_stringOf_4]
    refine r_iload_n h 3 dX1_stringOf_4 rfl rfl ?_
    refine r_aload_n h 0 dX1_stringOf_5 rfl rfl ?_
    refine zm_getA h hc 12 (by decide) rfl q1492 rfl dX1_stringOf_6 ?_
    refine r_aload_n h 0 dX1_stringOf_9 rfl rfl ?_
    refine zm_getI h hc 7 7 (by decide) rfl rfl q1487 rfl dX1_stringOf_10 (fun hr1 => ?_)
    refine zm_ldI h hc 12 12 2 (by decide) rfl rfl rfl (by decide) dX1_stringOf_13 (fun _ hr2 => ?_)
    refine r_icmp_ge h hx3 hr2 104 dX1_stringOf_14 rfl ?_ ?_
    · refine r_iload_n h 2 dX1_stringOf_104 rfl rfl ?_
      exact zm_iret h hc rfl hx2 dX1_stringOf_105
    · refine r_sipush h dX1_stringOf_17 (by decide) ?_
      refine r_aload_n h 0 dX1_stringOf_20 rfl rfl ?_
      refine zm_getI h hc 7 7 (by decide) rfl rfl q1487 rfl dX1_stringOf_21 (fun hr3 => ?_)
      refine r_imul h dX1_stringOf_24 ?_
      refine r_iload_n h 3 dX1_stringOf_25 rfl rfl ?_
      refine r_iadd h dX1_stringOf_26 ?_
      refine r_istore (lv' := [(4, iv ((600 * (σ (-1) 7)) + x3)), (0, .ref (zm_h G)), (1, iv x1), (2, iv x2), (3, iv x3)]) h dX1_stringOf_27 (hN _ (by decide)) rfl ?_
      refine r_iload_n h 3 dX1_stringOf_29 rfl rfl ?_
      refine r_iload_n h 4 dX1_stringOf_30 rfl rfl ?_
      refine r_iload_n h 2 dX1_stringOf_31 rfl rfl ?_
      refine r_icmp_ne h hx3 hx1 46 dX1_stringOf_32 rfl ?_ ?_
      · refine r_aload_n h 1 dX1_stringOf_35 rfl rfl ?_
        refine zm_getA h hc 13 (by decide) rfl q1493 rfl dX1_stringOf_36 ?_
        refine r_iload h 0 dX1_stringOf_39 rfl ?_
        refine zm_ldI h hc 13 13 1200 (by decide) rfl rfl rfl (by decide) dX1_stringOf_41 (fun _ hr4 => ?_)
        refine r_iconst h dX1_stringOf_42 ?_
        refine r_icmp_ge h hr4 (by decide) 85 dX1_stringOf_43 rfl ?_ ?_
        · refine r_ck (fun hk5 => ?_)
          exact r_lv [1, 2, 4, 0] rfl (w_stringOf_85 h hc (m_stringOf_4 n) ih _ x1 x3 ((600 * (σ (-1) 7)) + x3) x2 hx1 hx3 hk5 hx2)
        · refine r_ck (fun hk6 => ?_)
          exact r_lv [1, 2, 4, 0] rfl (w_stringOf_46 h hc (m_stringOf_4 n) ih _ x1 x3 ((600 * (σ (-1) 7)) + x3) x2 hx1 hx3 hk6 hx2)
      · refine r_ck (fun hk7 => ?_)
        exact r_lv [1, 2, 4, 0] rfl (w_stringOf_46 h hc (m_stringOf_4 n) ih _ x1 x3 ((600 * (σ (-1) 7)) + x3) x2 hx1 hx3 hk7 hx2)
def m_stringOf (σ : MEM) (a0 : Int) : Option zm_O := m_stringOf_4 zF σ a0 0 a0
theorem w_stringOf {G : zm_G} (hD : zm_D G) (σ : MEM) (a0 : Int) (ha0 : inR a0) (o : zm_O) (hd : m_stringOf σ a0 = some o) : zm_Met G yX1_stringOf cX1_stringOf 5 (Option.some FieldType.int) 1 1 24 σ [.ref (zm_h G), iv a0] o := by
  refine zm_intro hD hd (by decide) rfl (Nat.le_of_ble_eq_true rfl) rfl (fun C h hc => ?_)
  have hN : ∀ i, i < 5 → i < zv_n C := fun i q => by rw [hc.2.2.1]; exact q
  unfold m_stringOf
  refine r_iconst h dX1_stringOf_0 ?_
  refine r_istore_n (lv' := [(2, iv 0), (0, .ref (zm_h G)), (1, iv a0)]) h dX1_stringOf_1 rfl (hN _ (by decide)) rfl ?_
  refine r_iload_n h 2 dX1_stringOf_2 rfl rfl ?_
  refine r_istore_n (lv' := [(3, iv a0), (2, iv 0), (0, .ref (zm_h G)), (1, iv a0)]) h dX1_stringOf_3 rfl (hN _ (by decide)) rfl ?_
  exact r_lv [2, 3, 1, 0] rfl (w_stringOf_4 h hc zF _ a0 0 a0 ha0 (by decide) ha0)
theorem dX1_stringAt_0 : decode cX1_stringAt 0 = .ok (.iload_n 2, 1) := by decide +kernel
theorem dX1_stringAt_1 : decode cX1_stringAt 1 = .ok (.istore_n 3, 1) := by decide +kernel
theorem dX1_stringAt_2 : decode cX1_stringAt 2 = .ok (.iload_n 1, 1) := by decide +kernel
theorem dX1_stringAt_3 : decode cX1_stringAt 3 = .ok (.istore 4, 2) := by decide +kernel
theorem dX1_stringAt_5 : decode cX1_stringAt 5 = .ok (.iload 4, 2) := by decide +kernel
theorem dX1_stringAt_7 : decode cX1_stringAt 7 = .ok (.aload_n 0, 1) := by decide +kernel
theorem dX1_stringAt_8 : decode cX1_stringAt 8 = .ok (.getfield 27, 3) := by decide +kernel
theorem dX1_stringAt_11 : decode cX1_stringAt 11 = .ok (.aload_n 0, 1) := by decide +kernel
theorem dX1_stringAt_12 : decode cX1_stringAt 12 = .ok (.getfield 482, 3) := by decide +kernel
theorem dX1_stringAt_15 : decode cX1_stringAt 15 = .ok (.iaload, 1) := by decide +kernel
theorem dX1_stringAt_16 : decode cX1_stringAt 16 = .ok (.if_icmp .ge 144, 3) := by decide +kernel
theorem dX1_stringAt_19 : decode cX1_stringAt 19 = .ok (.iload_n 2, 1) := by decide +kernel
theorem dX1_stringAt_20 : decode cX1_stringAt 20 = .ok (.ifCond .lt 140, 3) := by decide +kernel
theorem dX1_stringAt_23 : decode cX1_stringAt 23 = .ok (.sipush 600, 3) := by decide +kernel
theorem dX1_stringAt_26 : decode cX1_stringAt 26 = .ok (.aload_n 0, 1) := by decide +kernel
theorem dX1_stringAt_27 : decode cX1_stringAt 27 = .ok (.getfield 482, 3) := by decide +kernel
theorem dX1_stringAt_30 : decode cX1_stringAt 30 = .ok (.imul, 1) := by decide +kernel
theorem dX1_stringAt_31 : decode cX1_stringAt 31 = .ok (.iload 4, 2) := by decide +kernel
theorem dX1_stringAt_33 : decode cX1_stringAt 33 = .ok (.iadd, 1) := by decide +kernel
theorem dX1_stringAt_34 : decode cX1_stringAt 34 = .ok (.istore 5, 2) := by decide +kernel
theorem dX1_stringAt_36 : decode cX1_stringAt 36 = .ok (.iload 4, 2) := by decide +kernel
theorem dX1_stringAt_38 : decode cX1_stringAt 38 = .ok (.iload_n 1, 1) := by decide +kernel
theorem dX1_stringAt_39 : decode cX1_stringAt 39 = .ok (.if_icmp .ne 14, 3) := by decide +kernel
theorem dX1_stringAt_42 : decode cX1_stringAt 42 = .ok (.aload_n 0, 1) := by decide +kernel
theorem dX1_stringAt_43 : decode cX1_stringAt 43 = .ok (.getfield 31, 3) := by decide +kernel
theorem dX1_stringAt_46 : decode cX1_stringAt 46 = .ok (.iload 5, 2) := by decide +kernel
theorem dX1_stringAt_48 : decode cX1_stringAt 48 = .ok (.iaload, 1) := by decide +kernel
theorem dX1_stringAt_49 : decode cX1_stringAt 49 = .ok (.iconst 2, 1) := by decide +kernel
theorem dX1_stringAt_50 : decode cX1_stringAt 50 = .ok (.if_icmp .ge 43, 3) := by decide +kernel
theorem dX1_stringAt_53 : decode cX1_stringAt 53 = .ok (.aload_n 0, 1) := by decide +kernel
theorem dX1_stringAt_54 : decode cX1_stringAt 54 = .ok (.getfield 31, 3) := by decide +kernel
theorem dX1_stringAt_57 : decode cX1_stringAt 57 = .ok (.iload 5, 2) := by decide +kernel
theorem dX1_stringAt_59 : decode cX1_stringAt 59 = .ok (.iaload, 1) := by decide +kernel
theorem dX1_stringAt_60 : decode cX1_stringAt 60 = .ok (.iconst 3, 1) := by decide +kernel
theorem dX1_stringAt_61 : decode cX1_stringAt 61 = .ok (.if_icmp .ne 36, 3) := by decide +kernel
theorem dX1_stringAt_64 : decode cX1_stringAt 64 = .ok (.aload_n 0, 1) := by decide +kernel
theorem dX1_stringAt_65 : decode cX1_stringAt 65 = .ok (.getfield 31, 3) := by decide +kernel
theorem dX1_stringAt_68 : decode cX1_stringAt 68 = .ok (.sipush 600, 3) := by decide +kernel
theorem dX1_stringAt_71 : decode cX1_stringAt 71 = .ok (.aload_n 0, 1) := by decide +kernel
theorem dX1_stringAt_72 : decode cX1_stringAt 72 = .ok (.getfield 482, 3) := by decide +kernel
theorem dX1_stringAt_75 : decode cX1_stringAt 75 = .ok (.imul, 1) := by decide +kernel
theorem dX1_stringAt_76 : decode cX1_stringAt 76 = .ok (.iload_n 1, 1) := by decide +kernel
theorem dX1_stringAt_77 : decode cX1_stringAt 77 = .ok (.iadd, 1) := by decide +kernel
theorem dX1_stringAt_78 : decode cX1_stringAt 78 = .ok (.iaload, 1) := by decide +kernel
theorem dX1_stringAt_79 : decode cX1_stringAt 79 = .ok (.iconst 2, 1) := by decide +kernel
theorem dX1_stringAt_80 : decode cX1_stringAt 80 = .ok (.if_icmp .ge 17, 3) := by decide +kernel
theorem dX1_stringAt_83 : decode cX1_stringAt 83 = .ok (.aload_n 0, 1) := by decide +kernel
theorem dX1_stringAt_84 : decode cX1_stringAt 84 = .ok (.iload 4, 2) := by decide +kernel
theorem dX1_stringAt_86 : decode cX1_stringAt 86 = .ok (.iload_n 1, 1) := by decide +kernel
theorem dX1_stringAt_87 : decode cX1_stringAt 87 = .ok (.invokevirtual 603, 3) := by decide +kernel
theorem dX1_stringAt_90 : decode cX1_stringAt 90 = .ok (.ifCond .eq 7, 3) := by decide +kernel
theorem dX1_stringAt_93 : decode cX1_stringAt 93 = .ok (.iconst 1, 1) := by decide +kernel
theorem dX1_stringAt_94 : decode cX1_stringAt 94 = .ok (.goto 4, 3) := by decide +kernel
theorem dX1_stringAt_97 : decode cX1_stringAt 97 = .ok (.iconst 0, 1) := by decide +kernel
theorem dX1_stringAt_98 : decode cX1_stringAt 98 = .ok (.istore 6, 2) := by decide +kernel
theorem dX1_stringAt_100 : decode cX1_stringAt 100 = .ok (.iload 6, 2) := by decide +kernel
theorem dX1_stringAt_102 : decode cX1_stringAt 102 = .ok (.ifCond .eq 33, 3) := by decide +kernel
theorem dX1_stringAt_105 : decode cX1_stringAt 105 = .ok (.iload_n 3, 1) := by decide +kernel
theorem dX1_stringAt_106 : decode cX1_stringAt 106 = .ok (.aload_n 0, 1) := by decide +kernel
theorem dX1_stringAt_107 : decode cX1_stringAt 107 = .ok (.getfield 46, 3) := by decide +kernel
theorem dX1_stringAt_110 : decode cX1_stringAt 110 = .ok (.iload 5, 2) := by decide +kernel
theorem dX1_stringAt_112 : decode cX1_stringAt 112 = .ok (.iaload, 1) := by decide +kernel
theorem dX1_stringAt_113 : decode cX1_stringAt 113 = .ok (.if_icmp .ge 22, 3) := by decide +kernel
theorem dX1_stringAt_116 : decode cX1_stringAt 116 = .ok (.aload_n 0, 1) := by decide +kernel
theorem dX1_stringAt_117 : decode cX1_stringAt 117 = .ok (.getfield 55, 3) := by decide +kernel
theorem dX1_stringAt_120 : decode cX1_stringAt 120 = .ok (.aload_n 0, 1) := by decide +kernel
theorem dX1_stringAt_121 : decode cX1_stringAt 121 = .ok (.getfield 43, 3) := by decide +kernel
theorem dX1_stringAt_124 : decode cX1_stringAt 124 = .ok (.iload 5, 2) := by decide +kernel
theorem dX1_stringAt_126 : decode cX1_stringAt 126 = .ok (.iaload, 1) := by decide +kernel
theorem dX1_stringAt_127 : decode cX1_stringAt 127 = .ok (.iload_n 3, 1) := by decide +kernel
theorem dX1_stringAt_128 : decode cX1_stringAt 128 = .ok (.iadd, 1) := by decide +kernel
theorem dX1_stringAt_129 : decode cX1_stringAt 129 = .ok (.baload, 1) := by decide +kernel
theorem dX1_stringAt_130 : decode cX1_stringAt 130 = .ok (.sipush 255, 3) := by decide +kernel
theorem dX1_stringAt_133 : decode cX1_stringAt 133 = .ok (.iand, 1) := by decide +kernel
theorem dX1_stringAt_134 : decode cX1_stringAt 134 = .ok (.ireturn, 1) := by decide +kernel
theorem dX1_stringAt_135 : decode cX1_stringAt 135 = .ok (.iload_n 3, 1) := by decide +kernel
theorem dX1_stringAt_136 : decode cX1_stringAt 136 = .ok (.iload 6, 2) := by decide +kernel
theorem dX1_stringAt_138 : decode cX1_stringAt 138 = .ok (.ifCond .eq 13, 3) := by decide +kernel
theorem dX1_stringAt_141 : decode cX1_stringAt 141 = .ok (.aload_n 0, 1) := by decide +kernel
theorem dX1_stringAt_142 : decode cX1_stringAt 142 = .ok (.getfield 46, 3) := by decide +kernel
theorem dX1_stringAt_145 : decode cX1_stringAt 145 = .ok (.iload 5, 2) := by decide +kernel
theorem dX1_stringAt_147 : decode cX1_stringAt 147 = .ok (.iaload, 1) := by decide +kernel
theorem dX1_stringAt_148 : decode cX1_stringAt 148 = .ok (.goto 4, 3) := by decide +kernel
theorem dX1_stringAt_151 : decode cX1_stringAt 151 = .ok (.iconst 0, 1) := by decide +kernel
theorem dX1_stringAt_152 : decode cX1_stringAt 152 = .ok (.isub, 1) := by decide +kernel
theorem dX1_stringAt_153 : decode cX1_stringAt 153 = .ok (.istore_n 3, 1) := by decide +kernel
theorem dX1_stringAt_154 : decode cX1_stringAt 154 = .ok (.iinc 4 1, 3) := by decide +kernel
theorem dX1_stringAt_157 : decode cX1_stringAt 157 = .ok (.goto (-152), 3) := by decide +kernel
theorem dX1_stringAt_160 : decode cX1_stringAt 160 = .ok (.iconst (-1), 1) := by decide +kernel
theorem dX1_stringAt_161 : decode cX1_stringAt 161 = .ok (.ireturn, 1) := by decide +kernel
def m_stringAt_135 (lp5 : MEM → Int → Int → Int → Int → Option zm_O) (σ : MEM) (x1 x2 x3 x4 x5 x6 : Int) : Option zm_O := if x6 = 0 then (ck (inR (x3 - 0)) (ck (inR (x4 + 1)) (lp5 σ x1 x2 (x3 - 0) (x4 + 1)))) else (ck (0 ≤ x5 ∧ x5 < 1200) (ck (inR (x3 - (σ 18 x5))) (ck (inR (x4 + 1)) (lp5 σ x1 x2 (x3 - (σ 18 x5)) (x4 + 1)))))
theorem w_stringAt_135 {C : zv_Cx zm_O} {G : zm_G} (h : zv_Ok C cX1_stringAt RX1) (hc : zm_C C G 7 (Option.some FieldType.int) 1 1 24) (lp5 : MEM → Int → Int → Int → Int → Option zm_O) (hlp5 : ∀ (σ : MEM) (x1 x2 x3 x4 : Int), inR x1 → inR x2 → inR x3 → inR x4 → VV C (lp5 σ x1 x2 x3 x4) σ [(0, .ref (zm_h G)), (1, iv x1), (2, iv x2), (3, iv x3), (4, iv x4)] [] 5) (σ : MEM) (x1 x2 x3 x4 x5 x6 : Int) (hx1 : inR x1) (hx2 : inR x2) (hx3 : inR x3) (hx4 : inR x4) (hx5 : inR x5) (hx6 : isB x6) : VV C (m_stringAt_135 lp5 σ x1 x2 x3 x4 x5 x6) σ [(0, .ref (zm_h G)), (1, iv x1), (2, iv x2), (3, iv x3), (4, iv x4), (5, iv x5), (6, iv x6)] [] 135 := by
  have hN : ∀ i, i < 7 → i < zv_n C := fun i q => by rw [hc.2.2.1]; exact q
  unfold m_stringAt_135
  refine r_iload_n h 3 dX1_stringAt_135 rfl rfl ?_
  refine r_iload h 6 dX1_stringAt_136 rfl ?_
  refine r_if_eq h hx6.r 151 dX1_stringAt_138 rfl ?_ ?_
  · refine r_iconst h dX1_stringAt_151 ?_
    refine r_isub h dX1_stringAt_152 ?_
    refine r_istore_n (lv' := [(3, iv (x3 - 0)), (0, .ref (zm_h G)), (1, iv x1), (2, iv x2), (4, iv x4), (5, iv x5), (6, iv x6)]) h dX1_stringAt_153 rfl (hN _ (by decide)) rfl ?_
    refine r_iinc (lv' := [(4, iv (x4 + 1)), (3, iv (x3 - 0)), (0, .ref (zm_h G)), (1, iv x1), (2, iv x2), (5, iv x5), (6, iv x6)]) h 4 dX1_stringAt_154 rfl (hN _ (by decide)) rfl ?_
    refine r_goto h 5 dX1_stringAt_157 rfl ?_
    refine r_ck (fun hk1 => ?_)
    refine r_ck (fun hk2 => ?_)
    exact r_lv [2, 3, 4, 1, 0] rfl (hlp5 _ x1 x2 (x3 - 0) (x4 + 1) hx1 hx2 hk1 hk2)
  · refine r_aload_n h 0 dX1_stringAt_141 rfl rfl ?_
    refine zm_getA h hc 18 (by decide) rfl q1498 rfl dX1_stringAt_142 ?_
    refine r_iload h 5 dX1_stringAt_145 rfl ?_
    refine zm_ldI h hc 18 18 1200 (by decide) rfl rfl rfl (by decide) dX1_stringAt_147 (fun _ hr3 => ?_)
    refine r_goto h 152 dX1_stringAt_148 rfl ?_
    refine r_isub h dX1_stringAt_152 ?_
    refine r_istore_n (lv' := [(3, iv (x3 - (σ 18 x5))), (0, .ref (zm_h G)), (1, iv x1), (2, iv x2), (4, iv x4), (5, iv x5), (6, iv x6)]) h dX1_stringAt_153 rfl (hN _ (by decide)) rfl ?_
    refine r_iinc (lv' := [(4, iv (x4 + 1)), (3, iv (x3 - (σ 18 x5))), (0, .ref (zm_h G)), (1, iv x1), (2, iv x2), (5, iv x5), (6, iv x6)]) h 4 dX1_stringAt_154 rfl (hN _ (by decide)) rfl ?_
    refine r_goto h 5 dX1_stringAt_157 rfl ?_
    refine r_ck (fun hk4 => ?_)
    refine r_ck (fun hk5 => ?_)
    exact r_lv [2, 3, 4, 1, 0] rfl (hlp5 _ x1 x2 (x3 - (σ 18 x5)) (x4 + 1) hx1 hx2 hk4 hk5)
def m_stringAt_98 (lp5 : MEM → Int → Int → Int → Int → Option zm_O) (σ : MEM) (x1 x2 x3 x4 x5 s0 : Int) : Option zm_O := if s0 = 0 then (m_stringAt_135 lp5 σ x1 x2 x3 x4 x5 s0) else (ck (0 ≤ x5 ∧ x5 < 1200) (if (σ 18 x5) ≤ x3 then (m_stringAt_135 lp5 σ x1 x2 x3 x4 x5 s0) else (ck (0 ≤ x5 ∧ x5 < 1200) (ck (0 ≤ ((σ 17 x5) + x3) ∧ ((σ 17 x5) + x3) < 4000) (some ((i_and (σ 21 ((σ 17 x5) + x3)) 255), σ))))))
theorem w_stringAt_98 {C : zv_Cx zm_O} {G : zm_G} (h : zv_Ok C cX1_stringAt RX1) (hc : zm_C C G 7 (Option.some FieldType.int) 1 1 24) (lp5 : MEM → Int → Int → Int → Int → Option zm_O) (hlp5 : ∀ (σ : MEM) (x1 x2 x3 x4 : Int), inR x1 → inR x2 → inR x3 → inR x4 → VV C (lp5 σ x1 x2 x3 x4) σ [(0, .ref (zm_h G)), (1, iv x1), (2, iv x2), (3, iv x3), (4, iv x4)] [] 5) (σ : MEM) (x1 x2 x3 x4 x5 s0 : Int) (hx1 : inR x1) (hx2 : inR x2) (hx3 : inR x3) (hx4 : inR x4) (hx5 : inR x5) (hs0 : isB s0) : VV C (m_stringAt_98 lp5 σ x1 x2 x3 x4 x5 s0) σ [(0, .ref (zm_h G)), (1, iv x1), (2, iv x2), (3, iv x3), (4, iv x4), (5, iv x5)] [iv s0] 98 := by
  have hN : ∀ i, i < 7 → i < zv_n C := fun i q => by rw [hc.2.2.1]; exact q
  unfold m_stringAt_98
  refine r_istore (lv' := [(6, iv s0), (0, .ref (zm_h G)), (1, iv x1), (2, iv x2), (3, iv x3), (4, iv x4), (5, iv x5)]) h dX1_stringAt_98 (hN _ (by decide)) rfl ?_
  refine r_iload h 0 dX1_stringAt_100 rfl ?_
  refine r_if_eq h hs0.r 135 dX1_stringAt_102 rfl ?_ ?_
  · exact r_lv [1, 2, 3, 4, 5, 6, 0] rfl (w_stringAt_135 h hc lp5 hlp5 _ x1 x2 x3 x4 x5 s0 hx1 hx2 hx3 hx4 hx5 hs0)
  · refine r_iload_n h 4 dX1_stringAt_105 rfl rfl ?_
    refine r_aload_n h 1 dX1_stringAt_106 rfl rfl ?_
    refine zm_getA h hc 18 (by decide) rfl q1498 rfl dX1_stringAt_107 ?_
    refine r_iload h 6 dX1_stringAt_110 rfl ?_
    refine zm_ldI h hc 18 18 1200 (by decide) rfl rfl rfl (by decide) dX1_stringAt_112 (fun _ hr1 => ?_)
    refine r_icmp_ge h hx3 hr1 135 dX1_stringAt_113 rfl ?_ ?_
    · exact r_lv [1, 2, 3, 4, 5, 6, 0] rfl (w_stringAt_135 h hc lp5 hlp5 _ x1 x2 x3 x4 x5 s0 hx1 hx2 hx3 hx4 hx5 hs0)
    · refine r_aload_n h 1 dX1_stringAt_116 rfl rfl ?_
      refine zm_getA h hc 21 (by decide) rfl q1501 rfl dX1_stringAt_117 ?_
      refine r_aload_n h 1 dX1_stringAt_120 rfl rfl ?_
      refine zm_getA h hc 17 (by decide) rfl q1497 rfl dX1_stringAt_121 ?_
      refine r_iload h 6 dX1_stringAt_124 rfl ?_
      refine zm_ldI h hc 17 17 1200 (by decide) rfl rfl rfl (by decide) dX1_stringAt_126 (fun _ hr2 => ?_)
      refine r_iload_n h 4 dX1_stringAt_127 rfl rfl ?_
      refine r_iadd h dX1_stringAt_128 ?_
      refine zm_ldB h hc 21 21 4000 (by decide) rfl rfl rfl (by decide) dX1_stringAt_129 (fun _ hr3 => ?_)
      refine r_sipush h dX1_stringAt_130 (by decide) ?_
      refine r_iand h dX1_stringAt_133 ?_
      exact zm_iret h hc rfl (inR_t _) dX1_stringAt_134
def m_stringAt_93 (lp5 : MEM → Int → Int → Int → Int → Option zm_O) (σ : MEM) (x1 x2 x3 x4 x5 : Int) : Option zm_O := m_stringAt_98 lp5 σ x1 x2 x3 x4 x5 1
theorem w_stringAt_93 {C : zv_Cx zm_O} {G : zm_G} (h : zv_Ok C cX1_stringAt RX1) (hc : zm_C C G 7 (Option.some FieldType.int) 1 1 24) (lp5 : MEM → Int → Int → Int → Int → Option zm_O) (hlp5 : ∀ (σ : MEM) (x1 x2 x3 x4 : Int), inR x1 → inR x2 → inR x3 → inR x4 → VV C (lp5 σ x1 x2 x3 x4) σ [(0, .ref (zm_h G)), (1, iv x1), (2, iv x2), (3, iv x3), (4, iv x4)] [] 5) (σ : MEM) (x1 x2 x3 x4 x5 : Int) (hx1 : inR x1) (hx2 : inR x2) (hx3 : inR x3) (hx4 : inR x4) (hx5 : inR x5) : VV C (m_stringAt_93 lp5 σ x1 x2 x3 x4 x5) σ [(0, .ref (zm_h G)), (1, iv x1), (2, iv x2), (3, iv x3), (4, iv x4), (5, iv x5)] [] 93 := by
  have hN : ∀ i, i < 7 → i < zv_n C := fun i q => by rw [hc.2.2.1]; exact q
  unfold m_stringAt_93
  refine r_iconst h dX1_stringAt_93 ?_
  refine r_goto h 98 dX1_stringAt_94 rfl ?_
  exact r_lv [0, 1, 2, 3, 4, 5] rfl (w_stringAt_98 h hc lp5 hlp5 _ x1 x2 x3 x4 x5 1 hx1 hx2 hx3 hx4 hx5 (by decide))
def m_stringAt_97 (lp5 : MEM → Int → Int → Int → Int → Option zm_O) (σ : MEM) (x1 x2 x3 x4 x5 : Int) : Option zm_O := m_stringAt_98 lp5 σ x1 x2 x3 x4 x5 0
theorem w_stringAt_97 {C : zv_Cx zm_O} {G : zm_G} (h : zv_Ok C cX1_stringAt RX1) (hc : zm_C C G 7 (Option.some FieldType.int) 1 1 24) (lp5 : MEM → Int → Int → Int → Int → Option zm_O) (hlp5 : ∀ (σ : MEM) (x1 x2 x3 x4 : Int), inR x1 → inR x2 → inR x3 → inR x4 → VV C (lp5 σ x1 x2 x3 x4) σ [(0, .ref (zm_h G)), (1, iv x1), (2, iv x2), (3, iv x3), (4, iv x4)] [] 5) (σ : MEM) (x1 x2 x3 x4 x5 : Int) (hx1 : inR x1) (hx2 : inR x2) (hx3 : inR x3) (hx4 : inR x4) (hx5 : inR x5) : VV C (m_stringAt_97 lp5 σ x1 x2 x3 x4 x5) σ [(0, .ref (zm_h G)), (1, iv x1), (2, iv x2), (3, iv x3), (4, iv x4), (5, iv x5)] [] 97 := by
  have hN : ∀ i, i < 7 → i < zv_n C := fun i q => by rw [hc.2.2.1]; exact q
  unfold m_stringAt_97
  refine r_iconst h dX1_stringAt_97 ?_
  exact r_lv [0, 1, 2, 3, 4, 5] rfl (w_stringAt_98 h hc lp5 hlp5 _ x1 x2 x3 x4 x5 0 hx1 hx2 hx3 hx4 hx5 (by decide))
def m_stringAt_53 (lp5 : MEM → Int → Int → Int → Int → Option zm_O) (σ : MEM) (x1 x2 x3 x4 x5 : Int) : Option zm_O := ck (0 ≤ x5 ∧ x5 < 1200) (if (σ 13 x5) = 3 then (ck (0 ≤ ((600 * (σ (-1) 7)) + x1) ∧ ((600 * (σ (-1) 7)) + x1) < 1200) (if 2 ≤ (σ 13 ((600 * (σ (-1) 7)) + x1)) then (m_stringAt_97 lp5 σ x1 x2 x3 x4 x5) else (bd (m_isWithin σ x4 x1) (fun r4 σ5 => if r4 = 0 then (m_stringAt_97 lp5 σ5 x1 x2 x3 x4 x5) else (m_stringAt_93 lp5 σ5 x1 x2 x3 x4 x5))))) else (m_stringAt_97 lp5 σ x1 x2 x3 x4 x5))
theorem w_stringAt_53 {C : zv_Cx zm_O} {G : zm_G} (h : zv_Ok C cX1_stringAt RX1) (hc : zm_C C G 7 (Option.some FieldType.int) 1 1 24) (lp5 : MEM → Int → Int → Int → Int → Option zm_O) (hlp5 : ∀ (σ : MEM) (x1 x2 x3 x4 : Int), inR x1 → inR x2 → inR x3 → inR x4 → VV C (lp5 σ x1 x2 x3 x4) σ [(0, .ref (zm_h G)), (1, iv x1), (2, iv x2), (3, iv x3), (4, iv x4)] [] 5) (σ : MEM) (x1 x2 x3 x4 x5 : Int) (hx1 : inR x1) (hx2 : inR x2) (hx3 : inR x3) (hx4 : inR x4) (hx5 : inR x5) : VV C (m_stringAt_53 lp5 σ x1 x2 x3 x4 x5) σ [(0, .ref (zm_h G)), (1, iv x1), (2, iv x2), (3, iv x3), (4, iv x4), (5, iv x5)] [] 53 := by
  have hN : ∀ i, i < 7 → i < zv_n C := fun i q => by rw [hc.2.2.1]; exact q
  unfold m_stringAt_53
  refine r_aload_n h 0 dX1_stringAt_53 rfl rfl ?_
  refine zm_getA h hc 13 (by decide) rfl q1493 rfl dX1_stringAt_54 ?_
  refine r_iload h 5 dX1_stringAt_57 rfl ?_
  refine zm_ldI h hc 13 13 1200 (by decide) rfl rfl rfl (by decide) dX1_stringAt_59 (fun _ hr1 => ?_)
  refine r_iconst h dX1_stringAt_60 ?_
  refine r_icmp_ne h hr1 (by decide) 97 dX1_stringAt_61 rfl ?_ ?_
  · refine r_aload_n h 0 dX1_stringAt_64 rfl rfl ?_
    refine zm_getA h hc 13 (by decide) rfl q1493 rfl dX1_stringAt_65 ?_
    refine r_sipush h dX1_stringAt_68 (by decide) ?_
    refine r_aload_n h 0 dX1_stringAt_71 rfl rfl ?_
    refine zm_getI h hc 7 7 (by decide) rfl rfl q1487 rfl dX1_stringAt_72 (fun hr2 => ?_)
    refine r_imul h dX1_stringAt_75 ?_
    refine r_iload_n h 1 dX1_stringAt_76 rfl rfl ?_
    refine r_iadd h dX1_stringAt_77 ?_
    refine zm_ldI h hc 13 13 1200 (by decide) rfl rfl rfl (by decide) dX1_stringAt_78 (fun _ hr3 => ?_)
    refine r_iconst h dX1_stringAt_79 ?_
    refine r_icmp_ge h hr3 (by decide) 97 dX1_stringAt_80 rfl ?_ ?_
    · exact r_lv [0, 1, 2, 3, 4, 5] rfl (w_stringAt_97 h hc lp5 hlp5 _ x1 x2 x3 x4 x5 hx1 hx2 hx3 hx4 hx5)
    · refine r_aload_n h 0 dX1_stringAt_83 rfl rfl ?_
      refine r_iload h 4 dX1_stringAt_84 rfl ?_
      refine r_iload_n h 1 dX1_stringAt_86 rfl rfl ?_
      refine zm_cVz h hc (n := 2) (As := [iv x4, iv x1]) (fun o1 e1 => w_isWithin hc.1 _ x4 x1 hx4 hx1 o1 e1) q2085 q2087 qs113 q136 q2088 (by decide +kernel) ⟨by decide, by decide⟩ rfl (Nat.le_of_ble_eq_true rfl) rfl dX1_stringAt_87 (fun r4 σ5 hr6 => ?_)
      refine r_if_eq h hr6.r 97 dX1_stringAt_90 rfl ?_ ?_
      · exact r_lv [0, 1, 2, 3, 4, 5] rfl (w_stringAt_97 h hc lp5 hlp5 _ x1 x2 x3 x4 x5 hx1 hx2 hx3 hx4 hx5)
      · exact r_lv [0, 1, 2, 3, 4, 5] rfl (w_stringAt_93 h hc lp5 hlp5 _ x1 x2 x3 x4 x5 hx1 hx2 hx3 hx4 hx5)
  · exact r_lv [0, 1, 2, 3, 4, 5] rfl (w_stringAt_97 h hc lp5 hlp5 _ x1 x2 x3 x4 x5 hx1 hx2 hx3 hx4 hx5)
def m_stringAt_5 : Nat → MEM → Int → Int → Int → Int → Option zm_O
  | 0, _, _, _, _, _ => none
  | n + 1, σ, x1, x2, x3, x4 => ck (0 ≤ (σ (-1) 7) ∧ (σ (-1) 7) < 2) (if (σ 12 (σ (-1) 7)) ≤ x4 then (some ((-1), σ)) else (if x2 < 0 then (some ((-1), σ)) else (if x4 = x1 then (ck (0 ≤ ((600 * (σ (-1) 7)) + x4) ∧ ((600 * (σ (-1) 7)) + x4) < 1200) (if 2 ≤ (σ 13 ((600 * (σ (-1) 7)) + x4)) then (ck (inR ((600 * (σ (-1) 7)) + x4)) (m_stringAt_93 (m_stringAt_5 n) σ x1 x2 x3 x4 ((600 * (σ (-1) 7)) + x4))) else (ck (inR ((600 * (σ (-1) 7)) + x4)) (m_stringAt_53 (m_stringAt_5 n) σ x1 x2 x3 x4 ((600 * (σ (-1) 7)) + x4))))) else (ck (inR ((600 * (σ (-1) 7)) + x4)) (m_stringAt_53 (m_stringAt_5 n) σ x1 x2 x3 x4 ((600 * (σ (-1) 7)) + x4))))))
theorem w_stringAt_5 {C : zv_Cx zm_O} {G : zm_G} (h : zv_Ok C cX1_stringAt RX1) (hc : zm_C C G 7 (Option.some FieldType.int) 1 1 24) : ∀ (n : Nat) (σ : MEM) (x1 x2 x3 x4 : Int), inR x1 → inR x2 → inR x3 → inR x4 → VV C (m_stringAt_5 n σ x1 x2 x3 x4) σ [(0, .ref (zm_h G)), (1, iv x1), (2, iv x2), (3, iv x3), (4, iv x4)] [] 5 := by
  have hN : ∀ i, i < 7 → i < zv_n C := fun i q => by rw [hc.2.2.1]; exact q
  intro n
  induction n with
  | zero => intros; exact r_none
  | succ n ih =>
    intro σ x1 x2 x3 x4 hx1 hx2 hx3 hx4
    rw [m_stringAt_5]
    refine r_iload h 4 dX1_stringAt_5 rfl ?_
    refine r_aload_n h 0 dX1_stringAt_7 rfl rfl ?_
    refine zm_getA h hc 12 (by decide) rfl q1492 rfl dX1_stringAt_8 ?_
    refine r_aload_n h 0 dX1_stringAt_11 rfl rfl ?_
    refine zm_getI h hc 7 7 (by decide) rfl rfl q1487 rfl dX1_stringAt_12 (fun hr1 => ?_)
    refine zm_ldI h hc 12 12 2 (by decide) rfl rfl rfl (by decide) dX1_stringAt_15 (fun _ hr2 => ?_)
    refine r_icmp_ge h hx4 hr2 160 dX1_stringAt_16 rfl ?_ ?_
    · refine r_iconst h dX1_stringAt_160 ?_
      exact zm_iret h hc rfl (by decide) dX1_stringAt_161
    · refine r_iload_n h 2 dX1_stringAt_19 rfl rfl ?_
      refine r_if_lt h hx2 160 dX1_stringAt_20 rfl ?_ ?_
      · refine r_iconst h dX1_stringAt_160 ?_
        exact zm_iret h hc rfl (by decide) dX1_stringAt_161
      · refine r_sipush h dX1_stringAt_23 (by decide) ?_
        refine r_aload_n h 0 dX1_stringAt_26 rfl rfl ?_
        refine zm_getI h hc 7 7 (by decide) rfl rfl q1487 rfl dX1_stringAt_27 (fun hr3 => ?_)
        refine r_imul h dX1_stringAt_30 ?_
        refine r_iload h 4 dX1_stringAt_31 rfl ?_
        refine r_iadd h dX1_stringAt_33 ?_
        refine r_istore (lv' := [(5, iv ((600 * (σ (-1) 7)) + x4)), (0, .ref (zm_h G)), (1, iv x1), (2, iv x2), (3, iv x3), (4, iv x4)]) h dX1_stringAt_34 (hN _ (by decide)) rfl ?_
        refine r_iload h 5 dX1_stringAt_36 rfl ?_
        refine r_iload_n h 2 dX1_stringAt_38 rfl rfl ?_
        refine r_icmp_ne h hx4 hx1 53 dX1_stringAt_39 rfl ?_ ?_
        · refine r_aload_n h 1 dX1_stringAt_42 rfl rfl ?_
          refine zm_getA h hc 13 (by decide) rfl q1493 rfl dX1_stringAt_43 ?_
          refine r_iload h 0 dX1_stringAt_46 rfl ?_
          refine zm_ldI h hc 13 13 1200 (by decide) rfl rfl rfl (by decide) dX1_stringAt_48 (fun _ hr4 => ?_)
          refine r_iconst h dX1_stringAt_49 ?_
          refine r_icmp_ge h hr4 (by decide) 93 dX1_stringAt_50 rfl ?_ ?_
          · refine r_ck (fun hk5 => ?_)
            exact r_lv [1, 2, 3, 4, 5, 0] rfl (w_stringAt_93 h hc (m_stringAt_5 n) ih _ x1 x2 x3 x4 ((600 * (σ (-1) 7)) + x4) hx1 hx2 hx3 hx4 hk5)
          · refine r_ck (fun hk6 => ?_)
            exact r_lv [1, 2, 3, 4, 5, 0] rfl (w_stringAt_53 h hc (m_stringAt_5 n) ih _ x1 x2 x3 x4 ((600 * (σ (-1) 7)) + x4) hx1 hx2 hx3 hx4 hk6)
        · refine r_ck (fun hk7 => ?_)
          exact r_lv [1, 2, 3, 4, 5, 0] rfl (w_stringAt_53 h hc (m_stringAt_5 n) ih _ x1 x2 x3 x4 ((600 * (σ (-1) 7)) + x4) hx1 hx2 hx3 hx4 hk7)
def m_stringAt (σ : MEM) (a0 a1 : Int) : Option zm_O := m_stringAt_5 zF σ a0 a1 a1 a0
theorem w_stringAt {G : zm_G} (hD : zm_D G) (σ : MEM) (a0 a1 : Int) (ha0 : inR a0) (ha1 : inR a1) (o : zm_O) (hd : m_stringAt σ a0 a1 = some o) : zm_Met G yX1_stringAt cX1_stringAt 7 (Option.some FieldType.int) 1 1 24 σ [.ref (zm_h G), iv a0, iv a1] o := by
  refine zm_intro hD hd (by decide) rfl (Nat.le_of_ble_eq_true rfl) rfl (fun C h hc => ?_)
  have hN : ∀ i, i < 7 → i < zv_n C := fun i q => by rw [hc.2.2.1]; exact q
  unfold m_stringAt
  refine r_iload_n h 2 dX1_stringAt_0 rfl rfl ?_
  refine r_istore_n (lv' := [(3, iv a1), (0, .ref (zm_h G)), (1, iv a0), (2, iv a1)]) h dX1_stringAt_1 rfl (hN _ (by decide)) rfl ?_
  refine r_iload_n h 2 dX1_stringAt_2 rfl rfl ?_
  refine r_istore (lv' := [(4, iv a0), (3, iv a1), (0, .ref (zm_h G)), (1, iv a0), (2, iv a1)]) h dX1_stringAt_3 (hN _ (by decide)) rfl ?_
  exact r_lv [2, 3, 4, 1, 0] rfl (w_stringAt_5 h hc zF _ a0 a1 a1 a0 ha0 ha1 ha1 ha0)
theorem dX1_hasString_0 : decode cX1_hasString 0 = .ok (.aload_n 0, 1) := by decide +kernel
theorem dX1_hasString_1 : decode cX1_hasString 1 = .ok (.iload_n 1, 1) := by decide +kernel
theorem dX1_hasString_2 : decode cX1_hasString 2 = .ok (.invokevirtual 591, 3) := by decide +kernel
theorem dX1_hasString_5 : decode cX1_hasString 5 = .ok (.iload_n 3, 1) := by decide +kernel
theorem dX1_hasString_6 : decode cX1_hasString 6 = .ok (.if_icmp .ne 7, 3) := by decide +kernel
theorem dX1_hasString_9 : decode cX1_hasString 9 = .ok (.iconst 1, 1) := by decide +kernel
theorem dX1_hasString_10 : decode cX1_hasString 10 = .ok (.goto 4, 3) := by decide +kernel
theorem dX1_hasString_13 : decode cX1_hasString 13 = .ok (.iconst 0, 1) := by decide +kernel
theorem dX1_hasString_14 : decode cX1_hasString 14 = .ok (.istore 4, 2) := by decide +kernel
theorem dX1_hasString_16 : decode cX1_hasString 16 = .ok (.iconst 0, 1) := by decide +kernel
theorem dX1_hasString_17 : decode cX1_hasString 17 = .ok (.istore 5, 2) := by decide +kernel
theorem dX1_hasString_19 : decode cX1_hasString 19 = .ok (.iload 5, 2) := by decide +kernel
theorem dX1_hasString_21 : decode cX1_hasString 21 = .ok (.iload_n 3, 1) := by decide +kernel
theorem dX1_hasString_22 : decode cX1_hasString 22 = .ok (.if_icmp .ge 44, 3) := by decide +kernel
theorem dX1_hasString_25 : decode cX1_hasString 25 = .ok (.iload 4, 2) := by decide +kernel
theorem dX1_hasString_27 : decode cX1_hasString 27 = .ok (.ifCond .eq 39, 3) := by decide +kernel
theorem dX1_hasString_30 : decode cX1_hasString 30 = .ok (.aload_n 0, 1) := by decide +kernel
theorem dX1_hasString_31 : decode cX1_hasString 31 = .ok (.getfield 13, 3) := by decide +kernel
theorem dX1_hasString_34 : decode cX1_hasString 34 = .ok (.iload_n 2, 1) := by decide +kernel
theorem dX1_hasString_35 : decode cX1_hasString 35 = .ok (.iload 5, 2) := by decide +kernel
theorem dX1_hasString_37 : decode cX1_hasString 37 = .ok (.iadd, 1) := by decide +kernel
theorem dX1_hasString_38 : decode cX1_hasString 38 = .ok (.baload, 1) := by decide +kernel
theorem dX1_hasString_39 : decode cX1_hasString 39 = .ok (.sipush 255, 3) := by decide +kernel
theorem dX1_hasString_42 : decode cX1_hasString 42 = .ok (.iand, 1) := by decide +kernel
theorem dX1_hasString_43 : decode cX1_hasString 43 = .ok (.aload_n 0, 1) := by decide +kernel
theorem dX1_hasString_44 : decode cX1_hasString 44 = .ok (.iload_n 1, 1) := by decide +kernel
theorem dX1_hasString_45 : decode cX1_hasString 45 = .ok (.iload 5, 2) := by decide +kernel
theorem dX1_hasString_47 : decode cX1_hasString 47 = .ok (.invokevirtual 594, 3) := by decide +kernel
theorem dX1_hasString_50 : decode cX1_hasString 50 = .ok (.if_icmp .ne 7, 3) := by decide +kernel
theorem dX1_hasString_53 : decode cX1_hasString 53 = .ok (.iconst 1, 1) := by decide +kernel
theorem dX1_hasString_54 : decode cX1_hasString 54 = .ok (.goto 4, 3) := by decide +kernel
theorem dX1_hasString_57 : decode cX1_hasString 57 = .ok (.iconst 0, 1) := by decide +kernel
theorem dX1_hasString_58 : decode cX1_hasString 58 = .ok (.istore 4, 2) := by decide +kernel
theorem dX1_hasString_60 : decode cX1_hasString 60 = .ok (.iinc 5 1, 3) := by decide +kernel
theorem dX1_hasString_63 : decode cX1_hasString 63 = .ok (.goto (-44), 3) := by decide +kernel
theorem dX1_hasString_66 : decode cX1_hasString 66 = .ok (.iload 4, 2) := by decide +kernel
theorem dX1_hasString_68 : decode cX1_hasString 68 = .ok (.ireturn, 1) := by decide +kernel
def m_hasString_19 : Nat → MEM → Int → Int → Int → Int → Int → Option zm_O
  | 0, _, _, _, _, _, _ => none
  | n + 1, σ, x1, x2, x3, x4, x5 => if x3 ≤ x5 then (some (x4, σ)) else (if x4 = 0 then (some (x4, σ)) else (ck (0 ≤ (x2 + x5) ∧ (x2 + x5) < 6000) (bd (m_stringAt σ x1 x5) (fun r2 σ3 => if (i_and (σ 2 (x2 + x5)) 255) = r2 then (ck (inR (x5 + 1)) (m_hasString_19 n σ3 x1 x2 x3 1 (x5 + 1))) else (ck (inR (x5 + 1)) (m_hasString_19 n σ3 x1 x2 x3 0 (x5 + 1)))))))
theorem w_hasString_19 {C : zv_Cx zm_O} {G : zm_G} (h : zv_Ok C cX1_hasString RX1) (hc : zm_C C G 6 (Option.some FieldType.boolean) 3 2 50) : ∀ (n : Nat) (σ : MEM) (x1 x2 x3 x4 x5 : Int), inR x1 → inR x2 → inR x3 → isB x4 → inR x5 → VV C (m_hasString_19 n σ x1 x2 x3 x4 x5) σ [(0, .ref (zm_h G)), (1, iv x1), (2, iv x2), (3, iv x3), (4, iv x4), (5, iv x5)] [] 19 := by
  have hN : ∀ i, i < 6 → i < zv_n C := fun i q => by rw [hc.2.2.1]; exact q
  intro n
  induction n with
  | zero => intros; exact r_none
  | succ n ih =>
    intro σ x1 x2 x3 x4 x5 hx1 hx2 hx3 hx4 hx5
    rw [m_hasString_19]
    refine r_iload h 5 dX1_hasString_19 rfl ?_
    refine r_iload_n h 3 dX1_hasString_21 rfl rfl ?_
    refine r_icmp_ge h hx5 hx3 66 dX1_hasString_22 rfl ?_ ?_
    · refine r_iload h 4 dX1_hasString_66 rfl ?_
      exact zm_zret h hc rfl hx4 dX1_hasString_68
    · refine r_iload h 4 dX1_hasString_25 rfl ?_
      refine r_if_eq h hx4.r 66 dX1_hasString_27 rfl ?_ ?_
      · refine r_iload h 4 dX1_hasString_66 rfl ?_
        exact zm_zret h hc rfl hx4 dX1_hasString_68
      · refine r_aload_n h 0 dX1_hasString_30 rfl rfl ?_
        refine zm_getA h hc 2 (by decide) rfl q1482 rfl dX1_hasString_31 ?_
        refine r_iload_n h 2 dX1_hasString_34 rfl rfl ?_
        refine r_iload h 5 dX1_hasString_35 rfl ?_
        refine r_iadd h dX1_hasString_37 ?_
        refine zm_ldB h hc 2 2 6000 (by decide) rfl rfl rfl (by decide) dX1_hasString_38 (fun _ hr1 => ?_)
        refine r_sipush h dX1_hasString_39 (by decide) ?_
        refine r_iand h dX1_hasString_42 ?_
        refine r_aload_n h 0 dX1_hasString_43 rfl rfl ?_
        refine r_iload_n h 1 dX1_hasString_44 rfl rfl ?_
        refine r_iload h 5 dX1_hasString_45 rfl ?_
        refine zm_cVi h hc (n := 2) (As := [iv x1, iv x5]) (fun o1 e1 => w_stringAt hc.1 _ x1 x5 hx1 hx5 o1 e1) q2113 q2115 qs120 q136 q2116 (by decide +kernel) ⟨by decide, by decide⟩ rfl (Nat.le_of_ble_eq_true rfl) rfl dX1_hasString_47 (fun r2 σ3 hr4 => ?_)
        refine r_icmp_ne h (inR_t _) hr4 57 dX1_hasString_50 rfl ?_ ?_
        · refine r_iconst h dX1_hasString_53 ?_
          refine r_goto h 58 dX1_hasString_54 rfl ?_
          refine r_istore (lv' := [(4, iv 1), (0, .ref (zm_h G)), (1, iv x1), (2, iv x2), (3, iv x3), (5, iv x5)]) h dX1_hasString_58 (hN _ (by decide)) rfl ?_
          refine r_iinc (lv' := [(5, iv (x5 + 1)), (4, iv 1), (0, .ref (zm_h G)), (1, iv x1), (2, iv x2), (3, iv x3)]) h 5 dX1_hasString_60 rfl (hN _ (by decide)) rfl ?_
          refine r_goto h 19 dX1_hasString_63 rfl ?_
          refine r_ck (fun hk5 => ?_)
          exact r_lv [2, 3, 4, 5, 1, 0] rfl (ih _ x1 x2 x3 1 (x5 + 1) hx1 hx2 hx3 (by decide) hk5)
        · refine r_iconst h dX1_hasString_57 ?_
          refine r_istore (lv' := [(4, iv 0), (0, .ref (zm_h G)), (1, iv x1), (2, iv x2), (3, iv x3), (5, iv x5)]) h dX1_hasString_58 (hN _ (by decide)) rfl ?_
          refine r_iinc (lv' := [(5, iv (x5 + 1)), (4, iv 0), (0, .ref (zm_h G)), (1, iv x1), (2, iv x2), (3, iv x3)]) h 5 dX1_hasString_60 rfl (hN _ (by decide)) rfl ?_
          refine r_goto h 19 dX1_hasString_63 rfl ?_
          refine r_ck (fun hk6 => ?_)
          exact r_lv [2, 3, 4, 5, 1, 0] rfl (ih _ x1 x2 x3 0 (x5 + 1) hx1 hx2 hx3 (by decide) hk6)
def m_hasString (σ : MEM) (a0 a1 a2 : Int) : Option zm_O := bd (m_stringOf σ a0) (fun r1 σ2 => if r1 = a2 then (m_hasString_19 zF σ2 a0 a1 a2 1 0) else (m_hasString_19 zF σ2 a0 a1 a2 0 0))
theorem w_hasString {G : zm_G} (hD : zm_D G) (σ : MEM) (a0 a1 a2 : Int) (ha0 : inR a0) (ha1 : inR a1) (ha2 : inR a2) (o : zm_O) (hd : m_hasString σ a0 a1 a2 = some o) : zm_Met G yX1_hasString cX1_hasString 6 (Option.some FieldType.boolean) 3 2 50 σ [.ref (zm_h G), iv a0, iv a1, iv a2] o := by
  refine zm_intro hD hd (by decide) rfl (Nat.le_of_ble_eq_true rfl) rfl (fun C h hc => ?_)
  have hN : ∀ i, i < 6 → i < zv_n C := fun i q => by rw [hc.2.2.1]; exact q
  unfold m_hasString
  refine r_aload_n h 0 dX1_hasString_0 rfl rfl ?_
  refine r_iload_n h 1 dX1_hasString_1 rfl rfl ?_
  refine zm_cVi h hc (n := 1) (As := [iv a0]) (fun o1 e1 => w_stringOf hc.1 _ a0 ha0 o1 e1) q2109 q2111 qs119 q136 q2112 (by decide +kernel) ⟨by decide, by decide⟩ rfl (Nat.le_of_ble_eq_true rfl) rfl dX1_hasString_2 (fun r1 σ2 hr3 => ?_)
  refine r_iload_n h 3 dX1_hasString_5 rfl rfl ?_
  refine r_icmp_ne h hr3 ha2 13 dX1_hasString_6 rfl ?_ ?_
  · refine r_iconst h dX1_hasString_9 ?_
    refine r_goto h 14 dX1_hasString_10 rfl ?_
    refine r_istore (lv' := [(4, iv 1), (0, .ref (zm_h G)), (1, iv a0), (2, iv a1), (3, iv a2)]) h dX1_hasString_14 (hN _ (by decide)) rfl ?_
    refine r_iconst h dX1_hasString_16 ?_
    refine r_istore (lv' := [(5, iv 0), (4, iv 1), (0, .ref (zm_h G)), (1, iv a0), (2, iv a1), (3, iv a2)]) h dX1_hasString_17 (hN _ (by decide)) rfl ?_
    exact r_lv [2, 3, 4, 5, 1, 0] rfl (w_hasString_19 h hc zF _ a0 a1 a2 1 0 ha0 ha1 ha2 (by decide) (by decide))
  · refine r_iconst h dX1_hasString_13 ?_
    refine r_istore (lv' := [(4, iv 0), (0, .ref (zm_h G)), (1, iv a0), (2, iv a1), (3, iv a2)]) h dX1_hasString_14 (hN _ (by decide)) rfl ?_
    refine r_iconst h dX1_hasString_16 ?_
    refine r_istore (lv' := [(5, iv 0), (4, iv 0), (0, .ref (zm_h G)), (1, iv a0), (2, iv a1), (3, iv a2)]) h dX1_hasString_17 (hN _ (by decide)) rfl ?_
    exact r_lv [2, 3, 4, 5, 1, 0] rfl (w_hasString_19 h hc zF _ a0 a1 a2 0 0 ha0 ha1 ha2 (by decide) (by decide))
theorem dX1_passesFilter_0 : decode cX1_passesFilter 0 = .ok (.aload_n 0, 1) := by decide +kernel
theorem dX1_passesFilter_1 : decode cX1_passesFilter 1 = .ok (.getfield 197, 3) := by decide +kernel
theorem dX1_passesFilter_4 : decode cX1_passesFilter 4 = .ok (.iload_n 1, 1) := by decide +kernel
theorem dX1_passesFilter_5 : decode cX1_passesFilter 5 = .ok (.iaload, 1) := by decide +kernel
theorem dX1_passesFilter_6 : decode cX1_passesFilter 6 = .ok (.iconst 4, 1) := by decide +kernel
theorem dX1_passesFilter_7 : decode cX1_passesFilter 7 = .ok (.if_icmp .ne 21, 3) := by decide +kernel
theorem dX1_passesFilter_10 : decode cX1_passesFilter 10 = .ok (.aload_n 0, 1) := by decide +kernel
theorem dX1_passesFilter_11 : decode cX1_passesFilter 11 = .ok (.iload_n 2, 1) := by decide +kernel
theorem dX1_passesFilter_12 : decode cX1_passesFilter 12 = .ok (.aload_n 0, 1) := by decide +kernel
theorem dX1_passesFilter_13 : decode cX1_passesFilter 13 = .ok (.getfield 209, 3) := by decide +kernel
theorem dX1_passesFilter_16 : decode cX1_passesFilter 16 = .ok (.iload_n 1, 1) := by decide +kernel
theorem dX1_passesFilter_17 : decode cX1_passesFilter 17 = .ok (.iaload, 1) := by decide +kernel
theorem dX1_passesFilter_18 : decode cX1_passesFilter 18 = .ok (.aload_n 0, 1) := by decide +kernel
theorem dX1_passesFilter_19 : decode cX1_passesFilter 19 = .ok (.getfield 212, 3) := by decide +kernel
theorem dX1_passesFilter_22 : decode cX1_passesFilter 22 = .ok (.iload_n 1, 1) := by decide +kernel
theorem dX1_passesFilter_23 : decode cX1_passesFilter 23 = .ok (.iaload, 1) := by decide +kernel
theorem dX1_passesFilter_24 : decode cX1_passesFilter 24 = .ok (.invokevirtual 597, 3) := by decide +kernel
theorem dX1_passesFilter_27 : decode cX1_passesFilter 27 = .ok (.ireturn, 1) := by decide +kernel
theorem dX1_passesFilter_28 : decode cX1_passesFilter 28 = .ok (.iconst 0, 1) := by decide +kernel
theorem dX1_passesFilter_29 : decode cX1_passesFilter 29 = .ok (.istore_n 3, 1) := by decide +kernel
theorem dX1_passesFilter_30 : decode cX1_passesFilter 30 = .ok (.iload_n 3, 1) := by decide +kernel
theorem dX1_passesFilter_31 : decode cX1_passesFilter 31 = .ok (.aload_n 0, 1) := by decide +kernel
theorem dX1_passesFilter_32 : decode cX1_passesFilter 32 = .ok (.getfield 27, 3) := by decide +kernel
theorem dX1_passesFilter_35 : decode cX1_passesFilter 35 = .ok (.aload_n 0, 1) := by decide +kernel
theorem dX1_passesFilter_36 : decode cX1_passesFilter 36 = .ok (.getfield 482, 3) := by decide +kernel
theorem dX1_passesFilter_39 : decode cX1_passesFilter 39 = .ok (.iaload, 1) := by decide +kernel
theorem dX1_passesFilter_40 : decode cX1_passesFilter 40 = .ok (.if_icmp .ge 124, 3) := by decide +kernel
theorem dX1_passesFilter_43 : decode cX1_passesFilter 43 = .ok (.aload_n 0, 1) := by decide +kernel
theorem dX1_passesFilter_44 : decode cX1_passesFilter 44 = .ok (.getfield 34, 3) := by decide +kernel
theorem dX1_passesFilter_47 : decode cX1_passesFilter 47 = .ok (.sipush 600, 3) := by decide +kernel
theorem dX1_passesFilter_50 : decode cX1_passesFilter 50 = .ok (.aload_n 0, 1) := by decide +kernel
theorem dX1_passesFilter_51 : decode cX1_passesFilter 51 = .ok (.getfield 482, 3) := by decide +kernel
theorem dX1_passesFilter_54 : decode cX1_passesFilter 54 = .ok (.imul, 1) := by decide +kernel
theorem dX1_passesFilter_55 : decode cX1_passesFilter 55 = .ok (.iload_n 3, 1) := by decide +kernel
theorem dX1_passesFilter_56 : decode cX1_passesFilter 56 = .ok (.iadd, 1) := by decide +kernel
theorem dX1_passesFilter_57 : decode cX1_passesFilter 57 = .ok (.iaload, 1) := by decide +kernel
theorem dX1_passesFilter_58 : decode cX1_passesFilter 58 = .ok (.iload_n 2, 1) := by decide +kernel
theorem dX1_passesFilter_59 : decode cX1_passesFilter 59 = .ok (.if_icmp .ne 39, 3) := by decide +kernel
theorem dX1_passesFilter_62 : decode cX1_passesFilter 62 = .ok (.aload_n 0, 1) := by decide +kernel
theorem dX1_passesFilter_63 : decode cX1_passesFilter 63 = .ok (.getfield 31, 3) := by decide +kernel
theorem dX1_passesFilter_66 : decode cX1_passesFilter 66 = .ok (.sipush 600, 3) := by decide +kernel
theorem dX1_passesFilter_69 : decode cX1_passesFilter 69 = .ok (.aload_n 0, 1) := by decide +kernel
theorem dX1_passesFilter_70 : decode cX1_passesFilter 70 = .ok (.getfield 482, 3) := by decide +kernel
theorem dX1_passesFilter_73 : decode cX1_passesFilter 73 = .ok (.imul, 1) := by decide +kernel
theorem dX1_passesFilter_74 : decode cX1_passesFilter 74 = .ok (.iload_n 3, 1) := by decide +kernel
theorem dX1_passesFilter_75 : decode cX1_passesFilter 75 = .ok (.iadd, 1) := by decide +kernel
theorem dX1_passesFilter_76 : decode cX1_passesFilter 76 = .ok (.iaload, 1) := by decide +kernel
theorem dX1_passesFilter_77 : decode cX1_passesFilter 77 = .ok (.aload_n 0, 1) := by decide +kernel
theorem dX1_passesFilter_78 : decode cX1_passesFilter 78 = .ok (.getfield 206, 3) := by decide +kernel
theorem dX1_passesFilter_81 : decode cX1_passesFilter 81 = .ok (.iload_n 1, 1) := by decide +kernel
theorem dX1_passesFilter_82 : decode cX1_passesFilter 82 = .ok (.baload, 1) := by decide +kernel
theorem dX1_passesFilter_83 : decode cX1_passesFilter 83 = .ok (.ifCond .eq 7, 3) := by decide +kernel
theorem dX1_passesFilter_86 : decode cX1_passesFilter 86 = .ok (.iconst 2, 1) := by decide +kernel
theorem dX1_passesFilter_87 : decode cX1_passesFilter 87 = .ok (.goto 4, 3) := by decide +kernel
theorem dX1_passesFilter_90 : decode cX1_passesFilter 90 = .ok (.iconst 1, 1) := by decide +kernel
theorem dX1_passesFilter_91 : decode cX1_passesFilter 91 = .ok (.if_icmp .ne 7, 3) := by decide +kernel
theorem dX1_passesFilter_94 : decode cX1_passesFilter 94 = .ok (.iconst 1, 1) := by decide +kernel
theorem dX1_passesFilter_95 : decode cX1_passesFilter 95 = .ok (.goto 4, 3) := by decide +kernel
theorem dX1_passesFilter_98 : decode cX1_passesFilter 98 = .ok (.iconst 0, 1) := by decide +kernel
theorem dX1_passesFilter_99 : decode cX1_passesFilter 99 = .ok (.istore 4, 2) := by decide +kernel
theorem dX1_passesFilter_101 : decode cX1_passesFilter 101 = .ok (.iload 4, 2) := by decide +kernel
theorem dX1_passesFilter_103 : decode cX1_passesFilter 103 = .ok (.ifCond .eq 55, 3) := by decide +kernel
theorem dX1_passesFilter_106 : decode cX1_passesFilter 106 = .ok (.aload_n 0, 1) := by decide +kernel
theorem dX1_passesFilter_107 : decode cX1_passesFilter 107 = .ok (.iload_n 3, 1) := by decide +kernel
theorem dX1_passesFilter_108 : decode cX1_passesFilter 108 = .ok (.aload_n 0, 1) := by decide +kernel
theorem dX1_passesFilter_109 : decode cX1_passesFilter 109 = .ok (.getfield 200, 3) := by decide +kernel
theorem dX1_passesFilter_112 : decode cX1_passesFilter 112 = .ok (.iload_n 1, 1) := by decide +kernel
theorem dX1_passesFilter_113 : decode cX1_passesFilter 113 = .ok (.iaload, 1) := by decide +kernel
theorem dX1_passesFilter_114 : decode cX1_passesFilter 114 = .ok (.aload_n 0, 1) := by decide +kernel
theorem dX1_passesFilter_115 : decode cX1_passesFilter 115 = .ok (.getfield 203, 3) := by decide +kernel
theorem dX1_passesFilter_118 : decode cX1_passesFilter 118 = .ok (.iload_n 1, 1) := by decide +kernel
theorem dX1_passesFilter_119 : decode cX1_passesFilter 119 = .ok (.iaload, 1) := by decide +kernel
theorem dX1_passesFilter_120 : decode cX1_passesFilter 120 = .ok (.invokevirtual 588, 3) := by decide +kernel
theorem dX1_passesFilter_123 : decode cX1_passesFilter 123 = .ok (.ifCond .eq 35, 3) := by decide +kernel
theorem dX1_passesFilter_126 : decode cX1_passesFilter 126 = .ok (.aload_n 0, 1) := by decide +kernel
theorem dX1_passesFilter_127 : decode cX1_passesFilter 127 = .ok (.getfield 197, 3) := by decide +kernel
theorem dX1_passesFilter_130 : decode cX1_passesFilter 130 = .ok (.iload_n 1, 1) := by decide +kernel
theorem dX1_passesFilter_131 : decode cX1_passesFilter 131 = .ok (.iaload, 1) := by decide +kernel
theorem dX1_passesFilter_132 : decode cX1_passesFilter 132 = .ok (.iconst 2, 1) := by decide +kernel
theorem dX1_passesFilter_133 : decode cX1_passesFilter 133 = .ok (.if_icmp .eq 23, 3) := by decide +kernel
theorem dX1_passesFilter_136 : decode cX1_passesFilter 136 = .ok (.aload_n 0, 1) := by decide +kernel
theorem dX1_passesFilter_137 : decode cX1_passesFilter 137 = .ok (.iload_n 3, 1) := by decide +kernel
theorem dX1_passesFilter_138 : decode cX1_passesFilter 138 = .ok (.aload_n 0, 1) := by decide +kernel
theorem dX1_passesFilter_139 : decode cX1_passesFilter 139 = .ok (.getfield 209, 3) := by decide +kernel
theorem dX1_passesFilter_142 : decode cX1_passesFilter 142 = .ok (.iload_n 1, 1) := by decide +kernel
theorem dX1_passesFilter_143 : decode cX1_passesFilter 143 = .ok (.iaload, 1) := by decide +kernel
theorem dX1_passesFilter_144 : decode cX1_passesFilter 144 = .ok (.aload_n 0, 1) := by decide +kernel
theorem dX1_passesFilter_145 : decode cX1_passesFilter 145 = .ok (.getfield 212, 3) := by decide +kernel
theorem dX1_passesFilter_148 : decode cX1_passesFilter 148 = .ok (.iload_n 1, 1) := by decide +kernel
theorem dX1_passesFilter_149 : decode cX1_passesFilter 149 = .ok (.iaload, 1) := by decide +kernel
theorem dX1_passesFilter_150 : decode cX1_passesFilter 150 = .ok (.invokevirtual 597, 3) := by decide +kernel
theorem dX1_passesFilter_153 : decode cX1_passesFilter 153 = .ok (.ifCond .eq 5, 3) := by decide +kernel
theorem dX1_passesFilter_156 : decode cX1_passesFilter 156 = .ok (.iconst 1, 1) := by decide +kernel
theorem dX1_passesFilter_157 : decode cX1_passesFilter 157 = .ok (.ireturn, 1) := by decide +kernel
theorem dX1_passesFilter_158 : decode cX1_passesFilter 158 = .ok (.iinc 3 1, 3) := by decide +kernel
theorem dX1_passesFilter_161 : decode cX1_passesFilter 161 = .ok (.goto (-131), 3) := by decide +kernel
theorem dX1_passesFilter_164 : decode cX1_passesFilter 164 = .ok (.iconst 0, 1) := by decide +kernel
theorem dX1_passesFilter_165 : decode cX1_passesFilter 165 = .ok (.ireturn, 1) := by decide +kernel
def m_passesFilter_99 (lp30 : MEM → Int → Int → Int → Option zm_O) (σ : MEM) (x1 x2 x3 s0 : Int) : Option zm_O := if s0 = 0 then (ck (inR (x3 + 1)) (lp30 σ x1 x2 (x3 + 1))) else (ck (0 ≤ x1 ∧ x1 < 48) (ck (0 ≤ x1 ∧ x1 < 48) (bd (m_isCalled σ x3 (σ 79 x1) (σ 80 x1)) (fun r4 σ5 => if r4 = 0 then (ck (inR (x3 + 1)) (lp30 σ5 x1 x2 (x3 + 1))) else (ck (0 ≤ x1 ∧ x1 < 48) (if (σ5 78 x1) = 2 then (some (1, σ5)) else (ck (0 ≤ x1 ∧ x1 < 48) (ck (0 ≤ x1 ∧ x1 < 48) (bd (m_hasString σ5 x3 (σ5 82 x1) (σ5 83 x1)) (fun r11 σ12 => if r11 = 0 then (ck (inR (x3 + 1)) (lp30 σ12 x1 x2 (x3 + 1))) else (some (1, σ12))))))))))))
theorem w_passesFilter_99 {C : zv_Cx zm_O} {G : zm_G} (h : zv_Ok C cX1_passesFilter RX1) (hc : zm_C C G 5 (Option.some FieldType.boolean) 3 3 75) (lp30 : MEM → Int → Int → Int → Option zm_O) (hlp30 : ∀ (σ : MEM) (x1 x2 x3 : Int), inR x1 → inR x2 → inR x3 → VV C (lp30 σ x1 x2 x3) σ [(0, .ref (zm_h G)), (1, iv x1), (2, iv x2), (3, iv x3)] [] 30) (σ : MEM) (x1 x2 x3 s0 : Int) (hx1 : inR x1) (hx2 : inR x2) (hx3 : inR x3) (hs0 : isB s0) : VV C (m_passesFilter_99 lp30 σ x1 x2 x3 s0) σ [(0, .ref (zm_h G)), (1, iv x1), (2, iv x2), (3, iv x3)] [iv s0] 99 := by
  have hN : ∀ i, i < 5 → i < zv_n C := fun i q => by rw [hc.2.2.1]; exact q
  unfold m_passesFilter_99
  refine r_istore (lv' := [(4, iv s0), (0, .ref (zm_h G)), (1, iv x1), (2, iv x2), (3, iv x3)]) h dX1_passesFilter_99 (hN _ (by decide)) rfl ?_
  refine r_iload h 0 dX1_passesFilter_101 rfl ?_
  refine r_if_eq h hs0.r 158 dX1_passesFilter_103 rfl ?_ ?_
  · refine r_iinc (lv' := [(3, iv (x3 + 1)), (4, iv s0), (0, .ref (zm_h G)), (1, iv x1), (2, iv x2)]) h 4 dX1_passesFilter_158 rfl (hN _ (by decide)) rfl ?_
    refine r_goto h 30 dX1_passesFilter_161 rfl ?_
    refine r_ck (fun hk1 => ?_)
    exact r_lv [2, 3, 4, 0] rfl (hlp30 _ x1 x2 (x3 + 1) hx1 hx2 hk1)
  · refine r_aload_n h 1 dX1_passesFilter_106 rfl rfl ?_
    refine r_iload_n h 4 dX1_passesFilter_107 rfl rfl ?_
    refine r_aload_n h 1 dX1_passesFilter_108 rfl rfl ?_
    refine zm_getA h hc 79 (by decide) rfl q1558 rfl dX1_passesFilter_109 ?_
    refine r_iload_n h 2 dX1_passesFilter_112 rfl rfl ?_
    refine zm_ldI h hc 79 79 48 (by decide) rfl rfl rfl (by decide) dX1_passesFilter_113 (fun _ hr2 => ?_)
    refine r_aload_n h 1 dX1_passesFilter_114 rfl rfl ?_
    refine zm_getA h hc 80 (by decide) rfl q1559 rfl dX1_passesFilter_115 ?_
    refine r_iload_n h 2 dX1_passesFilter_118 rfl rfl ?_
    refine zm_ldI h hc 80 80 48 (by decide) rfl rfl rfl (by decide) dX1_passesFilter_119 (fun _ hr3 => ?_)
    refine zm_cVz h hc (n := 3) (As := [iv x3, iv (σ 79 x1), iv (σ 80 x1)]) (fun o1 e1 => w_isCalled hc.1 _ x3 (σ 79 x1) (σ 80 x1) hx3 hr2 hr3 o1 e1) q2093 q2095 qs115 q136 q2096 (by decide +kernel) ⟨by decide, by decide⟩ rfl (Nat.le_of_ble_eq_true rfl) rfl dX1_passesFilter_120 (fun r4 σ5 hr6 => ?_)
    refine r_if_eq h hr6.r 158 dX1_passesFilter_123 rfl ?_ ?_
    · refine r_iinc (lv' := [(3, iv (x3 + 1)), (4, iv s0), (0, .ref (zm_h G)), (1, iv x1), (2, iv x2)]) h 4 dX1_passesFilter_158 rfl (hN _ (by decide)) rfl ?_
      refine r_goto h 30 dX1_passesFilter_161 rfl ?_
      refine r_ck (fun hk7 => ?_)
      exact r_lv [2, 3, 4, 0] rfl (hlp30 _ x1 x2 (x3 + 1) hx1 hx2 hk7)
    · refine r_aload_n h 1 dX1_passesFilter_126 rfl rfl ?_
      refine zm_getA h hc 78 (by decide) rfl q1557 rfl dX1_passesFilter_127 ?_
      refine r_iload_n h 2 dX1_passesFilter_130 rfl rfl ?_
      refine zm_ldI h hc 78 78 48 (by decide) rfl rfl rfl (by decide) dX1_passesFilter_131 (fun _ hr8 => ?_)
      refine r_iconst h dX1_passesFilter_132 ?_
      refine r_icmp_eq h hr8 (by decide) 156 dX1_passesFilter_133 rfl ?_ ?_
      · refine r_iconst h dX1_passesFilter_156 ?_
        exact zm_zret h hc rfl (by decide) dX1_passesFilter_157
      · refine r_aload_n h 1 dX1_passesFilter_136 rfl rfl ?_
        refine r_iload_n h 4 dX1_passesFilter_137 rfl rfl ?_
        refine r_aload_n h 1 dX1_passesFilter_138 rfl rfl ?_
        refine zm_getA h hc 82 (by decide) rfl q1561 rfl dX1_passesFilter_139 ?_
        refine r_iload_n h 2 dX1_passesFilter_142 rfl rfl ?_
        refine zm_ldI h hc 82 82 48 (by decide) rfl rfl rfl (by decide) dX1_passesFilter_143 (fun _ hr9 => ?_)
        refine r_aload_n h 1 dX1_passesFilter_144 rfl rfl ?_
        refine zm_getA h hc 83 (by decide) rfl q1562 rfl dX1_passesFilter_145 ?_
        refine r_iload_n h 2 dX1_passesFilter_148 rfl rfl ?_
        refine zm_ldI h hc 83 83 48 (by decide) rfl rfl rfl (by decide) dX1_passesFilter_149 (fun _ hr10 => ?_)
        refine zm_cVz h hc (n := 3) (As := [iv x3, iv (σ5 82 x1), iv (σ5 83 x1)]) (fun o1 e1 => w_hasString hc.1 _ x3 (σ5 82 x1) (σ5 83 x1) hx3 hr9 hr10 o1 e1) q2105 q2107 qs118 q136 q2108 (by decide +kernel) ⟨by decide, by decide⟩ rfl (Nat.le_of_ble_eq_true rfl) rfl dX1_passesFilter_150 (fun r11 σ12 hr13 => ?_)
        refine r_if_eq h hr13.r 158 dX1_passesFilter_153 rfl ?_ ?_
        · refine r_iinc (lv' := [(3, iv (x3 + 1)), (4, iv s0), (0, .ref (zm_h G)), (1, iv x1), (2, iv x2)]) h 4 dX1_passesFilter_158 rfl (hN _ (by decide)) rfl ?_
          refine r_goto h 30 dX1_passesFilter_161 rfl ?_
          refine r_ck (fun hk14 => ?_)
          exact r_lv [2, 3, 4, 0] rfl (hlp30 _ x1 x2 (x3 + 1) hx1 hx2 hk14)
        · refine r_iconst h dX1_passesFilter_156 ?_
          exact zm_zret h hc rfl (by decide) dX1_passesFilter_157
def m_passesFilter_98 (lp30 : MEM → Int → Int → Int → Option zm_O) (σ : MEM) (x1 x2 x3 : Int) : Option zm_O := m_passesFilter_99 lp30 σ x1 x2 x3 0
theorem w_passesFilter_98 {C : zv_Cx zm_O} {G : zm_G} (h : zv_Ok C cX1_passesFilter RX1) (hc : zm_C C G 5 (Option.some FieldType.boolean) 3 3 75) (lp30 : MEM → Int → Int → Int → Option zm_O) (hlp30 : ∀ (σ : MEM) (x1 x2 x3 : Int), inR x1 → inR x2 → inR x3 → VV C (lp30 σ x1 x2 x3) σ [(0, .ref (zm_h G)), (1, iv x1), (2, iv x2), (3, iv x3)] [] 30) (σ : MEM) (x1 x2 x3 : Int) (hx1 : inR x1) (hx2 : inR x2) (hx3 : inR x3) : VV C (m_passesFilter_98 lp30 σ x1 x2 x3) σ [(0, .ref (zm_h G)), (1, iv x1), (2, iv x2), (3, iv x3)] [] 98 := by
  have hN : ∀ i, i < 5 → i < zv_n C := fun i q => by rw [hc.2.2.1]; exact q
  unfold m_passesFilter_98
  refine r_iconst h dX1_passesFilter_98 ?_
  exact r_lv [0, 1, 2, 3] rfl (w_passesFilter_99 h hc lp30 hlp30 _ x1 x2 x3 0 hx1 hx2 hx3 (by decide))
def m_passesFilter_91 (lp30 : MEM → Int → Int → Int → Option zm_O) (σ : MEM) (x1 x2 x3 s0 s1 : Int) : Option zm_O := if s0 = s1 then (m_passesFilter_99 lp30 σ x1 x2 x3 1) else (m_passesFilter_98 lp30 σ x1 x2 x3)
theorem w_passesFilter_91 {C : zv_Cx zm_O} {G : zm_G} (h : zv_Ok C cX1_passesFilter RX1) (hc : zm_C C G 5 (Option.some FieldType.boolean) 3 3 75) (lp30 : MEM → Int → Int → Int → Option zm_O) (hlp30 : ∀ (σ : MEM) (x1 x2 x3 : Int), inR x1 → inR x2 → inR x3 → VV C (lp30 σ x1 x2 x3) σ [(0, .ref (zm_h G)), (1, iv x1), (2, iv x2), (3, iv x3)] [] 30) (σ : MEM) (x1 x2 x3 s0 s1 : Int) (hx1 : inR x1) (hx2 : inR x2) (hx3 : inR x3) (hs0 : inR s0) (hs1 : inR s1) : VV C (m_passesFilter_91 lp30 σ x1 x2 x3 s0 s1) σ [(0, .ref (zm_h G)), (1, iv x1), (2, iv x2), (3, iv x3)] [iv s1, iv s0] 91 := by
  have hN : ∀ i, i < 5 → i < zv_n C := fun i q => by rw [hc.2.2.1]; exact q
  unfold m_passesFilter_91
  refine r_icmp_ne h hs0 hs1 98 dX1_passesFilter_91 rfl ?_ ?_
  · refine r_iconst h dX1_passesFilter_94 ?_
    refine r_goto h 99 dX1_passesFilter_95 rfl ?_
    exact r_lv [0, 1, 2, 3] rfl (w_passesFilter_99 h hc lp30 hlp30 _ x1 x2 x3 1 hx1 hx2 hx3 (by decide))
  · exact r_lv [0, 1, 2, 3] rfl (w_passesFilter_98 h hc lp30 hlp30 _ x1 x2 x3 hx1 hx2 hx3)
def m_passesFilter_30 : Nat → MEM → Int → Int → Int → Option zm_O
  | 0, _, _, _, _ => none
  | n + 1, σ, x1, x2, x3 => ck (0 ≤ (σ (-1) 7) ∧ (σ (-1) 7) < 2) (if (σ 12 (σ (-1) 7)) ≤ x3 then (some (0, σ)) else (ck (0 ≤ ((600 * (σ (-1) 7)) + x3) ∧ ((600 * (σ (-1) 7)) + x3) < 1200) (if (σ 14 ((600 * (σ (-1) 7)) + x3)) = x2 then (ck (0 ≤ ((600 * (σ (-1) 7)) + x3) ∧ ((600 * (σ (-1) 7)) + x3) < 1200) (ck (0 ≤ x1 ∧ x1 < 48) (if (σ 81 x1) = 0 then (m_passesFilter_91 (m_passesFilter_30 n) σ x1 x2 x3 (σ 13 ((600 * (σ (-1) 7)) + x3)) 1) else (m_passesFilter_91 (m_passesFilter_30 n) σ x1 x2 x3 (σ 13 ((600 * (σ (-1) 7)) + x3)) 2)))) else (m_passesFilter_98 (m_passesFilter_30 n) σ x1 x2 x3))))
theorem w_passesFilter_30 {C : zv_Cx zm_O} {G : zm_G} (h : zv_Ok C cX1_passesFilter RX1) (hc : zm_C C G 5 (Option.some FieldType.boolean) 3 3 75) : ∀ (n : Nat) (σ : MEM) (x1 x2 x3 : Int), inR x1 → inR x2 → inR x3 → VV C (m_passesFilter_30 n σ x1 x2 x3) σ [(0, .ref (zm_h G)), (1, iv x1), (2, iv x2), (3, iv x3)] [] 30 := by
  have hN : ∀ i, i < 5 → i < zv_n C := fun i q => by rw [hc.2.2.1]; exact q
  intro n
  induction n with
  | zero => intros; exact r_none
  | succ n ih =>
    intro σ x1 x2 x3 hx1 hx2 hx3
    rw [m_passesFilter_30]
    refine r_iload_n h 3 dX1_passesFilter_30 rfl rfl ?_
    refine r_aload_n h 0 dX1_passesFilter_31 rfl rfl ?_
    refine zm_getA h hc 12 (by decide) rfl q1492 rfl dX1_passesFilter_32 ?_
    refine r_aload_n h 0 dX1_passesFilter_35 rfl rfl ?_
    refine zm_getI h hc 7 7 (by decide) rfl rfl q1487 rfl dX1_passesFilter_36 (fun hr1 => ?_)
    refine zm_ldI h hc 12 12 2 (by decide) rfl rfl rfl (by decide) dX1_passesFilter_39 (fun _ hr2 => ?_)
    refine r_icmp_ge h hx3 hr2 164 dX1_passesFilter_40 rfl ?_ ?_
    · refine r_iconst h dX1_passesFilter_164 ?_
      exact zm_zret h hc rfl (by decide) dX1_passesFilter_165
    · refine r_aload_n h 0 dX1_passesFilter_43 rfl rfl ?_
      refine zm_getA h hc 14 (by decide) rfl q1494 rfl dX1_passesFilter_44 ?_
      refine r_sipush h dX1_passesFilter_47 (by decide) ?_
      refine r_aload_n h 0 dX1_passesFilter_50 rfl rfl ?_
      refine zm_getI h hc 7 7 (by decide) rfl rfl q1487 rfl dX1_passesFilter_51 (fun hr3 => ?_)
      refine r_imul h dX1_passesFilter_54 ?_
      refine r_iload_n h 3 dX1_passesFilter_55 rfl rfl ?_
      refine r_iadd h dX1_passesFilter_56 ?_
      refine zm_ldI h hc 14 14 1200 (by decide) rfl rfl rfl (by decide) dX1_passesFilter_57 (fun _ hr4 => ?_)
      refine r_iload_n h 2 dX1_passesFilter_58 rfl rfl ?_
      refine r_icmp_ne h hr4 hx2 98 dX1_passesFilter_59 rfl ?_ ?_
      · refine r_aload_n h 0 dX1_passesFilter_62 rfl rfl ?_
        refine zm_getA h hc 13 (by decide) rfl q1493 rfl dX1_passesFilter_63 ?_
        refine r_sipush h dX1_passesFilter_66 (by decide) ?_
        refine r_aload_n h 0 dX1_passesFilter_69 rfl rfl ?_
        refine zm_getI h hc 7 7 (by decide) rfl rfl q1487 rfl dX1_passesFilter_70 (fun hr5 => ?_)
        refine r_imul h dX1_passesFilter_73 ?_
        refine r_iload_n h 3 dX1_passesFilter_74 rfl rfl ?_
        refine r_iadd h dX1_passesFilter_75 ?_
        refine zm_ldI h hc 13 13 1200 (by decide) rfl rfl rfl (by decide) dX1_passesFilter_76 (fun _ hr6 => ?_)
        refine r_aload_n h 0 dX1_passesFilter_77 rfl rfl ?_
        refine zm_getA h hc 81 (by decide) rfl q1560 rfl dX1_passesFilter_78 ?_
        refine r_iload_n h 1 dX1_passesFilter_81 rfl rfl ?_
        refine zm_ldZ h hc 81 81 48 (by decide) rfl rfl rfl (by decide) dX1_passesFilter_82 (fun _ hr7 => ?_)
        refine r_if_eq h hr7.r 90 dX1_passesFilter_83 rfl ?_ ?_
        · refine r_iconst h dX1_passesFilter_90 ?_
          exact r_lv [0, 1, 2, 3] rfl (w_passesFilter_91 h hc (m_passesFilter_30 n) ih _ x1 x2 x3 (σ 13 ((600 * (σ (-1) 7)) + x3)) 1 hx1 hx2 hx3 hr6 (by decide))
        · refine r_iconst h dX1_passesFilter_86 ?_
          refine r_goto h 91 dX1_passesFilter_87 rfl ?_
          exact r_lv [0, 1, 2, 3] rfl (w_passesFilter_91 h hc (m_passesFilter_30 n) ih _ x1 x2 x3 (σ 13 ((600 * (σ (-1) 7)) + x3)) 2 hx1 hx2 hx3 hr6 (by decide))
      · exact r_lv [0, 1, 2, 3] rfl (w_passesFilter_98 h hc (m_passesFilter_30 n) ih _ x1 x2 x3 hx1 hx2 hx3)
def m_passesFilter (σ : MEM) (a0 a1 : Int) : Option zm_O := ck (0 ≤ a0 ∧ a0 < 48) (if (σ 78 a0) = 4 then (ck (0 ≤ a0 ∧ a0 < 48) (ck (0 ≤ a0 ∧ a0 < 48) (bd (m_hasString σ a1 (σ 82 a0) (σ 83 a0)) (fun r4 σ5 => some (r4, σ5))))) else (m_passesFilter_30 zF σ a0 a1 0))
theorem w_passesFilter {G : zm_G} (hD : zm_D G) (σ : MEM) (a0 a1 : Int) (ha0 : inR a0) (ha1 : inR a1) (o : zm_O) (hd : m_passesFilter σ a0 a1 = some o) : zm_Met G yX1_passesFilter cX1_passesFilter 5 (Option.some FieldType.boolean) 3 3 75 σ [.ref (zm_h G), iv a0, iv a1] o := by
  refine zm_intro hD hd (by decide) rfl (Nat.le_of_ble_eq_true rfl) rfl (fun C h hc => ?_)
  have hN : ∀ i, i < 5 → i < zv_n C := fun i q => by rw [hc.2.2.1]; exact q
  unfold m_passesFilter
  refine r_aload_n h 0 dX1_passesFilter_0 rfl rfl ?_
  refine zm_getA h hc 78 (by decide) rfl q1557 rfl dX1_passesFilter_1 ?_
  refine r_iload_n h 1 dX1_passesFilter_4 rfl rfl ?_
  refine zm_ldI h hc 78 78 48 (by decide) rfl rfl rfl (by decide) dX1_passesFilter_5 (fun _ hr1 => ?_)
  refine r_iconst h dX1_passesFilter_6 ?_
  refine r_icmp_ne h hr1 (by decide) 28 dX1_passesFilter_7 rfl ?_ ?_
  · refine r_aload_n h 0 dX1_passesFilter_10 rfl rfl ?_
    refine r_iload_n h 2 dX1_passesFilter_11 rfl rfl ?_
    refine r_aload_n h 0 dX1_passesFilter_12 rfl rfl ?_
    refine zm_getA h hc 82 (by decide) rfl q1561 rfl dX1_passesFilter_13 ?_
    refine r_iload_n h 1 dX1_passesFilter_16 rfl rfl ?_
    refine zm_ldI h hc 82 82 48 (by decide) rfl rfl rfl (by decide) dX1_passesFilter_17 (fun _ hr2 => ?_)
    refine r_aload_n h 0 dX1_passesFilter_18 rfl rfl ?_
    refine zm_getA h hc 83 (by decide) rfl q1562 rfl dX1_passesFilter_19 ?_
    refine r_iload_n h 1 dX1_passesFilter_22 rfl rfl ?_
    refine zm_ldI h hc 83 83 48 (by decide) rfl rfl rfl (by decide) dX1_passesFilter_23 (fun _ hr3 => ?_)
    refine zm_cVz h hc (n := 3) (As := [iv a1, iv (σ 82 a0), iv (σ 83 a0)]) (fun o1 e1 => w_hasString hc.1 _ a1 (σ 82 a0) (σ 83 a0) ha1 hr2 hr3 o1 e1) q2105 q2107 qs118 q136 q2108 (by decide +kernel) ⟨by decide, by decide⟩ rfl (Nat.le_of_ble_eq_true rfl) rfl dX1_passesFilter_24 (fun r4 σ5 hr6 => ?_)
    exact zm_zret h hc rfl hr6 dX1_passesFilter_27
  · refine r_iconst h dX1_passesFilter_28 ?_
    refine r_istore_n (lv' := [(3, iv 0), (0, .ref (zm_h G)), (1, iv a0), (2, iv a1)]) h dX1_passesFilter_29 rfl (hN _ (by decide)) rfl ?_
    exact r_lv [1, 2, 3, 0] rfl (w_passesFilter_30 h hc zF _ a0 a1 0 ha0 ha1 (by decide))
theorem dX1_filterMine_0 : decode cX1_filterMine 0 = .ok (.iconst 0, 1) := by decide +kernel
theorem dX1_filterMine_1 : decode cX1_filterMine 1 = .ok (.istore_n 2, 1) := by decide +kernel
theorem dX1_filterMine_2 : decode cX1_filterMine 2 = .ok (.iconst 0, 1) := by decide +kernel
theorem dX1_filterMine_3 : decode cX1_filterMine 3 = .ok (.istore_n 3, 1) := by decide +kernel
theorem dX1_filterMine_4 : decode cX1_filterMine 4 = .ok (.iload_n 3, 1) := by decide +kernel
theorem dX1_filterMine_5 : decode cX1_filterMine 5 = .ok (.aload_n 0, 1) := by decide +kernel
theorem dX1_filterMine_6 : decode cX1_filterMine 6 = .ok (.getfield 27, 3) := by decide +kernel
theorem dX1_filterMine_9 : decode cX1_filterMine 9 = .ok (.aload_n 0, 1) := by decide +kernel
theorem dX1_filterMine_10 : decode cX1_filterMine 10 = .ok (.getfield 482, 3) := by decide +kernel
theorem dX1_filterMine_13 : decode cX1_filterMine 13 = .ok (.iaload, 1) := by decide +kernel
theorem dX1_filterMine_14 : decode cX1_filterMine 14 = .ok (.if_icmp .ge 26, 3) := by decide +kernel
theorem dX1_filterMine_17 : decode cX1_filterMine 17 = .ok (.iload_n 2, 1) := by decide +kernel
theorem dX1_filterMine_18 : decode cX1_filterMine 18 = .ok (.aload_n 0, 1) := by decide +kernel
theorem dX1_filterMine_19 : decode cX1_filterMine 19 = .ok (.getfield 179, 3) := by decide +kernel
theorem dX1_filterMine_22 : decode cX1_filterMine 22 = .ok (.iload_n 3, 1) := by decide +kernel
theorem dX1_filterMine_23 : decode cX1_filterMine 23 = .ok (.baload, 1) := by decide +kernel
theorem dX1_filterMine_24 : decode cX1_filterMine 24 = .ok (.ifCond .eq 7, 3) := by decide +kernel
theorem dX1_filterMine_27 : decode cX1_filterMine 27 = .ok (.iconst 1, 1) := by decide +kernel
theorem dX1_filterMine_28 : decode cX1_filterMine 28 = .ok (.goto 4, 3) := by decide +kernel
theorem dX1_filterMine_31 : decode cX1_filterMine 31 = .ok (.iconst 0, 1) := by decide +kernel
theorem dX1_filterMine_32 : decode cX1_filterMine 32 = .ok (.iadd, 1) := by decide +kernel
theorem dX1_filterMine_33 : decode cX1_filterMine 33 = .ok (.istore_n 2, 1) := by decide +kernel
theorem dX1_filterMine_34 : decode cX1_filterMine 34 = .ok (.iinc 3 1, 3) := by decide +kernel
theorem dX1_filterMine_37 : decode cX1_filterMine 37 = .ok (.goto (-33), 3) := by decide +kernel
theorem dX1_filterMine_40 : decode cX1_filterMine 40 = .ok (.iconst 0, 1) := by decide +kernel
theorem dX1_filterMine_41 : decode cX1_filterMine 41 = .ok (.istore_n 3, 1) := by decide +kernel
theorem dX1_filterMine_42 : decode cX1_filterMine 42 = .ok (.iconst 0, 1) := by decide +kernel
theorem dX1_filterMine_43 : decode cX1_filterMine 43 = .ok (.istore 4, 2) := by decide +kernel
theorem dX1_filterMine_45 : decode cX1_filterMine 45 = .ok (.iload 4, 2) := by decide +kernel
theorem dX1_filterMine_47 : decode cX1_filterMine 47 = .ok (.aload_n 0, 1) := by decide +kernel
theorem dX1_filterMine_48 : decode cX1_filterMine 48 = .ok (.getfield 27, 3) := by decide +kernel
theorem dX1_filterMine_51 : decode cX1_filterMine 51 = .ok (.aload_n 0, 1) := by decide +kernel
theorem dX1_filterMine_52 : decode cX1_filterMine 52 = .ok (.getfield 482, 3) := by decide +kernel
theorem dX1_filterMine_55 : decode cX1_filterMine 55 = .ok (.iaload, 1) := by decide +kernel
theorem dX1_filterMine_56 : decode cX1_filterMine 56 = .ok (.if_icmp .ge 86, 3) := by decide +kernel
theorem dX1_filterMine_59 : decode cX1_filterMine 59 = .ok (.aload_n 0, 1) := by decide +kernel
theorem dX1_filterMine_60 : decode cX1_filterMine 60 = .ok (.getfield 179, 3) := by decide +kernel
theorem dX1_filterMine_63 : decode cX1_filterMine 63 = .ok (.iload 4, 2) := by decide +kernel
theorem dX1_filterMine_65 : decode cX1_filterMine 65 = .ok (.baload, 1) := by decide +kernel
theorem dX1_filterMine_66 : decode cX1_filterMine 66 = .ok (.ifCond .eq 70, 3) := by decide +kernel
theorem dX1_filterMine_69 : decode cX1_filterMine 69 = .ok (.iinc 3 1, 3) := by decide +kernel
theorem dX1_filterMine_72 : decode cX1_filterMine 72 = .ok (.aload_n 0, 1) := by decide +kernel
theorem dX1_filterMine_73 : decode cX1_filterMine 73 = .ok (.getfield 179, 3) := by decide +kernel
theorem dX1_filterMine_76 : decode cX1_filterMine 76 = .ok (.iload 4, 2) := by decide +kernel
theorem dX1_filterMine_78 : decode cX1_filterMine 78 = .ok (.aload_n 0, 1) := by decide +kernel
theorem dX1_filterMine_79 : decode cX1_filterMine 79 = .ok (.getfield 197, 3) := by decide +kernel
theorem dX1_filterMine_82 : decode cX1_filterMine 82 = .ok (.iload_n 1, 1) := by decide +kernel
theorem dX1_filterMine_83 : decode cX1_filterMine 83 = .ok (.iaload, 1) := by decide +kernel
theorem dX1_filterMine_84 : decode cX1_filterMine 84 = .ok (.ifCond .ne 21, 3) := by decide +kernel
theorem dX1_filterMine_87 : decode cX1_filterMine 87 = .ok (.iload_n 3, 1) := by decide +kernel
theorem dX1_filterMine_88 : decode cX1_filterMine 88 = .ok (.aload_n 0, 1) := by decide +kernel
theorem dX1_filterMine_89 : decode cX1_filterMine 89 = .ok (.getfield 200, 3) := by decide +kernel
theorem dX1_filterMine_92 : decode cX1_filterMine 92 = .ok (.iload_n 1, 1) := by decide +kernel
theorem dX1_filterMine_93 : decode cX1_filterMine 93 = .ok (.iaload, 1) := by decide +kernel
theorem dX1_filterMine_94 : decode cX1_filterMine 94 = .ok (.if_icmp .ne 7, 3) := by decide +kernel
theorem dX1_filterMine_97 : decode cX1_filterMine 97 = .ok (.iconst 1, 1) := by decide +kernel
theorem dX1_filterMine_98 : decode cX1_filterMine 98 = .ok (.goto 37, 3) := by decide +kernel
theorem dX1_filterMine_101 : decode cX1_filterMine 101 = .ok (.iconst 0, 1) := by decide +kernel
theorem dX1_filterMine_102 : decode cX1_filterMine 102 = .ok (.goto 33, 3) := by decide +kernel
theorem dX1_filterMine_105 : decode cX1_filterMine 105 = .ok (.aload_n 0, 1) := by decide +kernel
theorem dX1_filterMine_106 : decode cX1_filterMine 106 = .ok (.getfield 197, 3) := by decide +kernel
theorem dX1_filterMine_109 : decode cX1_filterMine 109 = .ok (.iload_n 1, 1) := by decide +kernel
theorem dX1_filterMine_110 : decode cX1_filterMine 110 = .ok (.iaload, 1) := by decide +kernel
theorem dX1_filterMine_111 : decode cX1_filterMine 111 = .ok (.iconst 1, 1) := by decide +kernel
theorem dX1_filterMine_112 : decode cX1_filterMine 112 = .ok (.if_icmp .ne 16, 3) := by decide +kernel
theorem dX1_filterMine_115 : decode cX1_filterMine 115 = .ok (.iload_n 3, 1) := by decide +kernel
theorem dX1_filterMine_116 : decode cX1_filterMine 116 = .ok (.iload_n 2, 1) := by decide +kernel
theorem dX1_filterMine_117 : decode cX1_filterMine 117 = .ok (.if_icmp .ne 7, 3) := by decide +kernel
theorem dX1_filterMine_120 : decode cX1_filterMine 120 = .ok (.iconst 1, 1) := by decide +kernel
theorem dX1_filterMine_121 : decode cX1_filterMine 121 = .ok (.goto 14, 3) := by decide +kernel
theorem dX1_filterMine_124 : decode cX1_filterMine 124 = .ok (.iconst 0, 1) := by decide +kernel
theorem dX1_filterMine_125 : decode cX1_filterMine 125 = .ok (.goto 10, 3) := by decide +kernel
theorem dX1_filterMine_128 : decode cX1_filterMine 128 = .ok (.aload_n 0, 1) := by decide +kernel
theorem dX1_filterMine_129 : decode cX1_filterMine 129 = .ok (.iload_n 1, 1) := by decide +kernel
theorem dX1_filterMine_130 : decode cX1_filterMine 130 = .ok (.iload 4, 2) := by decide +kernel
theorem dX1_filterMine_132 : decode cX1_filterMine 132 = .ok (.invokevirtual 600, 3) := by decide +kernel
theorem dX1_filterMine_135 : decode cX1_filterMine 135 = .ok (.bastore, 1) := by decide +kernel
theorem dX1_filterMine_136 : decode cX1_filterMine 136 = .ok (.iinc 4 1, 3) := by decide +kernel
theorem dX1_filterMine_139 : decode cX1_filterMine 139 = .ok (.goto (-94), 3) := by decide +kernel
theorem dX1_filterMine_142 : decode cX1_filterMine 142 = .ok (.return_, 1) := by decide +kernel
def m_filterMine_45 : Nat → MEM → Int → Int → Int → Int → Option zm_O
  | 0, _, _, _, _, _ => none
  | n + 1, σ, x1, x2, x3, x4 => ck (0 ≤ (σ (-1) 7) ∧ (σ (-1) 7) < 2) (if (σ 12 (σ (-1) 7)) ≤ x4 then (some (0, σ)) else (ck (0 ≤ x4 ∧ x4 < 600) (if (σ 72 x4) = 0 then (ck (inR (x4 + 1)) (m_filterMine_45 n σ x1 x2 x3 (x4 + 1))) else (ck (0 ≤ x1 ∧ x1 < 48) (if (σ 78 x1) = 0 then (ck (0 ≤ x1 ∧ x1 < 48) (ck (inR (x3 + 1)) (if (x3 + 1) = (σ 79 x1) then (ck (0 ≤ x4 ∧ x4 < 600) (nu (mup σ 72 x4 1) (fun σ8 => ck (inR (x4 + 1)) (m_filterMine_45 n σ8 x1 x2 (x3 + 1) (x4 + 1))))) else (ck (0 ≤ x4 ∧ x4 < 600) (nu (mup σ 72 x4 0) (fun σ10 => ck (inR (x4 + 1)) (m_filterMine_45 n σ10 x1 x2 (x3 + 1) (x4 + 1)))))))) else (ck (0 ≤ x1 ∧ x1 < 48) (if (σ 78 x1) = 1 then (ck (inR (x3 + 1)) (if (x3 + 1) = x2 then (ck (0 ≤ x4 ∧ x4 < 600) (nu (mup σ 72 x4 1) (fun σ14 => ck (inR (x4 + 1)) (m_filterMine_45 n σ14 x1 x2 (x3 + 1) (x4 + 1))))) else (ck (0 ≤ x4 ∧ x4 < 600) (nu (mup σ 72 x4 0) (fun σ16 => ck (inR (x4 + 1)) (m_filterMine_45 n σ16 x1 x2 (x3 + 1) (x4 + 1))))))) else (bd (m_passesFilter σ x1 x4) (fun r18 σ19 => ck (0 ≤ x4 ∧ x4 < 600) (nu (mup σ19 72 x4 r18) (fun σ21 => ck (inR (x3 + 1)) (ck (inR (x4 + 1)) (m_filterMine_45 n σ21 x1 x2 (x3 + 1) (x4 + 1))))))))))))))
theorem w_filterMine_45 {C : zv_Cx zm_O} {G : zm_G} (h : zv_Ok C cX1_filterMine RX1) (hc : zm_C C G 5 (Option.none : Option FieldType) 0 4 99) : ∀ (n : Nat) (σ : MEM) (x1 x2 x3 x4 : Int), inR x1 → inR x2 → inR x3 → inR x4 → VV C (m_filterMine_45 n σ x1 x2 x3 x4) σ [(0, .ref (zm_h G)), (1, iv x1), (2, iv x2), (3, iv x3), (4, iv x4)] [] 45 := by
  have hN : ∀ i, i < 5 → i < zv_n C := fun i q => by rw [hc.2.2.1]; exact q
  intro n
  induction n with
  | zero => intros; exact r_none
  | succ n ih =>
    intro σ x1 x2 x3 x4 hx1 hx2 hx3 hx4
    rw [m_filterMine_45]
    refine r_iload h 4 dX1_filterMine_45 rfl ?_
    refine r_aload_n h 0 dX1_filterMine_47 rfl rfl ?_
    refine zm_getA h hc 12 (by decide) rfl q1492 rfl dX1_filterMine_48 ?_
    refine r_aload_n h 0 dX1_filterMine_51 rfl rfl ?_
    refine zm_getI h hc 7 7 (by decide) rfl rfl q1487 rfl dX1_filterMine_52 (fun hr1 => ?_)
    refine zm_ldI h hc 12 12 2 (by decide) rfl rfl rfl (by decide) dX1_filterMine_55 (fun _ hr2 => ?_)
    refine r_icmp_ge h hx4 hr2 142 dX1_filterMine_56 rfl ?_ ?_
    · exact zm_vret h hc rfl dX1_filterMine_142
    · refine r_aload_n h 0 dX1_filterMine_59 rfl rfl ?_
      refine zm_getA h hc 72 (by decide) rfl q1551 rfl dX1_filterMine_60 ?_
      refine r_iload h 4 dX1_filterMine_63 rfl ?_
      refine zm_ldZ h hc 72 72 600 (by decide) rfl rfl rfl (by decide) dX1_filterMine_65 (fun _ hr3 => ?_)
      refine r_if_eq h hr3.r 136 dX1_filterMine_66 rfl ?_ ?_
      · refine r_iinc (lv' := [(4, iv (x4 + 1)), (0, .ref (zm_h G)), (1, iv x1), (2, iv x2), (3, iv x3)]) h 4 dX1_filterMine_136 rfl (hN _ (by decide)) rfl ?_
        refine r_goto h 45 dX1_filterMine_139 rfl ?_
        refine r_ck (fun hk4 => ?_)
        exact r_lv [1, 2, 3, 4, 0] rfl (ih _ x1 x2 x3 (x4 + 1) hx1 hx2 hx3 hk4)
      · refine r_iinc (lv' := [(3, iv (x3 + 1)), (0, .ref (zm_h G)), (1, iv x1), (2, iv x2), (4, iv x4)]) h 3 dX1_filterMine_69 rfl (hN _ (by decide)) rfl ?_
        refine r_aload_n h 1 dX1_filterMine_72 rfl rfl ?_
        refine zm_getA h hc 72 (by decide) rfl q1551 rfl dX1_filterMine_73 ?_
        refine r_iload h 4 dX1_filterMine_76 rfl ?_
        refine r_aload_n h 1 dX1_filterMine_78 rfl rfl ?_
        refine zm_getA h hc 78 (by decide) rfl q1557 rfl dX1_filterMine_79 ?_
        refine r_iload_n h 2 dX1_filterMine_82 rfl rfl ?_
        refine zm_ldI h hc 78 78 48 (by decide) rfl rfl rfl (by decide) dX1_filterMine_83 (fun _ hr5 => ?_)
        refine r_if_ne h hr5 105 dX1_filterMine_84 rfl ?_ ?_
        · refine r_iload_n h 0 dX1_filterMine_87 rfl rfl ?_
          refine r_aload_n h 1 dX1_filterMine_88 rfl rfl ?_
          refine zm_getA h hc 79 (by decide) rfl q1558 rfl dX1_filterMine_89 ?_
          refine r_iload_n h 2 dX1_filterMine_92 rfl rfl ?_
          refine zm_ldI h hc 79 79 48 (by decide) rfl rfl rfl (by decide) dX1_filterMine_93 (fun _ hr6 => ?_)
          refine r_ck (fun hk7 => ?_)
          refine r_icmp_ne h hk7 hr6 101 dX1_filterMine_94 rfl ?_ ?_
          · refine r_iconst h dX1_filterMine_97 ?_
            refine r_goto h 135 dX1_filterMine_98 rfl ?_
            refine zm_stZ h hc 72 72 600 (by decide) rfl rfl rfl (by decide) (by decide) dX1_filterMine_135 (fun _ σ8 _ => ?_)
            refine r_iinc (lv' := [(4, iv (x4 + 1)), (3, iv (x3 + 1)), (0, .ref (zm_h G)), (1, iv x1), (2, iv x2)]) h 4 dX1_filterMine_136 rfl (hN _ (by decide)) rfl ?_
            refine r_goto h 45 dX1_filterMine_139 rfl ?_
            refine r_ck (fun hk9 => ?_)
            exact r_lv [2, 3, 4, 1, 0] rfl (ih _ x1 x2 (x3 + 1) (x4 + 1) hx1 hx2 hk7 hk9)
          · refine r_iconst h dX1_filterMine_101 ?_
            refine r_goto h 135 dX1_filterMine_102 rfl ?_
            refine zm_stZ h hc 72 72 600 (by decide) rfl rfl rfl (by decide) (by decide) dX1_filterMine_135 (fun _ σ10 _ => ?_)
            refine r_iinc (lv' := [(4, iv (x4 + 1)), (3, iv (x3 + 1)), (0, .ref (zm_h G)), (1, iv x1), (2, iv x2)]) h 4 dX1_filterMine_136 rfl (hN _ (by decide)) rfl ?_
            refine r_goto h 45 dX1_filterMine_139 rfl ?_
            refine r_ck (fun hk11 => ?_)
            exact r_lv [2, 3, 4, 1, 0] rfl (ih _ x1 x2 (x3 + 1) (x4 + 1) hx1 hx2 hk7 hk11)
        · refine r_aload_n h 1 dX1_filterMine_105 rfl rfl ?_
          refine zm_getA h hc 78 (by decide) rfl q1557 rfl dX1_filterMine_106 ?_
          refine r_iload_n h 2 dX1_filterMine_109 rfl rfl ?_
          refine zm_ldI h hc 78 78 48 (by decide) rfl rfl rfl (by decide) dX1_filterMine_110 (fun _ hr12 => ?_)
          refine r_iconst h dX1_filterMine_111 ?_
          refine r_icmp_ne h hr12 (by decide) 128 dX1_filterMine_112 rfl ?_ ?_
          · refine r_iload_n h 0 dX1_filterMine_115 rfl rfl ?_
            refine r_iload_n h 3 dX1_filterMine_116 rfl rfl ?_
            refine r_ck (fun hk13 => ?_)
            refine r_icmp_ne h hk13 hx2 124 dX1_filterMine_117 rfl ?_ ?_
            · refine r_iconst h dX1_filterMine_120 ?_
              refine r_goto h 135 dX1_filterMine_121 rfl ?_
              refine zm_stZ h hc 72 72 600 (by decide) rfl rfl rfl (by decide) (by decide) dX1_filterMine_135 (fun _ σ14 _ => ?_)
              refine r_iinc (lv' := [(4, iv (x4 + 1)), (3, iv (x3 + 1)), (0, .ref (zm_h G)), (1, iv x1), (2, iv x2)]) h 4 dX1_filterMine_136 rfl (hN _ (by decide)) rfl ?_
              refine r_goto h 45 dX1_filterMine_139 rfl ?_
              refine r_ck (fun hk15 => ?_)
              exact r_lv [2, 3, 4, 1, 0] rfl (ih _ x1 x2 (x3 + 1) (x4 + 1) hx1 hx2 hk13 hk15)
            · refine r_iconst h dX1_filterMine_124 ?_
              refine r_goto h 135 dX1_filterMine_125 rfl ?_
              refine zm_stZ h hc 72 72 600 (by decide) rfl rfl rfl (by decide) (by decide) dX1_filterMine_135 (fun _ σ16 _ => ?_)
              refine r_iinc (lv' := [(4, iv (x4 + 1)), (3, iv (x3 + 1)), (0, .ref (zm_h G)), (1, iv x1), (2, iv x2)]) h 4 dX1_filterMine_136 rfl (hN _ (by decide)) rfl ?_
              refine r_goto h 45 dX1_filterMine_139 rfl ?_
              refine r_ck (fun hk17 => ?_)
              exact r_lv [2, 3, 4, 1, 0] rfl (ih _ x1 x2 (x3 + 1) (x4 + 1) hx1 hx2 hk13 hk17)
          · refine r_aload_n h 1 dX1_filterMine_128 rfl rfl ?_
            refine r_iload_n h 2 dX1_filterMine_129 rfl rfl ?_
            refine r_iload h 4 dX1_filterMine_130 rfl ?_
            refine zm_cVz h hc (n := 2) (As := [iv x1, iv x4]) (fun o1 e1 => w_passesFilter hc.1 _ x1 x4 hx1 hx4 o1 e1) q2101 q2103 qs117 q136 q2104 (by decide +kernel) ⟨by decide, by decide⟩ rfl (Nat.le_of_ble_eq_true rfl) rfl dX1_filterMine_132 (fun r18 σ19 hr20 => ?_)
            refine zm_stZ h hc 72 72 600 (by decide) rfl rfl rfl (by decide) hr20 dX1_filterMine_135 (fun _ σ21 _ => ?_)
            refine r_iinc (lv' := [(4, iv (x4 + 1)), (3, iv (x3 + 1)), (0, .ref (zm_h G)), (1, iv x1), (2, iv x2)]) h 4 dX1_filterMine_136 rfl (hN _ (by decide)) rfl ?_
            refine r_goto h 45 dX1_filterMine_139 rfl ?_
            refine r_ck (fun hk22 => ?_)
            refine r_ck (fun hk23 => ?_)
            exact r_lv [2, 3, 4, 1, 0] rfl (ih _ x1 x2 (x3 + 1) (x4 + 1) hx1 hx2 hk22 hk23)
def m_filterMine_4 : Nat → MEM → Int → Int → Int → Option zm_O
  | 0, _, _, _, _ => none
  | n + 1, σ, x1, x2, x3 => ck (0 ≤ (σ (-1) 7) ∧ (σ (-1) 7) < 2) (if (σ 12 (σ (-1) 7)) ≤ x3 then (m_filterMine_45 zF σ x1 x2 0 0) else (ck (0 ≤ x3 ∧ x3 < 600) (if (σ 72 x3) = 0 then (ck (inR (x2 + 0)) (ck (inR (x3 + 1)) (m_filterMine_4 n σ x1 (x2 + 0) (x3 + 1)))) else (ck (inR (x2 + 1)) (ck (inR (x3 + 1)) (m_filterMine_4 n σ x1 (x2 + 1) (x3 + 1)))))))
theorem w_filterMine_4 {C : zv_Cx zm_O} {G : zm_G} (h : zv_Ok C cX1_filterMine RX1) (hc : zm_C C G 5 (Option.none : Option FieldType) 0 4 99) : ∀ (n : Nat) (σ : MEM) (x1 x2 x3 : Int), inR x1 → inR x2 → inR x3 → VV C (m_filterMine_4 n σ x1 x2 x3) σ [(0, .ref (zm_h G)), (1, iv x1), (2, iv x2), (3, iv x3)] [] 4 := by
  have hN : ∀ i, i < 5 → i < zv_n C := fun i q => by rw [hc.2.2.1]; exact q
  intro n
  induction n with
  | zero => intros; exact r_none
  | succ n ih =>
    intro σ x1 x2 x3 hx1 hx2 hx3
    rw [m_filterMine_4]
    refine r_iload_n h 3 dX1_filterMine_4 rfl rfl ?_
    refine r_aload_n h 0 dX1_filterMine_5 rfl rfl ?_
    refine zm_getA h hc 12 (by decide) rfl q1492 rfl dX1_filterMine_6 ?_
    refine r_aload_n h 0 dX1_filterMine_9 rfl rfl ?_
    refine zm_getI h hc 7 7 (by decide) rfl rfl q1487 rfl dX1_filterMine_10 (fun hr1 => ?_)
    refine zm_ldI h hc 12 12 2 (by decide) rfl rfl rfl (by decide) dX1_filterMine_13 (fun _ hr2 => ?_)
    refine r_icmp_ge h hx3 hr2 40 dX1_filterMine_14 rfl ?_ ?_
    · refine r_iconst h dX1_filterMine_40 ?_
      refine r_istore_n (lv' := [(3, iv 0), (0, .ref (zm_h G)), (1, iv x1), (2, iv x2)]) h dX1_filterMine_41 rfl (hN _ (by decide)) rfl ?_
      refine r_iconst h dX1_filterMine_42 ?_
      refine r_istore (lv' := [(4, iv 0), (3, iv 0), (0, .ref (zm_h G)), (1, iv x1), (2, iv x2)]) h dX1_filterMine_43 (hN _ (by decide)) rfl ?_
      exact r_lv [2, 3, 4, 1, 0] rfl (w_filterMine_45 h hc zF _ x1 x2 0 0 hx1 hx2 (by decide) (by decide))
    · refine r_iload_n h 2 dX1_filterMine_17 rfl rfl ?_
      refine r_aload_n h 0 dX1_filterMine_18 rfl rfl ?_
      refine zm_getA h hc 72 (by decide) rfl q1551 rfl dX1_filterMine_19 ?_
      refine r_iload_n h 3 dX1_filterMine_22 rfl rfl ?_
      refine zm_ldZ h hc 72 72 600 (by decide) rfl rfl rfl (by decide) dX1_filterMine_23 (fun _ hr3 => ?_)
      refine r_if_eq h hr3.r 31 dX1_filterMine_24 rfl ?_ ?_
      · refine r_iconst h dX1_filterMine_31 ?_
        refine r_iadd h dX1_filterMine_32 ?_
        refine r_istore_n (lv' := [(2, iv (x2 + 0)), (0, .ref (zm_h G)), (1, iv x1), (3, iv x3)]) h dX1_filterMine_33 rfl (hN _ (by decide)) rfl ?_
        refine r_iinc (lv' := [(3, iv (x3 + 1)), (2, iv (x2 + 0)), (0, .ref (zm_h G)), (1, iv x1)]) h 3 dX1_filterMine_34 rfl (hN _ (by decide)) rfl ?_
        refine r_goto h 4 dX1_filterMine_37 rfl ?_
        refine r_ck (fun hk4 => ?_)
        refine r_ck (fun hk5 => ?_)
        exact r_lv [2, 3, 1, 0] rfl (ih _ x1 (x2 + 0) (x3 + 1) hx1 hk4 hk5)
      · refine r_iconst h dX1_filterMine_27 ?_
        refine r_goto h 32 dX1_filterMine_28 rfl ?_
        refine r_iadd h dX1_filterMine_32 ?_
        refine r_istore_n (lv' := [(2, iv (x2 + 1)), (0, .ref (zm_h G)), (1, iv x1), (3, iv x3)]) h dX1_filterMine_33 rfl (hN _ (by decide)) rfl ?_
        refine r_iinc (lv' := [(3, iv (x3 + 1)), (2, iv (x2 + 1)), (0, .ref (zm_h G)), (1, iv x1)]) h 3 dX1_filterMine_34 rfl (hN _ (by decide)) rfl ?_
        refine r_goto h 4 dX1_filterMine_37 rfl ?_
        refine r_ck (fun hk6 => ?_)
        refine r_ck (fun hk7 => ?_)
        exact r_lv [2, 3, 1, 0] rfl (ih _ x1 (x2 + 1) (x3 + 1) hx1 hk6 hk7)
def m_filterMine (σ : MEM) (a0 : Int) : Option zm_O := m_filterMine_4 zF σ a0 0 0
theorem w_filterMine {G : zm_G} (hD : zm_D G) (σ : MEM) (a0 : Int) (ha0 : inR a0) (o : zm_O) (hd : m_filterMine σ a0 = some o) : zm_Met G yX1_filterMine cX1_filterMine 5 (Option.none : Option FieldType) 0 4 99 σ [.ref (zm_h G), iv a0] o := by
  refine zm_intro hD hd (by decide) rfl (Nat.le_of_ble_eq_true rfl) rfl (fun C h hc => ?_)
  have hN : ∀ i, i < 5 → i < zv_n C := fun i q => by rw [hc.2.2.1]; exact q
  unfold m_filterMine
  refine r_iconst h dX1_filterMine_0 ?_
  refine r_istore_n (lv' := [(2, iv 0), (0, .ref (zm_h G)), (1, iv a0)]) h dX1_filterMine_1 rfl (hN _ (by decide)) rfl ?_
  refine r_iconst h dX1_filterMine_2 ?_
  refine r_istore_n (lv' := [(3, iv 0), (2, iv 0), (0, .ref (zm_h G)), (1, iv a0)]) h dX1_filterMine_3 rfl (hN _ (by decide)) rfl ?_
  exact r_lv [2, 3, 1, 0] rfl (w_filterMine_4 h hc zF _ a0 0 0 ha0 (by decide) (by decide))
theorem dX1_goStep_0 : decode cX1_goStep 0 = .ok (.aload_n 0, 1) := by decide +kernel
theorem dX1_goStep_1 : decode cX1_goStep 1 = .ok (.getfield 27, 3) := by decide +kernel
theorem dX1_goStep_4 : decode cX1_goStep 4 = .ok (.aload_n 0, 1) := by decide +kernel
theorem dX1_goStep_5 : decode cX1_goStep 5 = .ok (.getfield 482, 3) := by decide +kernel
theorem dX1_goStep_8 : decode cX1_goStep 8 = .ok (.iaload, 1) := by decide +kernel
theorem dX1_goStep_9 : decode cX1_goStep 9 = .ok (.istore_n 2, 1) := by decide +kernel
theorem dX1_goStep_10 : decode cX1_goStep 10 = .ok (.aload_n 0, 1) := by decide +kernel
theorem dX1_goStep_11 : decode cX1_goStep 11 = .ok (.getfield 185, 3) := by decide +kernel
theorem dX1_goStep_14 : decode cX1_goStep 14 = .ok (.iload_n 1, 1) := by decide +kernel
theorem dX1_goStep_15 : decode cX1_goStep 15 = .ok (.baload, 1) := by decide +kernel
theorem dX1_goStep_16 : decode cX1_goStep 16 = .ok (.ifCond .eq 128, 3) := by decide +kernel
theorem dX1_goStep_19 : decode cX1_goStep 19 = .ok (.iconst 0, 1) := by decide +kernel
theorem dX1_goStep_20 : decode cX1_goStep 20 = .ok (.istore_n 3, 1) := by decide +kernel
theorem dX1_goStep_21 : decode cX1_goStep 21 = .ok (.iload_n 3, 1) := by decide +kernel
theorem dX1_goStep_22 : decode cX1_goStep 22 = .ok (.iload_n 2, 1) := by decide +kernel
theorem dX1_goStep_23 : decode cX1_goStep 23 = .ok (.if_icmp .ge 96, 3) := by decide +kernel
theorem dX1_goStep_26 : decode cX1_goStep 26 = .ok (.aload_n 0, 1) := by decide +kernel
theorem dX1_goStep_27 : decode cX1_goStep 27 = .ok (.getfield 176, 3) := by decide +kernel
theorem dX1_goStep_30 : decode cX1_goStep 30 = .ok (.iload_n 3, 1) := by decide +kernel
theorem dX1_goStep_31 : decode cX1_goStep 31 = .ok (.iconst 0, 1) := by decide +kernel
theorem dX1_goStep_32 : decode cX1_goStep 32 = .ok (.bastore, 1) := by decide +kernel
theorem dX1_goStep_33 : decode cX1_goStep 33 = .ok (.iconst 0, 1) := by decide +kernel
theorem dX1_goStep_34 : decode cX1_goStep 34 = .ok (.istore 4, 2) := by decide +kernel
theorem dX1_goStep_36 : decode cX1_goStep 36 = .ok (.iload 4, 2) := by decide +kernel
theorem dX1_goStep_38 : decode cX1_goStep 38 = .ok (.iload_n 3, 1) := by decide +kernel
theorem dX1_goStep_39 : decode cX1_goStep 39 = .ok (.if_icmp .gt 74, 3) := by decide +kernel
theorem dX1_goStep_42 : decode cX1_goStep 42 = .ok (.aload_n 0, 1) := by decide +kernel
theorem dX1_goStep_43 : decode cX1_goStep 43 = .ok (.getfield 176, 3) := by decide +kernel
theorem dX1_goStep_46 : decode cX1_goStep 46 = .ok (.iload_n 3, 1) := by decide +kernel
theorem dX1_goStep_47 : decode cX1_goStep 47 = .ok (.aload_n 0, 1) := by decide +kernel
theorem dX1_goStep_48 : decode cX1_goStep 48 = .ok (.getfield 176, 3) := by decide +kernel
theorem dX1_goStep_51 : decode cX1_goStep 51 = .ok (.iload_n 3, 1) := by decide +kernel
theorem dX1_goStep_52 : decode cX1_goStep 52 = .ok (.baload, 1) := by decide +kernel
theorem dX1_goStep_53 : decode cX1_goStep 53 = .ok (.ifCond .ne 48, 3) := by decide +kernel
theorem dX1_goStep_56 : decode cX1_goStep 56 = .ok (.aload_n 0, 1) := by decide +kernel
theorem dX1_goStep_57 : decode cX1_goStep 57 = .ok (.getfield 173, 3) := by decide +kernel
theorem dX1_goStep_60 : decode cX1_goStep 60 = .ok (.iload 4, 2) := by decide +kernel
theorem dX1_goStep_62 : decode cX1_goStep 62 = .ok (.baload, 1) := by decide +kernel
theorem dX1_goStep_63 : decode cX1_goStep 63 = .ok (.ifCond .eq 42, 3) := by decide +kernel
theorem dX1_goStep_66 : decode cX1_goStep 66 = .ok (.iload 4, 2) := by decide +kernel
theorem dX1_goStep_68 : decode cX1_goStep 68 = .ok (.iload_n 3, 1) := by decide +kernel
theorem dX1_goStep_69 : decode cX1_goStep 69 = .ok (.if_icmp .eq 32, 3) := by decide +kernel
theorem dX1_goStep_72 : decode cX1_goStep 72 = .ok (.aload_n 0, 1) := by decide +kernel
theorem dX1_goStep_73 : decode cX1_goStep 73 = .ok (.getfield 31, 3) := by decide +kernel
theorem dX1_goStep_76 : decode cX1_goStep 76 = .ok (.sipush 600, 3) := by decide +kernel
theorem dX1_goStep_79 : decode cX1_goStep 79 = .ok (.aload_n 0, 1) := by decide +kernel
theorem dX1_goStep_80 : decode cX1_goStep 80 = .ok (.getfield 482, 3) := by decide +kernel
theorem dX1_goStep_83 : decode cX1_goStep 83 = .ok (.imul, 1) := by decide +kernel
theorem dX1_goStep_84 : decode cX1_goStep 84 = .ok (.iload_n 3, 1) := by decide +kernel
theorem dX1_goStep_85 : decode cX1_goStep 85 = .ok (.iadd, 1) := by decide +kernel
theorem dX1_goStep_86 : decode cX1_goStep 86 = .ok (.iaload, 1) := by decide +kernel
theorem dX1_goStep_87 : decode cX1_goStep 87 = .ok (.iconst 1, 1) := by decide +kernel
theorem dX1_goStep_88 : decode cX1_goStep 88 = .ok (.if_icmp .ne 17, 3) := by decide +kernel
theorem dX1_goStep_91 : decode cX1_goStep 91 = .ok (.aload_n 0, 1) := by decide +kernel
theorem dX1_goStep_92 : decode cX1_goStep 92 = .ok (.iload_n 3, 1) := by decide +kernel
theorem dX1_goStep_93 : decode cX1_goStep 93 = .ok (.iload 4, 2) := by decide +kernel
theorem dX1_goStep_95 : decode cX1_goStep 95 = .ok (.invokevirtual 603, 3) := by decide +kernel
theorem dX1_goStep_98 : decode cX1_goStep 98 = .ok (.ifCond .eq 7, 3) := by decide +kernel
theorem dX1_goStep_101 : decode cX1_goStep 101 = .ok (.iconst 1, 1) := by decide +kernel
theorem dX1_goStep_102 : decode cX1_goStep 102 = .ok (.goto 4, 3) := by decide +kernel
theorem dX1_goStep_105 : decode cX1_goStep 105 = .ok (.iconst 0, 1) := by decide +kernel
theorem dX1_goStep_106 : decode cX1_goStep 106 = .ok (.bastore, 1) := by decide +kernel
theorem dX1_goStep_107 : decode cX1_goStep 107 = .ok (.iinc 4 1, 3) := by decide +kernel
theorem dX1_goStep_110 : decode cX1_goStep 110 = .ok (.goto (-74), 3) := by decide +kernel
theorem dX1_goStep_113 : decode cX1_goStep 113 = .ok (.iinc 3 1, 3) := by decide +kernel
theorem dX1_goStep_116 : decode cX1_goStep 116 = .ok (.goto (-95), 3) := by decide +kernel
theorem dX1_goStep_119 : decode cX1_goStep 119 = .ok (.iconst 0, 1) := by decide +kernel
theorem dX1_goStep_120 : decode cX1_goStep 120 = .ok (.istore_n 3, 1) := by decide +kernel
theorem dX1_goStep_121 : decode cX1_goStep 121 = .ok (.iload_n 3, 1) := by decide +kernel
theorem dX1_goStep_122 : decode cX1_goStep 122 = .ok (.iload_n 2, 1) := by decide +kernel
theorem dX1_goStep_123 : decode cX1_goStep 123 = .ok (.if_icmp .ge 21, 3) := by decide +kernel
theorem dX1_goStep_126 : decode cX1_goStep 126 = .ok (.aload_n 0, 1) := by decide +kernel
theorem dX1_goStep_127 : decode cX1_goStep 127 = .ok (.getfield 173, 3) := by decide +kernel
theorem dX1_goStep_130 : decode cX1_goStep 130 = .ok (.iload_n 3, 1) := by decide +kernel
theorem dX1_goStep_131 : decode cX1_goStep 131 = .ok (.aload_n 0, 1) := by decide +kernel
theorem dX1_goStep_132 : decode cX1_goStep 132 = .ok (.getfield 176, 3) := by decide +kernel
theorem dX1_goStep_135 : decode cX1_goStep 135 = .ok (.iload_n 3, 1) := by decide +kernel
theorem dX1_goStep_136 : decode cX1_goStep 136 = .ok (.baload, 1) := by decide +kernel
theorem dX1_goStep_137 : decode cX1_goStep 137 = .ok (.bastore, 1) := by decide +kernel
theorem dX1_goStep_138 : decode cX1_goStep 138 = .ok (.iinc 3 1, 3) := by decide +kernel
theorem dX1_goStep_141 : decode cX1_goStep 141 = .ok (.goto (-20), 3) := by decide +kernel
theorem dX1_goStep_144 : decode cX1_goStep 144 = .ok (.iconst 0, 1) := by decide +kernel
theorem dX1_goStep_145 : decode cX1_goStep 145 = .ok (.istore_n 3, 1) := by decide +kernel
theorem dX1_goStep_146 : decode cX1_goStep 146 = .ok (.iload_n 3, 1) := by decide +kernel
theorem dX1_goStep_147 : decode cX1_goStep 147 = .ok (.iload_n 2, 1) := by decide +kernel
theorem dX1_goStep_148 : decode cX1_goStep 148 = .ok (.if_icmp .ge 16, 3) := by decide +kernel
theorem dX1_goStep_151 : decode cX1_goStep 151 = .ok (.aload_n 0, 1) := by decide +kernel
theorem dX1_goStep_152 : decode cX1_goStep 152 = .ok (.getfield 176, 3) := by decide +kernel
theorem dX1_goStep_155 : decode cX1_goStep 155 = .ok (.iload_n 3, 1) := by decide +kernel
theorem dX1_goStep_156 : decode cX1_goStep 156 = .ok (.iconst 0, 1) := by decide +kernel
theorem dX1_goStep_157 : decode cX1_goStep 157 = .ok (.bastore, 1) := by decide +kernel
theorem dX1_goStep_158 : decode cX1_goStep 158 = .ok (.iinc 3 1, 3) := by decide +kernel
theorem dX1_goStep_161 : decode cX1_goStep 161 = .ok (.goto (-15), 3) := by decide +kernel
theorem dX1_goStep_164 : decode cX1_goStep 164 = .ok (.iconst 0, 1) := by decide +kernel
theorem dX1_goStep_165 : decode cX1_goStep 165 = .ok (.istore_n 3, 1) := by decide +kernel
theorem dX1_goStep_166 : decode cX1_goStep 166 = .ok (.iload_n 3, 1) := by decide +kernel
theorem dX1_goStep_167 : decode cX1_goStep 167 = .ok (.iload_n 2, 1) := by decide +kernel
theorem dX1_goStep_168 : decode cX1_goStep 168 = .ok (.if_icmp .ge 128, 3) := by decide +kernel
theorem dX1_goStep_171 : decode cX1_goStep 171 = .ok (.aload_n 0, 1) := by decide +kernel
theorem dX1_goStep_172 : decode cX1_goStep 172 = .ok (.getfield 173, 3) := by decide +kernel
theorem dX1_goStep_175 : decode cX1_goStep 175 = .ok (.iload_n 3, 1) := by decide +kernel
theorem dX1_goStep_176 : decode cX1_goStep 176 = .ok (.baload, 1) := by decide +kernel
theorem dX1_goStep_177 : decode cX1_goStep 177 = .ok (.ifCond .ne 6, 3) := by decide +kernel
theorem dX1_goStep_180 : decode cX1_goStep 180 = .ok (.goto 110, 3) := by decide +kernel
theorem dX1_goStep_183 : decode cX1_goStep 183 = .ok (.iconst 0, 1) := by decide +kernel
theorem dX1_goStep_184 : decode cX1_goStep 184 = .ok (.istore 4, 2) := by decide +kernel
theorem dX1_goStep_186 : decode cX1_goStep 186 = .ok (.iload 4, 2) := by decide +kernel
theorem dX1_goStep_188 : decode cX1_goStep 188 = .ok (.iload_n 2, 1) := by decide +kernel
theorem dX1_goStep_189 : decode cX1_goStep 189 = .ok (.if_icmp .ge 24, 3) := by decide +kernel
theorem dX1_goStep_192 : decode cX1_goStep 192 = .ok (.aload_n 0, 1) := by decide +kernel
theorem dX1_goStep_193 : decode cX1_goStep 193 = .ok (.getfield 179, 3) := by decide +kernel
theorem dX1_goStep_196 : decode cX1_goStep 196 = .ok (.iload 4, 2) := by decide +kernel
theorem dX1_goStep_198 : decode cX1_goStep 198 = .ok (.aload_n 0, 1) := by decide +kernel
theorem dX1_goStep_199 : decode cX1_goStep 199 = .ok (.iload_n 1, 1) := by decide +kernel
theorem dX1_goStep_200 : decode cX1_goStep 200 = .ok (.iload_n 3, 1) := by decide +kernel
theorem dX1_goStep_201 : decode cX1_goStep 201 = .ok (.iload 4, 2) := by decide +kernel
theorem dX1_goStep_203 : decode cX1_goStep 203 = .ok (.invokevirtual 606, 3) := by decide +kernel
theorem dX1_goStep_206 : decode cX1_goStep 206 = .ok (.bastore, 1) := by decide +kernel
theorem dX1_goStep_207 : decode cX1_goStep 207 = .ok (.iinc 4 1, 3) := by decide +kernel
theorem dX1_goStep_210 : decode cX1_goStep 210 = .ok (.goto (-24), 3) := by decide +kernel
theorem dX1_goStep_213 : decode cX1_goStep 213 = .ok (.iconst 0, 1) := by decide +kernel
theorem dX1_goStep_214 : decode cX1_goStep 214 = .ok (.istore 4, 2) := by decide +kernel
theorem dX1_goStep_216 : decode cX1_goStep 216 = .ok (.iload 4, 2) := by decide +kernel
theorem dX1_goStep_218 : decode cX1_goStep 218 = .ok (.aload_n 0, 1) := by decide +kernel
theorem dX1_goStep_219 : decode cX1_goStep 219 = .ok (.getfield 194, 3) := by decide +kernel
theorem dX1_goStep_222 : decode cX1_goStep 222 = .ok (.iload_n 1, 1) := by decide +kernel
theorem dX1_goStep_223 : decode cX1_goStep 223 = .ok (.iaload, 1) := by decide +kernel
theorem dX1_goStep_224 : decode cX1_goStep 224 = .ok (.if_icmp .ge 19, 3) := by decide +kernel
theorem dX1_goStep_227 : decode cX1_goStep 227 = .ok (.aload_n 0, 1) := by decide +kernel
theorem dX1_goStep_228 : decode cX1_goStep 228 = .ok (.iconst 4, 1) := by decide +kernel
theorem dX1_goStep_229 : decode cX1_goStep 229 = .ok (.iload_n 1, 1) := by decide +kernel
theorem dX1_goStep_230 : decode cX1_goStep 230 = .ok (.imul, 1) := by decide +kernel
theorem dX1_goStep_231 : decode cX1_goStep 231 = .ok (.iload 4, 2) := by decide +kernel
theorem dX1_goStep_233 : decode cX1_goStep 233 = .ok (.iadd, 1) := by decide +kernel
theorem dX1_goStep_234 : decode cX1_goStep 234 = .ok (.invokevirtual 609, 3) := by decide +kernel
theorem dX1_goStep_237 : decode cX1_goStep 237 = .ok (.iinc 4 1, 3) := by decide +kernel
theorem dX1_goStep_240 : decode cX1_goStep 240 = .ok (.goto (-24), 3) := by decide +kernel
theorem dX1_goStep_243 : decode cX1_goStep 243 = .ok (.iconst 0, 1) := by decide +kernel
theorem dX1_goStep_244 : decode cX1_goStep 244 = .ok (.istore 4, 2) := by decide +kernel
theorem dX1_goStep_246 : decode cX1_goStep 246 = .ok (.iload 4, 2) := by decide +kernel
theorem dX1_goStep_248 : decode cX1_goStep 248 = .ok (.iload_n 2, 1) := by decide +kernel
theorem dX1_goStep_249 : decode cX1_goStep 249 = .ok (.if_icmp .ge 41, 3) := by decide +kernel
theorem dX1_goStep_252 : decode cX1_goStep 252 = .ok (.aload_n 0, 1) := by decide +kernel
theorem dX1_goStep_253 : decode cX1_goStep 253 = .ok (.getfield 176, 3) := by decide +kernel
theorem dX1_goStep_256 : decode cX1_goStep 256 = .ok (.iload 4, 2) := by decide +kernel
theorem dX1_goStep_258 : decode cX1_goStep 258 = .ok (.aload_n 0, 1) := by decide +kernel
theorem dX1_goStep_259 : decode cX1_goStep 259 = .ok (.getfield 176, 3) := by decide +kernel
theorem dX1_goStep_262 : decode cX1_goStep 262 = .ok (.iload 4, 2) := by decide +kernel
theorem dX1_goStep_264 : decode cX1_goStep 264 = .ok (.baload, 1) := by decide +kernel
theorem dX1_goStep_265 : decode cX1_goStep 265 = .ok (.ifCond .ne 13, 3) := by decide +kernel
theorem dX1_goStep_268 : decode cX1_goStep 268 = .ok (.aload_n 0, 1) := by decide +kernel
theorem dX1_goStep_269 : decode cX1_goStep 269 = .ok (.getfield 179, 3) := by decide +kernel
theorem dX1_goStep_272 : decode cX1_goStep 272 = .ok (.iload 4, 2) := by decide +kernel
theorem dX1_goStep_274 : decode cX1_goStep 274 = .ok (.baload, 1) := by decide +kernel
theorem dX1_goStep_275 : decode cX1_goStep 275 = .ok (.ifCond .eq 7, 3) := by decide +kernel
theorem dX1_goStep_278 : decode cX1_goStep 278 = .ok (.iconst 1, 1) := by decide +kernel
theorem dX1_goStep_279 : decode cX1_goStep 279 = .ok (.goto 4, 3) := by decide +kernel
theorem dX1_goStep_282 : decode cX1_goStep 282 = .ok (.iconst 0, 1) := by decide +kernel
theorem dX1_goStep_283 : decode cX1_goStep 283 = .ok (.bastore, 1) := by decide +kernel
theorem dX1_goStep_284 : decode cX1_goStep 284 = .ok (.iinc 4 1, 3) := by decide +kernel
theorem dX1_goStep_287 : decode cX1_goStep 287 = .ok (.goto (-41), 3) := by decide +kernel
theorem dX1_goStep_290 : decode cX1_goStep 290 = .ok (.iinc 3 1, 3) := by decide +kernel
theorem dX1_goStep_293 : decode cX1_goStep 293 = .ok (.goto (-127), 3) := by decide +kernel
theorem dX1_goStep_296 : decode cX1_goStep 296 = .ok (.iconst 0, 1) := by decide +kernel
theorem dX1_goStep_297 : decode cX1_goStep 297 = .ok (.istore_n 3, 1) := by decide +kernel
theorem dX1_goStep_298 : decode cX1_goStep 298 = .ok (.iload_n 3, 1) := by decide +kernel
theorem dX1_goStep_299 : decode cX1_goStep 299 = .ok (.iload_n 2, 1) := by decide +kernel
theorem dX1_goStep_300 : decode cX1_goStep 300 = .ok (.if_icmp .ge 21, 3) := by decide +kernel
theorem dX1_goStep_303 : decode cX1_goStep 303 = .ok (.aload_n 0, 1) := by decide +kernel
theorem dX1_goStep_304 : decode cX1_goStep 304 = .ok (.getfield 173, 3) := by decide +kernel
theorem dX1_goStep_307 : decode cX1_goStep 307 = .ok (.iload_n 3, 1) := by decide +kernel
theorem dX1_goStep_308 : decode cX1_goStep 308 = .ok (.aload_n 0, 1) := by decide +kernel
theorem dX1_goStep_309 : decode cX1_goStep 309 = .ok (.getfield 176, 3) := by decide +kernel
theorem dX1_goStep_312 : decode cX1_goStep 312 = .ok (.iload_n 3, 1) := by decide +kernel
theorem dX1_goStep_313 : decode cX1_goStep 313 = .ok (.baload, 1) := by decide +kernel
theorem dX1_goStep_314 : decode cX1_goStep 314 = .ok (.bastore, 1) := by decide +kernel
theorem dX1_goStep_315 : decode cX1_goStep 315 = .ok (.iinc 3 1, 3) := by decide +kernel
theorem dX1_goStep_318 : decode cX1_goStep 318 = .ok (.goto (-20), 3) := by decide +kernel
theorem dX1_goStep_321 : decode cX1_goStep 321 = .ok (.return_, 1) := by decide +kernel
def m_goStep_298 : Nat → MEM → Int → Int → Option zm_O
  | 0, _, _, _ => none
  | n + 1, σ, x2, x3 => if x2 ≤ x3 then (some (0, σ)) else (ck (0 ≤ x3 ∧ x3 < 600) (ck (0 ≤ x3 ∧ x3 < 600) (nu (mup σ 70 x3 (σ 71 x3)) (fun σ2 => ck (inR (x3 + 1)) (m_goStep_298 n σ2 x2 (x3 + 1))))))
theorem w_goStep_298 {C : zv_Cx zm_O} {G : zm_G} (h : zv_Ok C cX1_goStep RX1) (hc : zm_C C G 5 (Option.none : Option FieldType) 0 5 123) : ∀ (n : Nat) (σ : MEM) (x2 x3 : Int), inR x2 → inR x3 → VV C (m_goStep_298 n σ x2 x3) σ [(0, .ref (zm_h G)), (2, iv x2), (3, iv x3)] [] 298 := by
  have hN : ∀ i, i < 5 → i < zv_n C := fun i q => by rw [hc.2.2.1]; exact q
  intro n
  induction n with
  | zero => intros; exact r_none
  | succ n ih =>
    intro σ x2 x3 hx2 hx3
    rw [m_goStep_298]
    refine r_iload_n h 2 dX1_goStep_298 rfl rfl ?_
    refine r_iload_n h 1 dX1_goStep_299 rfl rfl ?_
    refine r_icmp_ge h hx3 hx2 321 dX1_goStep_300 rfl ?_ ?_
    · exact zm_vret h hc rfl dX1_goStep_321
    · refine r_aload_n h 0 dX1_goStep_303 rfl rfl ?_
      refine zm_getA h hc 70 (by decide) rfl q1549 rfl dX1_goStep_304 ?_
      refine r_iload_n h 2 dX1_goStep_307 rfl rfl ?_
      refine r_aload_n h 0 dX1_goStep_308 rfl rfl ?_
      refine zm_getA h hc 71 (by decide) rfl q1550 rfl dX1_goStep_309 ?_
      refine r_iload_n h 2 dX1_goStep_312 rfl rfl ?_
      refine zm_ldZ h hc 71 71 600 (by decide) rfl rfl rfl (by decide) dX1_goStep_313 (fun _ hr1 => ?_)
      refine zm_stZ h hc 70 70 600 (by decide) rfl rfl rfl (by decide) hr1 dX1_goStep_314 (fun _ σ2 _ => ?_)
      refine r_iinc (lv' := [(3, iv (x3 + 1)), (0, .ref (zm_h G)), (2, iv x2)]) h 2 dX1_goStep_315 rfl (hN _ (by decide)) rfl ?_
      refine r_goto h 298 dX1_goStep_318 rfl ?_
      refine r_ck (fun hk3 => ?_)
      exact r_lv [1, 2, 0] rfl (ih _ x2 (x3 + 1) hx2 hk3)
def m_goStep_246 (lp166 : MEM → Int → Int → Int → Option zm_O) : Nat → MEM → Int → Int → Int → Int → Option zm_O
  | 0, _, _, _, _, _ => none
  | n + 1, σ, x1, x2, x3, x4 => if x2 ≤ x4 then (ck (inR (x3 + 1)) (lp166 σ x1 x2 (x3 + 1))) else (ck (0 ≤ x4 ∧ x4 < 600) (if (σ 71 x4) = 0 then (ck (0 ≤ x4 ∧ x4 < 600) (if (σ 72 x4) = 0 then (ck (0 ≤ x4 ∧ x4 < 600) (nu (mup σ 71 x4 0) (fun σ4 => ck (inR (x4 + 1)) (m_goStep_246 lp166 n σ4 x1 x2 x3 (x4 + 1))))) else (ck (0 ≤ x4 ∧ x4 < 600) (nu (mup σ 71 x4 1) (fun σ6 => ck (inR (x4 + 1)) (m_goStep_246 lp166 n σ6 x1 x2 x3 (x4 + 1))))))) else (ck (0 ≤ x4 ∧ x4 < 600) (nu (mup σ 71 x4 1) (fun σ8 => ck (inR (x4 + 1)) (m_goStep_246 lp166 n σ8 x1 x2 x3 (x4 + 1)))))))
theorem w_goStep_246 {C : zv_Cx zm_O} {G : zm_G} (h : zv_Ok C cX1_goStep RX1) (hc : zm_C C G 5 (Option.none : Option FieldType) 0 5 123) (lp166 : MEM → Int → Int → Int → Option zm_O) (hlp166 : ∀ (σ : MEM) (x1 x2 x3 : Int), inR x1 → inR x2 → inR x3 → VV C (lp166 σ x1 x2 x3) σ [(0, .ref (zm_h G)), (1, iv x1), (2, iv x2), (3, iv x3)] [] 166) : ∀ (n : Nat) (σ : MEM) (x1 x2 x3 x4 : Int), inR x1 → inR x2 → inR x3 → inR x4 → VV C (m_goStep_246 lp166 n σ x1 x2 x3 x4) σ [(0, .ref (zm_h G)), (1, iv x1), (2, iv x2), (3, iv x3), (4, iv x4)] [] 246 := by
  have hN : ∀ i, i < 5 → i < zv_n C := fun i q => by rw [hc.2.2.1]; exact q
  intro n
  induction n with
  | zero => intros; exact r_none
  | succ n ih =>
    intro σ x1 x2 x3 x4 hx1 hx2 hx3 hx4
    rw [m_goStep_246]
    refine r_iload h 4 dX1_goStep_246 rfl ?_
    refine r_iload_n h 2 dX1_goStep_248 rfl rfl ?_
    refine r_icmp_ge h hx4 hx2 290 dX1_goStep_249 rfl ?_ ?_
    · refine r_iinc (lv' := [(3, iv (x3 + 1)), (0, .ref (zm_h G)), (1, iv x1), (2, iv x2), (4, iv x4)]) h 3 dX1_goStep_290 rfl (hN _ (by decide)) rfl ?_
      refine r_goto h 166 dX1_goStep_293 rfl ?_
      refine r_ck (fun hk1 => ?_)
      exact r_lv [1, 2, 3, 0] rfl (hlp166 _ x1 x2 (x3 + 1) hx1 hx2 hk1)
    · refine r_aload_n h 0 dX1_goStep_252 rfl rfl ?_
      refine zm_getA h hc 71 (by decide) rfl q1550 rfl dX1_goStep_253 ?_
      refine r_iload h 4 dX1_goStep_256 rfl ?_
      refine r_aload_n h 0 dX1_goStep_258 rfl rfl ?_
      refine zm_getA h hc 71 (by decide) rfl q1550 rfl dX1_goStep_259 ?_
      refine r_iload h 4 dX1_goStep_262 rfl ?_
      refine zm_ldZ h hc 71 71 600 (by decide) rfl rfl rfl (by decide) dX1_goStep_264 (fun _ hr2 => ?_)
      refine r_if_ne h hr2.r 278 dX1_goStep_265 rfl ?_ ?_
      · refine r_aload_n h 0 dX1_goStep_268 rfl rfl ?_
        refine zm_getA h hc 72 (by decide) rfl q1551 rfl dX1_goStep_269 ?_
        refine r_iload h 4 dX1_goStep_272 rfl ?_
        refine zm_ldZ h hc 72 72 600 (by decide) rfl rfl rfl (by decide) dX1_goStep_274 (fun _ hr3 => ?_)
        refine r_if_eq h hr3.r 282 dX1_goStep_275 rfl ?_ ?_
        · refine r_iconst h dX1_goStep_282 ?_
          refine zm_stZ h hc 71 71 600 (by decide) rfl rfl rfl (by decide) (by decide) dX1_goStep_283 (fun _ σ4 _ => ?_)
          refine r_iinc (lv' := [(4, iv (x4 + 1)), (0, .ref (zm_h G)), (1, iv x1), (2, iv x2), (3, iv x3)]) h 4 dX1_goStep_284 rfl (hN _ (by decide)) rfl ?_
          refine r_goto h 246 dX1_goStep_287 rfl ?_
          refine r_ck (fun hk5 => ?_)
          exact r_lv [1, 2, 3, 4, 0] rfl (ih _ x1 x2 x3 (x4 + 1) hx1 hx2 hx3 hk5)
        · refine r_iconst h dX1_goStep_278 ?_
          refine r_goto h 283 dX1_goStep_279 rfl ?_
          refine zm_stZ h hc 71 71 600 (by decide) rfl rfl rfl (by decide) (by decide) dX1_goStep_283 (fun _ σ6 _ => ?_)
          refine r_iinc (lv' := [(4, iv (x4 + 1)), (0, .ref (zm_h G)), (1, iv x1), (2, iv x2), (3, iv x3)]) h 4 dX1_goStep_284 rfl (hN _ (by decide)) rfl ?_
          refine r_goto h 246 dX1_goStep_287 rfl ?_
          refine r_ck (fun hk7 => ?_)
          exact r_lv [1, 2, 3, 4, 0] rfl (ih _ x1 x2 x3 (x4 + 1) hx1 hx2 hx3 hk7)
      · refine r_iconst h dX1_goStep_278 ?_
        refine r_goto h 283 dX1_goStep_279 rfl ?_
        refine zm_stZ h hc 71 71 600 (by decide) rfl rfl rfl (by decide) (by decide) dX1_goStep_283 (fun _ σ8 _ => ?_)
        refine r_iinc (lv' := [(4, iv (x4 + 1)), (0, .ref (zm_h G)), (1, iv x1), (2, iv x2), (3, iv x3)]) h 4 dX1_goStep_284 rfl (hN _ (by decide)) rfl ?_
        refine r_goto h 246 dX1_goStep_287 rfl ?_
        refine r_ck (fun hk9 => ?_)
        exact r_lv [1, 2, 3, 4, 0] rfl (ih _ x1 x2 x3 (x4 + 1) hx1 hx2 hx3 hk9)
def m_goStep_216 (lp166 : MEM → Int → Int → Int → Option zm_O) : Nat → MEM → Int → Int → Int → Int → Option zm_O
  | 0, _, _, _, _, _ => none
  | n + 1, σ, x1, x2, x3, x4 => ck (0 ≤ x1 ∧ x1 < 12) (if (σ 77 x1) ≤ x4 then (m_goStep_246 lp166 zF σ x1 x2 x3 0) else (ck (inR ((4 * x1) + x4)) (bd (m_filterMine σ ((4 * x1) + x4)) (fun _ σ3 => ck (inR (x4 + 1)) (m_goStep_216 lp166 n σ3 x1 x2 x3 (x4 + 1))))))
theorem w_goStep_216 {C : zv_Cx zm_O} {G : zm_G} (h : zv_Ok C cX1_goStep RX1) (hc : zm_C C G 5 (Option.none : Option FieldType) 0 5 123) (lp166 : MEM → Int → Int → Int → Option zm_O) (hlp166 : ∀ (σ : MEM) (x1 x2 x3 : Int), inR x1 → inR x2 → inR x3 → VV C (lp166 σ x1 x2 x3) σ [(0, .ref (zm_h G)), (1, iv x1), (2, iv x2), (3, iv x3)] [] 166) : ∀ (n : Nat) (σ : MEM) (x1 x2 x3 x4 : Int), inR x1 → inR x2 → inR x3 → inR x4 → VV C (m_goStep_216 lp166 n σ x1 x2 x3 x4) σ [(0, .ref (zm_h G)), (1, iv x1), (2, iv x2), (3, iv x3), (4, iv x4)] [] 216 := by
  have hN : ∀ i, i < 5 → i < zv_n C := fun i q => by rw [hc.2.2.1]; exact q
  intro n
  induction n with
  | zero => intros; exact r_none
  | succ n ih =>
    intro σ x1 x2 x3 x4 hx1 hx2 hx3 hx4
    rw [m_goStep_216]
    refine r_iload h 4 dX1_goStep_216 rfl ?_
    refine r_aload_n h 0 dX1_goStep_218 rfl rfl ?_
    refine zm_getA h hc 77 (by decide) rfl q1556 rfl dX1_goStep_219 ?_
    refine r_iload_n h 1 dX1_goStep_222 rfl rfl ?_
    refine zm_ldI h hc 77 77 12 (by decide) rfl rfl rfl (by decide) dX1_goStep_223 (fun _ hr1 => ?_)
    refine r_icmp_ge h hx4 hr1 243 dX1_goStep_224 rfl ?_ ?_
    · refine r_iconst h dX1_goStep_243 ?_
      refine r_istore (lv' := [(4, iv 0), (0, .ref (zm_h G)), (1, iv x1), (2, iv x2), (3, iv x3)]) h dX1_goStep_244 (hN _ (by decide)) rfl ?_
      exact r_lv [1, 2, 3, 4, 0] rfl (w_goStep_246 h hc lp166 hlp166 zF _ x1 x2 x3 0 hx1 hx2 hx3 (by decide))
    · refine r_aload_n h 0 dX1_goStep_227 rfl rfl ?_
      refine r_iconst h dX1_goStep_228 ?_
      refine r_iload_n h 1 dX1_goStep_229 rfl rfl ?_
      refine r_imul h dX1_goStep_230 ?_
      refine r_iload h 4 dX1_goStep_231 rfl ?_
      refine r_iadd h dX1_goStep_233 ?_
      refine r_ck (fun hk2 => ?_)
      refine zm_cVv h hc (n := 1) (As := [iv ((4 * x1) + x4)]) (fun o1 e1 => w_filterMine hc.1 _ ((4 * x1) + x4) hk2 o1 e1) q2097 q2099 qs116 q136 q2100 (by decide +kernel) ⟨by decide, by decide⟩ rfl (Nat.le_of_ble_eq_true rfl) rfl dX1_goStep_234 (fun σ3  => ?_)
      refine r_iinc (lv' := [(4, iv (x4 + 1)), (0, .ref (zm_h G)), (1, iv x1), (2, iv x2), (3, iv x3)]) h 4 dX1_goStep_237 rfl (hN _ (by decide)) rfl ?_
      refine r_goto h 216 dX1_goStep_240 rfl ?_
      refine r_ck (fun hk4 => ?_)
      exact r_lv [1, 2, 3, 4, 0] rfl (ih _ x1 x2 x3 (x4 + 1) hx1 hx2 hx3 hk4)
def m_goStep_186 (lp166 : MEM → Int → Int → Int → Option zm_O) : Nat → MEM → Int → Int → Int → Int → Option zm_O
  | 0, _, _, _, _, _ => none
  | n + 1, σ, x1, x2, x3, x4 => if x2 ≤ x4 then (m_goStep_216 lp166 zF σ x1 x2 x3 0) else (bd (m_leads σ x1 x3 x4) (fun r1 σ2 => ck (0 ≤ x4 ∧ x4 < 600) (nu (mup σ2 72 x4 r1) (fun σ4 => ck (inR (x4 + 1)) (m_goStep_186 lp166 n σ4 x1 x2 x3 (x4 + 1))))))
theorem w_goStep_186 {C : zv_Cx zm_O} {G : zm_G} (h : zv_Ok C cX1_goStep RX1) (hc : zm_C C G 5 (Option.none : Option FieldType) 0 5 123) (lp166 : MEM → Int → Int → Int → Option zm_O) (hlp166 : ∀ (σ : MEM) (x1 x2 x3 : Int), inR x1 → inR x2 → inR x3 → VV C (lp166 σ x1 x2 x3) σ [(0, .ref (zm_h G)), (1, iv x1), (2, iv x2), (3, iv x3)] [] 166) : ∀ (n : Nat) (σ : MEM) (x1 x2 x3 x4 : Int), inR x1 → inR x2 → inR x3 → inR x4 → VV C (m_goStep_186 lp166 n σ x1 x2 x3 x4) σ [(0, .ref (zm_h G)), (1, iv x1), (2, iv x2), (3, iv x3), (4, iv x4)] [] 186 := by
  have hN : ∀ i, i < 5 → i < zv_n C := fun i q => by rw [hc.2.2.1]; exact q
  intro n
  induction n with
  | zero => intros; exact r_none
  | succ n ih =>
    intro σ x1 x2 x3 x4 hx1 hx2 hx3 hx4
    rw [m_goStep_186]
    refine r_iload h 4 dX1_goStep_186 rfl ?_
    refine r_iload_n h 2 dX1_goStep_188 rfl rfl ?_
    refine r_icmp_ge h hx4 hx2 213 dX1_goStep_189 rfl ?_ ?_
    · refine r_iconst h dX1_goStep_213 ?_
      refine r_istore (lv' := [(4, iv 0), (0, .ref (zm_h G)), (1, iv x1), (2, iv x2), (3, iv x3)]) h dX1_goStep_214 (hN _ (by decide)) rfl ?_
      exact r_lv [1, 2, 3, 4, 0] rfl (w_goStep_216 h hc lp166 hlp166 zF _ x1 x2 x3 0 hx1 hx2 hx3 (by decide))
    · refine r_aload_n h 0 dX1_goStep_192 rfl rfl ?_
      refine zm_getA h hc 72 (by decide) rfl q1551 rfl dX1_goStep_193 ?_
      refine r_iload h 4 dX1_goStep_196 rfl ?_
      refine r_aload_n h 0 dX1_goStep_198 rfl rfl ?_
      refine r_iload_n h 1 dX1_goStep_199 rfl rfl ?_
      refine r_iload_n h 3 dX1_goStep_200 rfl rfl ?_
      refine r_iload h 4 dX1_goStep_201 rfl ?_
      refine zm_cVz h hc (n := 3) (As := [iv x1, iv x3, iv x4]) (fun o1 e1 => w_leads hc.1 _ x1 x3 x4 hx1 hx3 hx4 o1 e1) q2089 q2091 qs114 q136 q2092 (by decide +kernel) ⟨by decide, by decide⟩ rfl (Nat.le_of_ble_eq_true rfl) rfl dX1_goStep_203 (fun r1 σ2 hr3 => ?_)
      refine zm_stZ h hc 72 72 600 (by decide) rfl rfl rfl (by decide) hr3 dX1_goStep_206 (fun _ σ4 _ => ?_)
      refine r_iinc (lv' := [(4, iv (x4 + 1)), (0, .ref (zm_h G)), (1, iv x1), (2, iv x2), (3, iv x3)]) h 4 dX1_goStep_207 rfl (hN _ (by decide)) rfl ?_
      refine r_goto h 186 dX1_goStep_210 rfl ?_
      refine r_ck (fun hk5 => ?_)
      exact r_lv [1, 2, 3, 4, 0] rfl (ih _ x1 x2 x3 (x4 + 1) hx1 hx2 hx3 hk5)
def m_goStep_166 : Nat → MEM → Int → Int → Int → Option zm_O
  | 0, _, _, _, _ => none
  | n + 1, σ, x1, x2, x3 => if x2 ≤ x3 then (m_goStep_298 zF σ x2 0) else (ck (0 ≤ x3 ∧ x3 < 600) (if (σ 70 x3) = 0 then (ck (inR (x3 + 1)) (m_goStep_166 n σ x1 x2 (x3 + 1))) else (m_goStep_186 (m_goStep_166 n) zF σ x1 x2 x3 0)))
theorem w_goStep_166 {C : zv_Cx zm_O} {G : zm_G} (h : zv_Ok C cX1_goStep RX1) (hc : zm_C C G 5 (Option.none : Option FieldType) 0 5 123) : ∀ (n : Nat) (σ : MEM) (x1 x2 x3 : Int), inR x1 → inR x2 → inR x3 → VV C (m_goStep_166 n σ x1 x2 x3) σ [(0, .ref (zm_h G)), (1, iv x1), (2, iv x2), (3, iv x3)] [] 166 := by
  have hN : ∀ i, i < 5 → i < zv_n C := fun i q => by rw [hc.2.2.1]; exact q
  intro n
  induction n with
  | zero => intros; exact r_none
  | succ n ih =>
    intro σ x1 x2 x3 hx1 hx2 hx3
    rw [m_goStep_166]
    refine r_iload_n h 3 dX1_goStep_166 rfl rfl ?_
    refine r_iload_n h 2 dX1_goStep_167 rfl rfl ?_
    refine r_icmp_ge h hx3 hx2 296 dX1_goStep_168 rfl ?_ ?_
    · refine r_iconst h dX1_goStep_296 ?_
      refine r_istore_n (lv' := [(3, iv 0), (0, .ref (zm_h G)), (1, iv x1), (2, iv x2)]) h dX1_goStep_297 rfl (hN _ (by decide)) rfl ?_
      exact r_lv [1, 3, 0] rfl (w_goStep_298 h hc zF _ x2 0 hx2 (by decide))
    · refine r_aload_n h 0 dX1_goStep_171 rfl rfl ?_
      refine zm_getA h hc 70 (by decide) rfl q1549 rfl dX1_goStep_172 ?_
      refine r_iload_n h 3 dX1_goStep_175 rfl rfl ?_
      refine zm_ldZ h hc 70 70 600 (by decide) rfl rfl rfl (by decide) dX1_goStep_176 (fun _ hr1 => ?_)
      refine r_if_ne h hr1.r 183 dX1_goStep_177 rfl ?_ ?_
      · refine r_goto h 290 dX1_goStep_180 rfl ?_
        refine r_iinc (lv' := [(3, iv (x3 + 1)), (0, .ref (zm_h G)), (1, iv x1), (2, iv x2)]) h 3 dX1_goStep_290 rfl (hN _ (by decide)) rfl ?_
        refine r_goto h 166 dX1_goStep_293 rfl ?_
        refine r_ck (fun hk2 => ?_)
        exact r_lv [1, 2, 3, 0] rfl (ih _ x1 x2 (x3 + 1) hx1 hx2 hk2)
      · refine r_iconst h dX1_goStep_183 ?_
        refine r_istore (lv' := [(4, iv 0), (0, .ref (zm_h G)), (1, iv x1), (2, iv x2), (3, iv x3)]) h dX1_goStep_184 (hN _ (by decide)) rfl ?_
        exact r_lv [1, 2, 3, 4, 0] rfl (w_goStep_186 h hc (m_goStep_166 n) ih zF _ x1 x2 x3 0 hx1 hx2 hx3 (by decide))
def m_goStep_146 : Nat → MEM → Int → Int → Int → Option zm_O
  | 0, _, _, _, _ => none
  | n + 1, σ, x1, x2, x3 => if x2 ≤ x3 then (m_goStep_166 zF σ x1 x2 0) else (ck (0 ≤ x3 ∧ x3 < 600) (nu (mup σ 71 x3 0) (fun σ1 => ck (inR (x3 + 1)) (m_goStep_146 n σ1 x1 x2 (x3 + 1)))))
theorem w_goStep_146 {C : zv_Cx zm_O} {G : zm_G} (h : zv_Ok C cX1_goStep RX1) (hc : zm_C C G 5 (Option.none : Option FieldType) 0 5 123) : ∀ (n : Nat) (σ : MEM) (x1 x2 x3 : Int), inR x1 → inR x2 → inR x3 → VV C (m_goStep_146 n σ x1 x2 x3) σ [(0, .ref (zm_h G)), (1, iv x1), (2, iv x2), (3, iv x3)] [] 146 := by
  have hN : ∀ i, i < 5 → i < zv_n C := fun i q => by rw [hc.2.2.1]; exact q
  intro n
  induction n with
  | zero => intros; exact r_none
  | succ n ih =>
    intro σ x1 x2 x3 hx1 hx2 hx3
    rw [m_goStep_146]
    refine r_iload_n h 3 dX1_goStep_146 rfl rfl ?_
    refine r_iload_n h 2 dX1_goStep_147 rfl rfl ?_
    refine r_icmp_ge h hx3 hx2 164 dX1_goStep_148 rfl ?_ ?_
    · refine r_iconst h dX1_goStep_164 ?_
      refine r_istore_n (lv' := [(3, iv 0), (0, .ref (zm_h G)), (1, iv x1), (2, iv x2)]) h dX1_goStep_165 rfl (hN _ (by decide)) rfl ?_
      exact r_lv [1, 2, 3, 0] rfl (w_goStep_166 h hc zF _ x1 x2 0 hx1 hx2 (by decide))
    · refine r_aload_n h 0 dX1_goStep_151 rfl rfl ?_
      refine zm_getA h hc 71 (by decide) rfl q1550 rfl dX1_goStep_152 ?_
      refine r_iload_n h 3 dX1_goStep_155 rfl rfl ?_
      refine r_iconst h dX1_goStep_156 ?_
      refine zm_stZ h hc 71 71 600 (by decide) rfl rfl rfl (by decide) (by decide) dX1_goStep_157 (fun _ σ1 _ => ?_)
      refine r_iinc (lv' := [(3, iv (x3 + 1)), (0, .ref (zm_h G)), (1, iv x1), (2, iv x2)]) h 3 dX1_goStep_158 rfl (hN _ (by decide)) rfl ?_
      refine r_goto h 146 dX1_goStep_161 rfl ?_
      refine r_ck (fun hk2 => ?_)
      exact r_lv [1, 2, 3, 0] rfl (ih _ x1 x2 (x3 + 1) hx1 hx2 hk2)
def m_goStep_121 : Nat → MEM → Int → Int → Int → Option zm_O
  | 0, _, _, _, _ => none
  | n + 1, σ, x1, x2, x3 => if x2 ≤ x3 then (m_goStep_146 zF σ x1 x2 0) else (ck (0 ≤ x3 ∧ x3 < 600) (ck (0 ≤ x3 ∧ x3 < 600) (nu (mup σ 70 x3 (σ 71 x3)) (fun σ2 => ck (inR (x3 + 1)) (m_goStep_121 n σ2 x1 x2 (x3 + 1))))))
theorem w_goStep_121 {C : zv_Cx zm_O} {G : zm_G} (h : zv_Ok C cX1_goStep RX1) (hc : zm_C C G 5 (Option.none : Option FieldType) 0 5 123) : ∀ (n : Nat) (σ : MEM) (x1 x2 x3 : Int), inR x1 → inR x2 → inR x3 → VV C (m_goStep_121 n σ x1 x2 x3) σ [(0, .ref (zm_h G)), (1, iv x1), (2, iv x2), (3, iv x3)] [] 121 := by
  have hN : ∀ i, i < 5 → i < zv_n C := fun i q => by rw [hc.2.2.1]; exact q
  intro n
  induction n with
  | zero => intros; exact r_none
  | succ n ih =>
    intro σ x1 x2 x3 hx1 hx2 hx3
    rw [m_goStep_121]
    refine r_iload_n h 3 dX1_goStep_121 rfl rfl ?_
    refine r_iload_n h 2 dX1_goStep_122 rfl rfl ?_
    refine r_icmp_ge h hx3 hx2 144 dX1_goStep_123 rfl ?_ ?_
    · refine r_iconst h dX1_goStep_144 ?_
      refine r_istore_n (lv' := [(3, iv 0), (0, .ref (zm_h G)), (1, iv x1), (2, iv x2)]) h dX1_goStep_145 rfl (hN _ (by decide)) rfl ?_
      exact r_lv [1, 2, 3, 0] rfl (w_goStep_146 h hc zF _ x1 x2 0 hx1 hx2 (by decide))
    · refine r_aload_n h 0 dX1_goStep_126 rfl rfl ?_
      refine zm_getA h hc 70 (by decide) rfl q1549 rfl dX1_goStep_127 ?_
      refine r_iload_n h 3 dX1_goStep_130 rfl rfl ?_
      refine r_aload_n h 0 dX1_goStep_131 rfl rfl ?_
      refine zm_getA h hc 71 (by decide) rfl q1550 rfl dX1_goStep_132 ?_
      refine r_iload_n h 3 dX1_goStep_135 rfl rfl ?_
      refine zm_ldZ h hc 71 71 600 (by decide) rfl rfl rfl (by decide) dX1_goStep_136 (fun _ hr1 => ?_)
      refine zm_stZ h hc 70 70 600 (by decide) rfl rfl rfl (by decide) hr1 dX1_goStep_137 (fun _ σ2 _ => ?_)
      refine r_iinc (lv' := [(3, iv (x3 + 1)), (0, .ref (zm_h G)), (1, iv x1), (2, iv x2)]) h 3 dX1_goStep_138 rfl (hN _ (by decide)) rfl ?_
      refine r_goto h 121 dX1_goStep_141 rfl ?_
      refine r_ck (fun hk3 => ?_)
      exact r_lv [1, 2, 3, 0] rfl (ih _ x1 x2 (x3 + 1) hx1 hx2 hk3)
def m_goStep_36 (lp21 : MEM → Int → Int → Int → Option zm_O) : Nat → MEM → Int → Int → Int → Int → Option zm_O
  | 0, _, _, _, _, _ => none
  | n + 1, σ, x1, x2, x3, x4 => if x3 < x4 then (ck (inR (x3 + 1)) (lp21 σ x1 x2 (x3 + 1))) else (ck (0 ≤ x3 ∧ x3 < 600) (if (σ 71 x3) = 0 then (ck (0 ≤ x4 ∧ x4 < 600) (if (σ 70 x4) = 0 then (ck (0 ≤ x3 ∧ x3 < 600) (nu (mup σ 71 x3 0) (fun σ4 => ck (inR (x4 + 1)) (m_goStep_36 lp21 n σ4 x1 x2 x3 (x4 + 1))))) else (if x4 = x3 then (ck (0 ≤ x3 ∧ x3 < 600) (nu (mup σ 71 x3 1) (fun σ6 => ck (inR (x4 + 1)) (m_goStep_36 lp21 n σ6 x1 x2 x3 (x4 + 1))))) else (ck (0 ≤ ((600 * (σ (-1) 7)) + x3) ∧ ((600 * (σ (-1) 7)) + x3) < 1200) (if (σ 13 ((600 * (σ (-1) 7)) + x3)) = 1 then (bd (m_isWithin σ x3 x4) (fun r10 σ11 => if r10 = 0 then (ck (0 ≤ x3 ∧ x3 < 600) (nu (mup σ11 71 x3 0) (fun σ13 => ck (inR (x4 + 1)) (m_goStep_36 lp21 n σ13 x1 x2 x3 (x4 + 1))))) else (ck (0 ≤ x3 ∧ x3 < 600) (nu (mup σ11 71 x3 1) (fun σ15 => ck (inR (x4 + 1)) (m_goStep_36 lp21 n σ15 x1 x2 x3 (x4 + 1))))))) else (ck (0 ≤ x3 ∧ x3 < 600) (nu (mup σ 71 x3 0) (fun σ17 => ck (inR (x4 + 1)) (m_goStep_36 lp21 n σ17 x1 x2 x3 (x4 + 1)))))))))) else (ck (0 ≤ x3 ∧ x3 < 600) (nu (mup σ 71 x3 1) (fun σ19 => ck (inR (x4 + 1)) (m_goStep_36 lp21 n σ19 x1 x2 x3 (x4 + 1)))))))
theorem w_goStep_36 {C : zv_Cx zm_O} {G : zm_G} (h : zv_Ok C cX1_goStep RX1) (hc : zm_C C G 5 (Option.none : Option FieldType) 0 5 123) (lp21 : MEM → Int → Int → Int → Option zm_O) (hlp21 : ∀ (σ : MEM) (x1 x2 x3 : Int), inR x1 → inR x2 → inR x3 → VV C (lp21 σ x1 x2 x3) σ [(0, .ref (zm_h G)), (1, iv x1), (2, iv x2), (3, iv x3)] [] 21) : ∀ (n : Nat) (σ : MEM) (x1 x2 x3 x4 : Int), inR x1 → inR x2 → inR x3 → inR x4 → VV C (m_goStep_36 lp21 n σ x1 x2 x3 x4) σ [(0, .ref (zm_h G)), (1, iv x1), (2, iv x2), (3, iv x3), (4, iv x4)] [] 36 := by
  have hN : ∀ i, i < 5 → i < zv_n C := fun i q => by rw [hc.2.2.1]; exact q
  intro n
  induction n with
  | zero => intros; exact r_none
  | succ n ih =>
    intro σ x1 x2 x3 x4 hx1 hx2 hx3 hx4
    rw [m_goStep_36]
    refine r_iload h 4 dX1_goStep_36 rfl ?_
    refine r_iload_n h 3 dX1_goStep_38 rfl rfl ?_
    refine r_icmp_gt h hx4 hx3 113 dX1_goStep_39 rfl ?_ ?_
    · refine r_iinc (lv' := [(3, iv (x3 + 1)), (0, .ref (zm_h G)), (1, iv x1), (2, iv x2), (4, iv x4)]) h 3 dX1_goStep_113 rfl (hN _ (by decide)) rfl ?_
      refine r_goto h 21 dX1_goStep_116 rfl ?_
      refine r_ck (fun hk1 => ?_)
      exact r_lv [1, 2, 3, 0] rfl (hlp21 _ x1 x2 (x3 + 1) hx1 hx2 hk1)
    · refine r_aload_n h 0 dX1_goStep_42 rfl rfl ?_
      refine zm_getA h hc 71 (by decide) rfl q1550 rfl dX1_goStep_43 ?_
      refine r_iload_n h 3 dX1_goStep_46 rfl rfl ?_
      refine r_aload_n h 0 dX1_goStep_47 rfl rfl ?_
      refine zm_getA h hc 71 (by decide) rfl q1550 rfl dX1_goStep_48 ?_
      refine r_iload_n h 3 dX1_goStep_51 rfl rfl ?_
      refine zm_ldZ h hc 71 71 600 (by decide) rfl rfl rfl (by decide) dX1_goStep_52 (fun _ hr2 => ?_)
      refine r_if_ne h hr2.r 101 dX1_goStep_53 rfl ?_ ?_
      · refine r_aload_n h 0 dX1_goStep_56 rfl rfl ?_
        refine zm_getA h hc 70 (by decide) rfl q1549 rfl dX1_goStep_57 ?_
        refine r_iload h 4 dX1_goStep_60 rfl ?_
        refine zm_ldZ h hc 70 70 600 (by decide) rfl rfl rfl (by decide) dX1_goStep_62 (fun _ hr3 => ?_)
        refine r_if_eq h hr3.r 105 dX1_goStep_63 rfl ?_ ?_
        · refine r_iconst h dX1_goStep_105 ?_
          refine zm_stZ h hc 71 71 600 (by decide) rfl rfl rfl (by decide) (by decide) dX1_goStep_106 (fun _ σ4 _ => ?_)
          refine r_iinc (lv' := [(4, iv (x4 + 1)), (0, .ref (zm_h G)), (1, iv x1), (2, iv x2), (3, iv x3)]) h 4 dX1_goStep_107 rfl (hN _ (by decide)) rfl ?_
          refine r_goto h 36 dX1_goStep_110 rfl ?_
          refine r_ck (fun hk5 => ?_)
          exact r_lv [1, 2, 3, 4, 0] rfl (ih _ x1 x2 x3 (x4 + 1) hx1 hx2 hx3 hk5)
        · refine r_iload h 4 dX1_goStep_66 rfl ?_
          refine r_iload_n h 3 dX1_goStep_68 rfl rfl ?_
          refine r_icmp_eq h hx4 hx3 101 dX1_goStep_69 rfl ?_ ?_
          · refine r_iconst h dX1_goStep_101 ?_
            refine r_goto h 106 dX1_goStep_102 rfl ?_
            refine zm_stZ h hc 71 71 600 (by decide) rfl rfl rfl (by decide) (by decide) dX1_goStep_106 (fun _ σ6 _ => ?_)
            refine r_iinc (lv' := [(4, iv (x4 + 1)), (0, .ref (zm_h G)), (1, iv x1), (2, iv x2), (3, iv x3)]) h 4 dX1_goStep_107 rfl (hN _ (by decide)) rfl ?_
            refine r_goto h 36 dX1_goStep_110 rfl ?_
            refine r_ck (fun hk7 => ?_)
            exact r_lv [1, 2, 3, 4, 0] rfl (ih _ x1 x2 x3 (x4 + 1) hx1 hx2 hx3 hk7)
          · refine r_aload_n h 0 dX1_goStep_72 rfl rfl ?_
            refine zm_getA h hc 13 (by decide) rfl q1493 rfl dX1_goStep_73 ?_
            refine r_sipush h dX1_goStep_76 (by decide) ?_
            refine r_aload_n h 0 dX1_goStep_79 rfl rfl ?_
            refine zm_getI h hc 7 7 (by decide) rfl rfl q1487 rfl dX1_goStep_80 (fun hr8 => ?_)
            refine r_imul h dX1_goStep_83 ?_
            refine r_iload_n h 3 dX1_goStep_84 rfl rfl ?_
            refine r_iadd h dX1_goStep_85 ?_
            refine zm_ldI h hc 13 13 1200 (by decide) rfl rfl rfl (by decide) dX1_goStep_86 (fun _ hr9 => ?_)
            refine r_iconst h dX1_goStep_87 ?_
            refine r_icmp_ne h hr9 (by decide) 105 dX1_goStep_88 rfl ?_ ?_
            · refine r_aload_n h 0 dX1_goStep_91 rfl rfl ?_
              refine r_iload_n h 3 dX1_goStep_92 rfl rfl ?_
              refine r_iload h 4 dX1_goStep_93 rfl ?_
              refine zm_cVz h hc (n := 2) (As := [iv x3, iv x4]) (fun o1 e1 => w_isWithin hc.1 _ x3 x4 hx3 hx4 o1 e1) q2085 q2087 qs113 q136 q2088 (by decide +kernel) ⟨by decide, by decide⟩ rfl (Nat.le_of_ble_eq_true rfl) rfl dX1_goStep_95 (fun r10 σ11 hr12 => ?_)
              refine r_if_eq h hr12.r 105 dX1_goStep_98 rfl ?_ ?_
              · refine r_iconst h dX1_goStep_105 ?_
                refine zm_stZ h hc 71 71 600 (by decide) rfl rfl rfl (by decide) (by decide) dX1_goStep_106 (fun _ σ13 _ => ?_)
                refine r_iinc (lv' := [(4, iv (x4 + 1)), (0, .ref (zm_h G)), (1, iv x1), (2, iv x2), (3, iv x3)]) h 4 dX1_goStep_107 rfl (hN _ (by decide)) rfl ?_
                refine r_goto h 36 dX1_goStep_110 rfl ?_
                refine r_ck (fun hk14 => ?_)
                exact r_lv [1, 2, 3, 4, 0] rfl (ih _ x1 x2 x3 (x4 + 1) hx1 hx2 hx3 hk14)
              · refine r_iconst h dX1_goStep_101 ?_
                refine r_goto h 106 dX1_goStep_102 rfl ?_
                refine zm_stZ h hc 71 71 600 (by decide) rfl rfl rfl (by decide) (by decide) dX1_goStep_106 (fun _ σ15 _ => ?_)
                refine r_iinc (lv' := [(4, iv (x4 + 1)), (0, .ref (zm_h G)), (1, iv x1), (2, iv x2), (3, iv x3)]) h 4 dX1_goStep_107 rfl (hN _ (by decide)) rfl ?_
                refine r_goto h 36 dX1_goStep_110 rfl ?_
                refine r_ck (fun hk16 => ?_)
                exact r_lv [1, 2, 3, 4, 0] rfl (ih _ x1 x2 x3 (x4 + 1) hx1 hx2 hx3 hk16)
            · refine r_iconst h dX1_goStep_105 ?_
              refine zm_stZ h hc 71 71 600 (by decide) rfl rfl rfl (by decide) (by decide) dX1_goStep_106 (fun _ σ17 _ => ?_)
              refine r_iinc (lv' := [(4, iv (x4 + 1)), (0, .ref (zm_h G)), (1, iv x1), (2, iv x2), (3, iv x3)]) h 4 dX1_goStep_107 rfl (hN _ (by decide)) rfl ?_
              refine r_goto h 36 dX1_goStep_110 rfl ?_
              refine r_ck (fun hk18 => ?_)
              exact r_lv [1, 2, 3, 4, 0] rfl (ih _ x1 x2 x3 (x4 + 1) hx1 hx2 hx3 hk18)
      · refine r_iconst h dX1_goStep_101 ?_
        refine r_goto h 106 dX1_goStep_102 rfl ?_
        refine zm_stZ h hc 71 71 600 (by decide) rfl rfl rfl (by decide) (by decide) dX1_goStep_106 (fun _ σ19 _ => ?_)
        refine r_iinc (lv' := [(4, iv (x4 + 1)), (0, .ref (zm_h G)), (1, iv x1), (2, iv x2), (3, iv x3)]) h 4 dX1_goStep_107 rfl (hN _ (by decide)) rfl ?_
        refine r_goto h 36 dX1_goStep_110 rfl ?_
        refine r_ck (fun hk20 => ?_)
        exact r_lv [1, 2, 3, 4, 0] rfl (ih _ x1 x2 x3 (x4 + 1) hx1 hx2 hx3 hk20)
def m_goStep_21 : Nat → MEM → Int → Int → Int → Option zm_O
  | 0, _, _, _, _ => none
  | n + 1, σ, x1, x2, x3 => if x2 ≤ x3 then (m_goStep_121 zF σ x1 x2 0) else (ck (0 ≤ x3 ∧ x3 < 600) (nu (mup σ 71 x3 0) (fun σ1 => m_goStep_36 (m_goStep_21 n) zF σ1 x1 x2 x3 0)))
theorem w_goStep_21 {C : zv_Cx zm_O} {G : zm_G} (h : zv_Ok C cX1_goStep RX1) (hc : zm_C C G 5 (Option.none : Option FieldType) 0 5 123) : ∀ (n : Nat) (σ : MEM) (x1 x2 x3 : Int), inR x1 → inR x2 → inR x3 → VV C (m_goStep_21 n σ x1 x2 x3) σ [(0, .ref (zm_h G)), (1, iv x1), (2, iv x2), (3, iv x3)] [] 21 := by
  have hN : ∀ i, i < 5 → i < zv_n C := fun i q => by rw [hc.2.2.1]; exact q
  intro n
  induction n with
  | zero => intros; exact r_none
  | succ n ih =>
    intro σ x1 x2 x3 hx1 hx2 hx3
    rw [m_goStep_21]
    refine r_iload_n h 3 dX1_goStep_21 rfl rfl ?_
    refine r_iload_n h 2 dX1_goStep_22 rfl rfl ?_
    refine r_icmp_ge h hx3 hx2 119 dX1_goStep_23 rfl ?_ ?_
    · refine r_iconst h dX1_goStep_119 ?_
      refine r_istore_n (lv' := [(3, iv 0), (0, .ref (zm_h G)), (1, iv x1), (2, iv x2)]) h dX1_goStep_120 rfl (hN _ (by decide)) rfl ?_
      exact r_lv [1, 2, 3, 0] rfl (w_goStep_121 h hc zF _ x1 x2 0 hx1 hx2 (by decide))
    · refine r_aload_n h 0 dX1_goStep_26 rfl rfl ?_
      refine zm_getA h hc 71 (by decide) rfl q1550 rfl dX1_goStep_27 ?_
      refine r_iload_n h 3 dX1_goStep_30 rfl rfl ?_
      refine r_iconst h dX1_goStep_31 ?_
      refine zm_stZ h hc 71 71 600 (by decide) rfl rfl rfl (by decide) (by decide) dX1_goStep_32 (fun _ σ1 _ => ?_)
      refine r_iconst h dX1_goStep_33 ?_
      refine r_istore (lv' := [(4, iv 0), (0, .ref (zm_h G)), (1, iv x1), (2, iv x2), (3, iv x3)]) h dX1_goStep_34 (hN _ (by decide)) rfl ?_
      exact r_lv [1, 2, 3, 4, 0] rfl (w_goStep_36 h hc (m_goStep_21 n) ih zF _ x1 x2 x3 0 hx1 hx2 hx3 (by decide))
def m_goStep (σ : MEM) (a0 : Int) : Option zm_O := ck (0 ≤ (σ (-1) 7) ∧ (σ (-1) 7) < 2) (ck (0 ≤ a0 ∧ a0 < 12) (if (σ 74 a0) = 0 then (m_goStep_146 zF σ a0 (σ 12 (σ (-1) 7)) 0) else (m_goStep_21 zF σ a0 (σ 12 (σ (-1) 7)) 0)))
theorem w_goStep {G : zm_G} (hD : zm_D G) (σ : MEM) (a0 : Int) (ha0 : inR a0) (o : zm_O) (hd : m_goStep σ a0 = some o) : zm_Met G yX1_goStep cX1_goStep 5 (Option.none : Option FieldType) 0 5 123 σ [.ref (zm_h G), iv a0] o := by
  refine zm_intro hD hd (by decide) rfl (Nat.le_of_ble_eq_true rfl) rfl (fun C h hc => ?_)
  have hN : ∀ i, i < 5 → i < zv_n C := fun i q => by rw [hc.2.2.1]; exact q
  unfold m_goStep
  refine r_aload_n h 0 dX1_goStep_0 rfl rfl ?_
  refine zm_getA h hc 12 (by decide) rfl q1492 rfl dX1_goStep_1 ?_
  refine r_aload_n h 0 dX1_goStep_4 rfl rfl ?_
  refine zm_getI h hc 7 7 (by decide) rfl rfl q1487 rfl dX1_goStep_5 (fun hr1 => ?_)
  refine zm_ldI h hc 12 12 2 (by decide) rfl rfl rfl (by decide) dX1_goStep_8 (fun _ hr2 => ?_)
  refine r_istore_n (lv' := [(2, iv (σ 12 (σ (-1) 7))), (0, .ref (zm_h G)), (1, iv a0)]) h dX1_goStep_9 rfl (hN _ (by decide)) rfl ?_
  refine r_aload_n h 1 dX1_goStep_10 rfl rfl ?_
  refine zm_getA h hc 74 (by decide) rfl q1553 rfl dX1_goStep_11 ?_
  refine r_iload_n h 2 dX1_goStep_14 rfl rfl ?_
  refine zm_ldZ h hc 74 74 12 (by decide) rfl rfl rfl (by decide) dX1_goStep_15 (fun _ hr3 => ?_)
  refine r_if_eq h hr3.r 144 dX1_goStep_16 rfl ?_ ?_
  · refine r_iconst h dX1_goStep_144 ?_
    refine r_istore_n (lv' := [(3, iv 0), (2, iv (σ 12 (σ (-1) 7))), (0, .ref (zm_h G)), (1, iv a0)]) h dX1_goStep_145 rfl (hN _ (by decide)) rfl ?_
    exact r_lv [2, 3, 1, 0] rfl (w_goStep_146 h hc zF _ a0 (σ 12 (σ (-1) 7)) 0 ha0 hr2 (by decide))
  · refine r_iconst h dX1_goStep_19 ?_
    refine r_istore_n (lv' := [(3, iv 0), (2, iv (σ 12 (σ (-1) 7))), (0, .ref (zm_h G)), (1, iv a0)]) h dX1_goStep_20 rfl (hN _ (by decide)) rfl ?_
    exact r_lv [2, 3, 1, 0] rfl (w_goStep_21 h hc zF _ a0 (σ 12 (σ (-1) 7)) 0 ha0 hr2 (by decide))
