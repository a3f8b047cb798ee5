set_option maxRecDepth 100000
/-! methods of the Model: decode rows, denotations m_.., walks w_.. (written by wip/gen/gen.py) -/
theorem dX1_defaultsOf_0 : decode cX1_defaultsOf 0 = .ok (.sipush 800, 3) := by decide +kernel
theorem dX1_defaultsOf_3 : decode cX1_defaultsOf 3 = .ok (.aload_n 0, 1) := by decide +kernel
theorem dX1_defaultsOf_4 : decode cX1_defaultsOf 4 = .ok (.getfield 328, 3) := by decide +kernel
theorem dX1_defaultsOf_7 : decode cX1_defaultsOf 7 = .ok (.imul, 1) := by decide +kernel
theorem dX1_defaultsOf_8 : decode cX1_defaultsOf 8 = .ok (.istore_n 3, 1) := by decide +kernel
theorem dX1_defaultsOf_9 : decode cX1_defaultsOf 9 = .ok (.iload_n 3, 1) := by decide +kernel
theorem dX1_defaultsOf_10 : decode cX1_defaultsOf 10 = .ok (.sipush 800, 3) := by decide +kernel
theorem dX1_defaultsOf_13 : decode cX1_defaultsOf 13 = .ok (.aload_n 0, 1) := by decide +kernel
theorem dX1_defaultsOf_14 : decode cX1_defaultsOf 14 = .ok (.getfield 328, 3) := by decide +kernel
theorem dX1_defaultsOf_17 : decode cX1_defaultsOf 17 = .ok (.imul, 1) := by decide +kernel
theorem dX1_defaultsOf_18 : decode cX1_defaultsOf 18 = .ok (.aload_n 0, 1) := by decide +kernel
theorem dX1_defaultsOf_19 : decode cX1_defaultsOf 19 = .ok (.getfield 104, 3) := by decide +kernel
theorem dX1_defaultsOf_22 : decode cX1_defaultsOf 22 = .ok (.aload_n 0, 1) := by decide +kernel
theorem dX1_defaultsOf_23 : decode cX1_defaultsOf 23 = .ok (.getfield 328, 3) := by decide +kernel
theorem dX1_defaultsOf_26 : decode cX1_defaultsOf 26 = .ok (.iaload, 1) := by decide +kernel
theorem dX1_defaultsOf_27 : decode cX1_defaultsOf 27 = .ok (.iadd, 1) := by decide +kernel
theorem dX1_defaultsOf_28 : decode cX1_defaultsOf 28 = .ok (.if_icmp .ge 204, 3) := by decide +kernel
theorem dX1_defaultsOf_31 : decode cX1_defaultsOf 31 = .ok (.aload_n 0, 1) := by decide +kernel
theorem dX1_defaultsOf_32 : decode cX1_defaultsOf 32 = .ok (.invokevirtual 289, 3) := by decide +kernel
theorem dX1_defaultsOf_35 : decode cX1_defaultsOf 35 = .ok (.ifCond .eq 197, 3) := by decide +kernel
theorem dX1_defaultsOf_38 : decode cX1_defaultsOf 38 = .ok (.aload_n 0, 1) := by decide +kernel
theorem dX1_defaultsOf_39 : decode cX1_defaultsOf 39 = .ok (.aload_n 0, 1) := by decide +kernel
theorem dX1_defaultsOf_40 : decode cX1_defaultsOf 40 = .ok (.getfield 107, 3) := by decide +kernel
theorem dX1_defaultsOf_43 : decode cX1_defaultsOf 43 = .ok (.iload_n 3, 1) := by decide +kernel
theorem dX1_defaultsOf_44 : decode cX1_defaultsOf 44 = .ok (.iaload, 1) := by decide +kernel
theorem dX1_defaultsOf_45 : decode cX1_defaultsOf 45 = .ok (.aload_n 0, 1) := by decide +kernel
theorem dX1_defaultsOf_46 : decode cX1_defaultsOf 46 = .ok (.getfield 110, 3) := by decide +kernel
theorem dX1_defaultsOf_49 : decode cX1_defaultsOf 49 = .ok (.iload_n 3, 1) := by decide +kernel
theorem dX1_defaultsOf_50 : decode cX1_defaultsOf 50 = .ok (.iaload, 1) := by decide +kernel
theorem dX1_defaultsOf_51 : decode cX1_defaultsOf 51 = .ok (.aload_n 0, 1) := by decide +kernel
theorem dX1_defaultsOf_52 : decode cX1_defaultsOf 52 = .ok (.getfield 37, 3) := by decide +kernel
theorem dX1_defaultsOf_55 : decode cX1_defaultsOf 55 = .ok (.sipush 600, 3) := by decide +kernel
theorem dX1_defaultsOf_58 : decode cX1_defaultsOf 58 = .ok (.aload_n 0, 1) := by decide +kernel
theorem dX1_defaultsOf_59 : decode cX1_defaultsOf 59 = .ok (.getfield 328, 3) := by decide +kernel
theorem dX1_defaultsOf_62 : decode cX1_defaultsOf 62 = .ok (.imul, 1) := by decide +kernel
theorem dX1_defaultsOf_63 : decode cX1_defaultsOf 63 = .ok (.iload_n 1, 1) := by decide +kernel
theorem dX1_defaultsOf_64 : decode cX1_defaultsOf 64 = .ok (.iadd, 1) := by decide +kernel
theorem dX1_defaultsOf_65 : decode cX1_defaultsOf 65 = .ok (.iaload, 1) := by decide +kernel
theorem dX1_defaultsOf_66 : decode cX1_defaultsOf 66 = .ok (.aload_n 0, 1) := by decide +kernel
theorem dX1_defaultsOf_67 : decode cX1_defaultsOf 67 = .ok (.getfield 40, 3) := by decide +kernel
theorem dX1_defaultsOf_70 : decode cX1_defaultsOf 70 = .ok (.sipush 600, 3) := by decide +kernel
theorem dX1_defaultsOf_73 : decode cX1_defaultsOf 73 = .ok (.aload_n 0, 1) := by decide +kernel
theorem dX1_defaultsOf_74 : decode cX1_defaultsOf 74 = .ok (.getfield 328, 3) := by decide +kernel
theorem dX1_defaultsOf_77 : decode cX1_defaultsOf 77 = .ok (.imul, 1) := by decide +kernel
theorem dX1_defaultsOf_78 : decode cX1_defaultsOf 78 = .ok (.iload_n 1, 1) := by decide +kernel
theorem dX1_defaultsOf_79 : decode cX1_defaultsOf 79 = .ok (.iadd, 1) := by decide +kernel
theorem dX1_defaultsOf_80 : decode cX1_defaultsOf 80 = .ok (.iaload, 1) := by decide +kernel
theorem dX1_defaultsOf_81 : decode cX1_defaultsOf 81 = .ok (.invokevirtual 412, 3) := by decide +kernel
theorem dX1_defaultsOf_84 : decode cX1_defaultsOf 84 = .ok (.istore 4, 2) := by decide +kernel
theorem dX1_defaultsOf_86 : decode cX1_defaultsOf 86 = .ok (.iload 4, 2) := by decide +kernel
theorem dX1_defaultsOf_88 : decode cX1_defaultsOf 88 = .ok (.ifCond .eq 138, 3) := by decide +kernel
theorem dX1_defaultsOf_91 : decode cX1_defaultsOf 91 = .ok (.aload_n 0, 1) := by decide +kernel
theorem dX1_defaultsOf_92 : decode cX1_defaultsOf 92 = .ok (.getfield 122, 3) := by decide +kernel
theorem dX1_defaultsOf_95 : decode cX1_defaultsOf 95 = .ok (.iload_n 3, 1) := by decide +kernel
theorem dX1_defaultsOf_96 : decode cX1_defaultsOf 96 = .ok (.iaload, 1) := by decide +kernel
theorem dX1_defaultsOf_97 : decode cX1_defaultsOf 97 = .ok (.iconst 2, 1) := by decide +kernel
theorem dX1_defaultsOf_98 : decode cX1_defaultsOf 98 = .ok (.if_icmp .lt 128, 3) := by decide +kernel
theorem dX1_defaultsOf_101 : decode cX1_defaultsOf 101 = .ok (.aload_n 0, 1) := by decide +kernel
theorem dX1_defaultsOf_102 : decode cX1_defaultsOf 102 = .ok (.iload_n 1, 1) := by decide +kernel
theorem dX1_defaultsOf_103 : decode cX1_defaultsOf 103 = .ok (.aload_n 0, 1) := by decide +kernel
theorem dX1_defaultsOf_104 : decode cX1_defaultsOf 104 = .ok (.getfield 113, 3) := by decide +kernel
theorem dX1_defaultsOf_107 : decode cX1_defaultsOf 107 = .ok (.iload_n 3, 1) := by decide +kernel
theorem dX1_defaultsOf_108 : decode cX1_defaultsOf 108 = .ok (.iaload, 1) := by decide +kernel
theorem dX1_defaultsOf_109 : decode cX1_defaultsOf 109 = .ok (.aload_n 0, 1) := by decide +kernel
theorem dX1_defaultsOf_110 : decode cX1_defaultsOf 110 = .ok (.getfield 116, 3) := by decide +kernel
theorem dX1_defaultsOf_113 : decode cX1_defaultsOf 113 = .ok (.iload_n 3, 1) := by decide +kernel
theorem dX1_defaultsOf_114 : decode cX1_defaultsOf 114 = .ok (.iaload, 1) := by decide +kernel
theorem dX1_defaultsOf_115 : decode cX1_defaultsOf 115 = .ok (.invokevirtual 458, 3) := by decide +kernel
theorem dX1_defaultsOf_118 : decode cX1_defaultsOf 118 = .ok (.ifCond .ne 108, 3) := by decide +kernel
theorem dX1_defaultsOf_121 : decode cX1_defaultsOf 121 = .ok (.aload_n 0, 1) := by decide +kernel
theorem dX1_defaultsOf_122 : decode cX1_defaultsOf 122 = .ok (.iload_n 1, 1) := by decide +kernel
theorem dX1_defaultsOf_123 : decode cX1_defaultsOf 123 = .ok (.invokevirtual 462, 3) := by decide +kernel
theorem dX1_defaultsOf_126 : decode cX1_defaultsOf 126 = .ok (.bipush 8, 2) := by decide +kernel
theorem dX1_defaultsOf_128 : decode cX1_defaultsOf 128 = .ok (.if_icmp .ne 10, 3) := by decide +kernel
theorem dX1_defaultsOf_131 : decode cX1_defaultsOf 131 = .ok (.aload_n 0, 1) := by decide +kernel
theorem dX1_defaultsOf_132 : decode cX1_defaultsOf 132 = .ok (.bipush (-3), 2) := by decide +kernel
theorem dX1_defaultsOf_134 : decode cX1_defaultsOf 134 = .ok (.iload_n 2, 1) := by decide +kernel
theorem dX1_defaultsOf_135 : decode cX1_defaultsOf 135 = .ok (.invokevirtual 293, 3) := by decide +kernel
theorem dX1_defaultsOf_138 : decode cX1_defaultsOf 138 = .ok (.aload_n 0, 1) := by decide +kernel
theorem dX1_defaultsOf_139 : decode cX1_defaultsOf 139 = .ok (.iconst 2, 1) := by decide +kernel
theorem dX1_defaultsOf_140 : decode cX1_defaultsOf 140 = .ok (.iload_n 2, 1) := by decide +kernel
theorem dX1_defaultsOf_141 : decode cX1_defaultsOf 141 = .ok (.invokevirtual 446, 3) := by decide +kernel
theorem dX1_defaultsOf_144 : decode cX1_defaultsOf 144 = .ok (.istore 5, 2) := by decide +kernel
theorem dX1_defaultsOf_146 : decode cX1_defaultsOf 146 = .ok (.aload_n 0, 1) := by decide +kernel
theorem dX1_defaultsOf_147 : decode cX1_defaultsOf 147 = .ok (.invokevirtual 289, 3) := by decide +kernel
theorem dX1_defaultsOf_150 : decode cX1_defaultsOf 150 = .ok (.ifCond .eq 76, 3) := by decide +kernel
theorem dX1_defaultsOf_153 : decode cX1_defaultsOf 153 = .ok (.sipush 600, 3) := by decide +kernel
theorem dX1_defaultsOf_156 : decode cX1_defaultsOf 156 = .ok (.aload_n 0, 1) := by decide +kernel
theorem dX1_defaultsOf_157 : decode cX1_defaultsOf 157 = .ok (.getfield 328, 3) := by decide +kernel
theorem dX1_defaultsOf_160 : decode cX1_defaultsOf 160 = .ok (.imul, 1) := by decide +kernel
theorem dX1_defaultsOf_161 : decode cX1_defaultsOf 161 = .ok (.iload 5, 2) := by decide +kernel
theorem dX1_defaultsOf_163 : decode cX1_defaultsOf 163 = .ok (.iadd, 1) := by decide +kernel
theorem dX1_defaultsOf_164 : decode cX1_defaultsOf 164 = .ok (.istore 6, 2) := by decide +kernel
theorem dX1_defaultsOf_166 : decode cX1_defaultsOf 166 = .ok (.aload_n 0, 1) := by decide +kernel
theorem dX1_defaultsOf_167 : decode cX1_defaultsOf 167 = .ok (.getfield 37, 3) := by decide +kernel
theorem dX1_defaultsOf_170 : decode cX1_defaultsOf 170 = .ok (.iload 6, 2) := by decide +kernel
theorem dX1_defaultsOf_172 : decode cX1_defaultsOf 172 = .ok (.aload_n 0, 1) := by decide +kernel
theorem dX1_defaultsOf_173 : decode cX1_defaultsOf 173 = .ok (.getfield 113, 3) := by decide +kernel
theorem dX1_defaultsOf_176 : decode cX1_defaultsOf 176 = .ok (.iload_n 3, 1) := by decide +kernel
theorem dX1_defaultsOf_177 : decode cX1_defaultsOf 177 = .ok (.iaload, 1) := by decide +kernel
theorem dX1_defaultsOf_178 : decode cX1_defaultsOf 178 = .ok (.iastore, 1) := by decide +kernel
theorem dX1_defaultsOf_179 : decode cX1_defaultsOf 179 = .ok (.aload_n 0, 1) := by decide +kernel
theorem dX1_defaultsOf_180 : decode cX1_defaultsOf 180 = .ok (.getfield 40, 3) := by decide +kernel
theorem dX1_defaultsOf_183 : decode cX1_defaultsOf 183 = .ok (.iload 6, 2) := by decide +kernel
theorem dX1_defaultsOf_185 : decode cX1_defaultsOf 185 = .ok (.aload_n 0, 1) := by decide +kernel
theorem dX1_defaultsOf_186 : decode cX1_defaultsOf 186 = .ok (.getfield 116, 3) := by decide +kernel
theorem dX1_defaultsOf_189 : decode cX1_defaultsOf 189 = .ok (.iload_n 3, 1) := by decide +kernel
theorem dX1_defaultsOf_190 : decode cX1_defaultsOf 190 = .ok (.iaload, 1) := by decide +kernel
theorem dX1_defaultsOf_191 : decode cX1_defaultsOf 191 = .ok (.iastore, 1) := by decide +kernel
theorem dX1_defaultsOf_192 : decode cX1_defaultsOf 192 = .ok (.aload_n 0, 1) := by decide +kernel
theorem dX1_defaultsOf_193 : decode cX1_defaultsOf 193 = .ok (.getfield 43, 3) := by decide +kernel
theorem dX1_defaultsOf_196 : decode cX1_defaultsOf 196 = .ok (.iload 6, 2) := by decide +kernel
theorem dX1_defaultsOf_198 : decode cX1_defaultsOf 198 = .ok (.aload_n 0, 1) := by decide +kernel
theorem dX1_defaultsOf_199 : decode cX1_defaultsOf 199 = .ok (.getfield 125, 3) := by decide +kernel
theorem dX1_defaultsOf_202 : decode cX1_defaultsOf 202 = .ok (.iload_n 3, 1) := by decide +kernel
theorem dX1_defaultsOf_203 : decode cX1_defaultsOf 203 = .ok (.iaload, 1) := by decide +kernel
theorem dX1_defaultsOf_204 : decode cX1_defaultsOf 204 = .ok (.iastore, 1) := by decide +kernel
theorem dX1_defaultsOf_205 : decode cX1_defaultsOf 205 = .ok (.aload_n 0, 1) := by decide +kernel
theorem dX1_defaultsOf_206 : decode cX1_defaultsOf 206 = .ok (.getfield 46, 3) := by decide +kernel
theorem dX1_defaultsOf_209 : decode cX1_defaultsOf 209 = .ok (.iload 6, 2) := by decide +kernel
theorem dX1_defaultsOf_211 : decode cX1_defaultsOf 211 = .ok (.aload_n 0, 1) := by decide +kernel
theorem dX1_defaultsOf_212 : decode cX1_defaultsOf 212 = .ok (.getfield 128, 3) := by decide +kernel
theorem dX1_defaultsOf_215 : decode cX1_defaultsOf 215 = .ok (.iload_n 3, 1) := by decide +kernel
theorem dX1_defaultsOf_216 : decode cX1_defaultsOf 216 = .ok (.iaload, 1) := by decide +kernel
theorem dX1_defaultsOf_217 : decode cX1_defaultsOf 217 = .ok (.iastore, 1) := by decide +kernel
theorem dX1_defaultsOf_218 : decode cX1_defaultsOf 218 = .ok (.aload_n 0, 1) := by decide +kernel
theorem dX1_defaultsOf_219 : decode cX1_defaultsOf 219 = .ok (.getfield 49, 3) := by decide +kernel
theorem dX1_defaultsOf_222 : decode cX1_defaultsOf 222 = .ok (.iload 6, 2) := by decide +kernel
theorem dX1_defaultsOf_224 : decode cX1_defaultsOf 224 = .ok (.iconst 1, 1) := by decide +kernel
theorem dX1_defaultsOf_225 : decode cX1_defaultsOf 225 = .ok (.bastore, 1) := by decide +kernel
theorem dX1_defaultsOf_226 : decode cX1_defaultsOf 226 = .ok (.iinc 3 1, 3) := by decide +kernel
theorem dX1_defaultsOf_229 : decode cX1_defaultsOf 229 = .ok (.goto (-220), 3) := by decide +kernel
theorem dX1_defaultsOf_232 : decode cX1_defaultsOf 232 = .ok (.return_, 1) := by decide +kernel
def m_defaultsOf_138 (lp9 : MEM → Int → Int → Int → Option zm_O) (σ : MEM) (x1 x2 x3 : Int) : Option zm_O := bd (m_newNode σ 2 x2) (fun r1 σ2 => bd (m_isGood σ2) (fun r4 σ5 => if r4 = 0 then (ck (inR (x3 + 1)) (lp9 σ5 x1 x2 (x3 + 1))) else (ck (0 ≤ x3 ∧ x3 < 1600) (ck (0 ≤ ((600 * (σ5 (-1) 8)) + r1) ∧ ((600 * (σ5 (-1) 8)) + r1) < 1200) (nu (mup σ5 15 ((600 * (σ5 (-1) 8)) + r1) (σ5 40 x3)) (fun σ10 => ck (0 ≤ x3 ∧ x3 < 1600) (ck (0 ≤ ((600 * (σ5 (-1) 8)) + r1) ∧ ((600 * (σ5 (-1) 8)) + r1) < 1200) (nu (mup σ10 16 ((600 * (σ5 (-1) 8)) + r1) (σ10 41 x3)) (fun σ12 => ck (0 ≤ x3 ∧ x3 < 1600) (ck (0 ≤ ((600 * (σ5 (-1) 8)) + r1) ∧ ((600 * (σ5 (-1) 8)) + r1) < 1200) (nu (mup σ12 17 ((600 * (σ5 (-1) 8)) + r1) (σ12 44 x3)) (fun σ14 => ck (0 ≤ x3 ∧ x3 < 1600) (ck (0 ≤ ((600 * (σ5 (-1) 8)) + r1) ∧ ((600 * (σ5 (-1) 8)) + r1) < 1200) (nu (mup σ14 18 ((600 * (σ5 (-1) 8)) + r1) (σ14 45 x3)) (fun σ16 => ck (0 ≤ ((600 * (σ5 (-1) 8)) + r1) ∧ ((600 * (σ5 (-1) 8)) + r1) < 1200) (nu (mup σ16 19 ((600 * (σ5 (-1) 8)) + r1) 1) (fun σ17 => ck (inR (x3 + 1)) (lp9 σ17 x1 x2 (x3 + 1)))))))))))))))))))
theorem w_defaultsOf_138 {C : zv_Cx zm_O} {G : zm_G} (h : zv_Ok C cX1_defaultsOf RX1) (hc : zm_C C G 7 (Option.none : Option FieldType) 0 2 51) (lp9 : MEM → Int → Int → Int → Option zm_O) (hlp9 : ∀ (σ : MEM) (x1 x2 x3 : Int), inR x1 → inR x2 → inR x3 → VV C (lp9 σ x1 x2 x3) σ [(0, .ref (zm_h G)), (1, iv x1), (2, iv x2), (3, iv x3)] [] 9) (σ : MEM) (x1 x2 x3 : Int) (hx1 : inR x1) (hx2 : inR x2) (hx3 : inR x3) : VV C (m_defaultsOf_138 lp9 σ x1 x2 x3) σ [(0, .ref (zm_h G)), (1, iv x1), (2, iv x2), (3, iv x3)] [] 138 := by
  have hN : ∀ i, i < 7 → i < zv_n C := fun i q => by rw [hc.2.2.1]; exact q
  unfold m_defaultsOf_138
  refine r_aload_n h 0 dX1_defaultsOf_138 rfl rfl ?_
  refine r_iconst h dX1_defaultsOf_139 ?_
  refine r_iload_n h 2 dX1_defaultsOf_140 rfl rfl ?_
  refine zm_cVi h hc (n := 2) (As := [iv 2, iv x2]) (fun o1 e1 => w_newNode hc.1 _ 2 x2 (by decide) hx2 o1 e1) q1797 q1799 qs55 q136 q1800 (by decide +kernel) ⟨by decide, by decide⟩ rfl (Nat.le_of_ble_eq_true rfl) rfl dX1_defaultsOf_141 (fun r1 σ2 hr3 => ?_)
  refine r_istore (lv' := [(5, iv r1), (0, .ref (zm_h G)), (1, iv x1), (2, iv x2), (3, iv x3)]) h dX1_defaultsOf_144 (hN _ (by decide)) rfl ?_
  refine r_aload_n h 1 dX1_defaultsOf_146 rfl rfl ?_
  refine zm_cVz h hc (n := 0) (As := []) (fun o1 e1 => w_isGood hc.1 _ o1 e1) q1801 q1803 qs56 q136 q1804 (by decide +kernel) ⟨by decide, by decide⟩ rfl (Nat.le_of_ble_eq_true rfl) rfl dX1_defaultsOf_147 (fun r4 σ5 hr6 => ?_)
  refine r_if_eq h hr6.r 226 dX1_defaultsOf_150 rfl ?_ ?_
  · refine r_iinc (lv' := [(3, iv (x3 + 1)), (5, iv r1), (0, .ref (zm_h G)), (1, iv x1), (2, iv x2)]) h 4 dX1_defaultsOf_226 rfl (hN _ (by decide)) rfl ?_
    refine r_goto h 9 dX1_defaultsOf_229 rfl ?_
    refine r_ck (fun hk7 => ?_)
    exact r_lv [2, 3, 4, 0] rfl (hlp9 _ x1 x2 (x3 + 1) hx1 hx2 hk7)
  · refine r_sipush h dX1_defaultsOf_153 (by decide) ?_
    refine r_aload_n h 1 dX1_defaultsOf_156 rfl rfl ?_
    refine zm_getI h hc 8 8 (by decide) rfl rfl q1488 rfl dX1_defaultsOf_157 (fun hr8 => ?_)
    refine r_imul h dX1_defaultsOf_160 ?_
    refine r_iload h 0 dX1_defaultsOf_161 rfl ?_
    refine r_iadd h dX1_defaultsOf_163 ?_
    refine r_istore (lv' := [(6, iv ((600 * (σ5 (-1) 8)) + r1)), (5, iv r1), (0, .ref (zm_h G)), (1, iv x1), (2, iv x2), (3, iv x3)]) h dX1_defaultsOf_164 (hN _ (by decide)) rfl ?_
    refine r_aload_n h 2 dX1_defaultsOf_166 rfl rfl ?_
    refine zm_getA h hc 15 (by decide) rfl q1495 rfl dX1_defaultsOf_167 ?_
    refine r_iload h 0 dX1_defaultsOf_170 rfl ?_
    refine r_aload_n h 2 dX1_defaultsOf_172 rfl rfl ?_
    refine zm_getA h hc 40 (by decide) rfl q1520 rfl dX1_defaultsOf_173 ?_
    refine r_iload_n h 5 dX1_defaultsOf_176 rfl rfl ?_
    refine zm_ldI h hc 40 40 1600 (by decide) rfl rfl rfl (by decide) dX1_defaultsOf_177 (fun _ hr9 => ?_)
    refine zm_stI h hc 15 15 1200 (by decide) rfl rfl rfl (by decide) hr9 dX1_defaultsOf_178 (fun _ σ10 _ => ?_)
    refine r_aload_n h 2 dX1_defaultsOf_179 rfl rfl ?_
    refine zm_getA h hc 16 (by decide) rfl q1496 rfl dX1_defaultsOf_180 ?_
    refine r_iload h 0 dX1_defaultsOf_183 rfl ?_
    refine r_aload_n h 2 dX1_defaultsOf_185 rfl rfl ?_
    refine zm_getA h hc 41 (by decide) rfl q1521 rfl dX1_defaultsOf_186 ?_
    refine r_iload_n h 5 dX1_defaultsOf_189 rfl rfl ?_
    refine zm_ldI h hc 41 41 1600 (by decide) rfl rfl rfl (by decide) dX1_defaultsOf_190 (fun _ hr11 => ?_)
    refine zm_stI h hc 16 16 1200 (by decide) rfl rfl rfl (by decide) hr11 dX1_defaultsOf_191 (fun _ σ12 _ => ?_)
    refine r_aload_n h 2 dX1_defaultsOf_192 rfl rfl ?_
    refine zm_getA h hc 17 (by decide) rfl q1497 rfl dX1_defaultsOf_193 ?_
    refine r_iload h 0 dX1_defaultsOf_196 rfl ?_
    refine r_aload_n h 2 dX1_defaultsOf_198 rfl rfl ?_
    refine zm_getA h hc 44 (by decide) rfl q1524 rfl dX1_defaultsOf_199 ?_
    refine r_iload_n h 5 dX1_defaultsOf_202 rfl rfl ?_
    refine zm_ldI h hc 44 44 1600 (by decide) rfl rfl rfl (by decide) dX1_defaultsOf_203 (fun _ hr13 => ?_)
    refine zm_stI h hc 17 17 1200 (by decide) rfl rfl rfl (by decide) hr13 dX1_defaultsOf_204 (fun _ σ14 _ => ?_)
    refine r_aload_n h 2 dX1_defaultsOf_205 rfl rfl ?_
    refine zm_getA h hc 18 (by decide) rfl q1498 rfl dX1_defaultsOf_206 ?_
    refine r_iload h 0 dX1_defaultsOf_209 rfl ?_
    refine r_aload_n h 2 dX1_defaultsOf_211 rfl rfl ?_
    refine zm_getA h hc 45 (by decide) rfl q1525 rfl dX1_defaultsOf_212 ?_
    refine r_iload_n h 5 dX1_defaultsOf_215 rfl rfl ?_
    refine zm_ldI h hc 45 45 1600 (by decide) rfl rfl rfl (by decide) dX1_defaultsOf_216 (fun _ hr15 => ?_)
    refine zm_stI h hc 18 18 1200 (by decide) rfl rfl rfl (by decide) hr15 dX1_defaultsOf_217 (fun _ σ16 _ => ?_)
    refine r_aload_n h 2 dX1_defaultsOf_218 rfl rfl ?_
    refine zm_getA h hc 19 (by decide) rfl q1499 rfl dX1_defaultsOf_219 ?_
    refine r_iload h 0 dX1_defaultsOf_222 rfl ?_
    refine r_iconst h dX1_defaultsOf_224 ?_
    refine zm_stZ h hc 19 19 1200 (by decide) rfl rfl rfl (by decide) (by decide) dX1_defaultsOf_225 (fun _ σ17 _ => ?_)
    refine r_iinc (lv' := [(3, iv (x3 + 1)), (6, iv ((600 * (σ5 (-1) 8)) + r1)), (5, iv r1), (0, .ref (zm_h G)), (1, iv x1), (2, iv x2)]) h 5 dX1_defaultsOf_226 rfl (hN _ (by decide)) rfl ?_
    refine r_goto h 9 dX1_defaultsOf_229 rfl ?_
    refine r_ck (fun hk18 => ?_)
    exact r_lv [3, 4, 5, 0] rfl (hlp9 _ x1 x2 (x3 + 1) hx1 hx2 hk18)
def m_defaultsOf_9 : Nat → MEM → Int → Int → Int → Option zm_O
  | 0, _, _, _, _ => none
  | n + 1, σ, x1, x2, x3 => ck (0 ≤ (σ (-1) 8) ∧ (σ (-1) 8) < 2) (ck (inR ((800 * (σ (-1) 8)) + (σ 37 (σ (-1) 8)))) (if ((800 * (σ (-1) 8)) + (σ 37 (σ (-1) 8))) ≤ x3 then (some (0, σ)) else (bd (m_isGood σ) (fun r5 σ6 => if r5 = 0 then (some (0, σ6)) else (ck (0 ≤ x3 ∧ x3 < 1600) (ck (0 ≤ x3 ∧ x3 < 1600) (ck (0 ≤ ((600 * (σ6 (-1) 8)) + x1) ∧ ((600 * (σ6 (-1) 8)) + x1) < 1200) (ck (0 ≤ ((600 * (σ6 (-1) 8)) + x1) ∧ ((600 * (σ6 (-1) 8)) + x1) < 1200) (bd (m_isSame σ6 (σ6 38 x3) (σ6 39 x3) (σ6 15 ((600 * (σ6 (-1) 8)) + x1)) (σ6 16 ((600 * (σ6 (-1) 8)) + x1))) (fun r14 σ15 => if r14 = 0 then (ck (inR (x3 + 1)) (m_defaultsOf_9 n σ15 x1 x2 (x3 + 1))) else (ck (0 ≤ x3 ∧ x3 < 1600) (if (σ15 43 x3) < 2 then (ck (inR (x3 + 1)) (m_defaultsOf_9 n σ15 x1 x2 (x3 + 1))) else (ck (0 ≤ x3 ∧ x3 < 1600) (ck (0 ≤ x3 ∧ x3 < 1600) (bd (m_hasAttribute σ15 x1 (σ15 40 x3) (σ15 41 x3)) (fun r22 σ23 => if r22 = 0 then (bd (m_attributesOf σ23 x1) (fun r25 σ26 => if r25 = 8 then (bd (m_fail σ26 (-3) x2) (fun _ σ28 => m_defaultsOf_138 (m_defaultsOf_9 n) σ28 x1 x2 x3)) else (m_defaultsOf_138 (m_defaultsOf_9 n) σ26 x1 x2 x3))) else (ck (inR (x3 + 1)) (m_defaultsOf_9 n σ23 x1 x2 (x3 + 1)))))))))))))))))))
theorem w_defaultsOf_9 {C : zv_Cx zm_O} {G : zm_G} (h : zv_Ok C cX1_defaultsOf RX1) (hc : zm_C C G 7 (Option.none : Option FieldType) 0 2 51) : ∀ (n : Nat) (σ : MEM) (x1 x2 x3 : Int), inR x1 → inR x2 → inR x3 → VV C (m_defaultsOf_9 n σ x1 x2 x3) σ [(0, .ref (zm_h G)), (1, iv x1), (2, iv x2), (3, iv x3)] [] 9 := by
  have hN : ∀ i, i < 7 → i < zv_n C := fun i q => by rw [hc.2.2.1]; exact q
  intro n
  induction n with
  | zero => intros; exact r_none
  | succ n ih =>
    intro σ x1 x2 x3 hx1 hx2 hx3
    rw [m_defaultsOf_9]
    refine r_iload_n h 3 dX1_defaultsOf_9 rfl rfl ?_
    refine r_sipush h dX1_defaultsOf_10 (by decide) ?_
    refine r_aload_n h 0 dX1_defaultsOf_13 rfl rfl ?_
    refine zm_getI h hc 8 8 (by decide) rfl rfl q1488 rfl dX1_defaultsOf_14 (fun hr1 => ?_)
    refine r_imul h dX1_defaultsOf_17 ?_
    refine r_aload_n h 0 dX1_defaultsOf_18 rfl rfl ?_
    refine zm_getA h hc 37 (by decide) rfl q1517 rfl dX1_defaultsOf_19 ?_
    refine r_aload_n h 0 dX1_defaultsOf_22 rfl rfl ?_
    refine zm_getI h hc 8 8 (by decide) rfl rfl q1488 rfl dX1_defaultsOf_23 (fun hr2 => ?_)
    refine zm_ldI h hc 37 37 2 (by decide) rfl rfl rfl (by decide) dX1_defaultsOf_26 (fun _ hr3 => ?_)
    refine r_iadd h dX1_defaultsOf_27 ?_
    refine r_ck (fun hk4 => ?_)
    refine r_icmp_ge h hx3 hk4 232 dX1_defaultsOf_28 rfl ?_ ?_
    · exact zm_vret h hc rfl dX1_defaultsOf_232
    · refine r_aload_n h 0 dX1_defaultsOf_31 rfl rfl ?_
      refine zm_cVz h hc (n := 0) (As := []) (fun o1 e1 => w_isGood hc.1 _ o1 e1) q1801 q1803 qs56 q136 q1804 (by decide +kernel) ⟨by decide, by decide⟩ rfl (Nat.le_of_ble_eq_true rfl) rfl dX1_defaultsOf_32 (fun r5 σ6 hr7 => ?_)
      refine r_if_eq h hr7.r 232 dX1_defaultsOf_35 rfl ?_ ?_
      · exact zm_vret h hc rfl dX1_defaultsOf_232
      · refine r_aload_n h 0 dX1_defaultsOf_38 rfl rfl ?_
        refine r_aload_n h 0 dX1_defaultsOf_39 rfl rfl ?_
        refine zm_getA h hc 38 (by decide) rfl q1518 rfl dX1_defaultsOf_40 ?_
        refine r_iload_n h 3 dX1_defaultsOf_43 rfl rfl ?_
        refine zm_ldI h hc 38 38 1600 (by decide) rfl rfl rfl (by decide) dX1_defaultsOf_44 (fun _ hr8 => ?_)
        refine r_aload_n h 0 dX1_defaultsOf_45 rfl rfl ?_
        refine zm_getA h hc 39 (by decide) rfl q1519 rfl dX1_defaultsOf_46 ?_
        refine r_iload_n h 3 dX1_defaultsOf_49 rfl rfl ?_
        refine zm_ldI h hc 39 39 1600 (by decide) rfl rfl rfl (by decide) dX1_defaultsOf_50 (fun _ hr9 => ?_)
        refine r_aload_n h 0 dX1_defaultsOf_51 rfl rfl ?_
        refine zm_getA h hc 15 (by decide) rfl q1495 rfl dX1_defaultsOf_52 ?_
        refine r_sipush h dX1_defaultsOf_55 (by decide) ?_
        refine r_aload_n h 0 dX1_defaultsOf_58 rfl rfl ?_
        refine zm_getI h hc 8 8 (by decide) rfl rfl q1488 rfl dX1_defaultsOf_59 (fun hr10 => ?_)
        refine r_imul h dX1_defaultsOf_62 ?_
        refine r_iload_n h 1 dX1_defaultsOf_63 rfl rfl ?_
        refine r_iadd h dX1_defaultsOf_64 ?_
        refine zm_ldI h hc 15 15 1200 (by decide) rfl rfl rfl (by decide) dX1_defaultsOf_65 (fun _ hr11 => ?_)
        refine r_aload_n h 0 dX1_defaultsOf_66 rfl rfl ?_
        refine zm_getA h hc 16 (by decide) rfl q1496 rfl dX1_defaultsOf_67 ?_
        refine r_sipush h dX1_defaultsOf_70 (by decide) ?_
        refine r_aload_n h 0 dX1_defaultsOf_73 rfl rfl ?_
        refine zm_getI h hc 8 8 (by decide) rfl rfl q1488 rfl dX1_defaultsOf_74 (fun hr12 => ?_)
        refine r_imul h dX1_defaultsOf_77 ?_
        refine r_iload_n h 1 dX1_defaultsOf_78 rfl rfl ?_
        refine r_iadd h dX1_defaultsOf_79 ?_
        refine zm_ldI h hc 16 16 1200 (by decide) rfl rfl rfl (by decide) dX1_defaultsOf_80 (fun _ hr13 => ?_)
        refine zm_cVz h hc (n := 4) (As := [iv (σ6 38 x3), iv (σ6 39 x3), iv (σ6 15 ((600 * (σ6 (-1) 8)) + x1)), iv (σ6 16 ((600 * (σ6 (-1) 8)) + x1))]) (fun o1 e1 => w_isSame hc.1 _ (σ6 38 x3) (σ6 39 x3) (σ6 15 ((600 * (σ6 (-1) 8)) + x1)) (σ6 16 ((600 * (σ6 (-1) 8)) + x1)) hr8 hr9 hr11 hr13 o1 e1) q1924 q1926 qs79 q136 q1927 (by decide +kernel) ⟨by decide, by decide⟩ rfl (Nat.le_of_ble_eq_true rfl) rfl dX1_defaultsOf_81 (fun r14 σ15 hr16 => ?_)
        refine r_istore (lv' := [(4, iv r14), (0, .ref (zm_h G)), (1, iv x1), (2, iv x2), (3, iv x3)]) h dX1_defaultsOf_84 (hN _ (by decide)) rfl ?_
        refine r_iload h 0 dX1_defaultsOf_86 rfl ?_
        refine r_if_eq h hr16.r 226 dX1_defaultsOf_88 rfl ?_ ?_
        · refine r_iinc (lv' := [(3, iv (x3 + 1)), (4, iv r14), (0, .ref (zm_h G)), (1, iv x1), (2, iv x2)]) h 4 dX1_defaultsOf_226 rfl (hN _ (by decide)) rfl ?_
          refine r_goto h 9 dX1_defaultsOf_229 rfl ?_
          refine r_ck (fun hk17 => ?_)
          exact r_lv [2, 3, 4, 0] rfl (ih _ x1 x2 (x3 + 1) hx1 hx2 hk17)
        · refine r_aload_n h 1 dX1_defaultsOf_91 rfl rfl ?_
          refine zm_getA h hc 43 (by decide) rfl q1523 rfl dX1_defaultsOf_92 ?_
          refine r_iload_n h 4 dX1_defaultsOf_95 rfl rfl ?_
          refine zm_ldI h hc 43 43 1600 (by decide) rfl rfl rfl (by decide) dX1_defaultsOf_96 (fun _ hr18 => ?_)
          refine r_iconst h dX1_defaultsOf_97 ?_
          refine r_icmp_lt h hr18 (by decide) 226 dX1_defaultsOf_98 rfl ?_ ?_
          · refine r_iinc (lv' := [(3, iv (x3 + 1)), (4, iv r14), (0, .ref (zm_h G)), (1, iv x1), (2, iv x2)]) h 4 dX1_defaultsOf_226 rfl (hN _ (by decide)) rfl ?_
            refine r_goto h 9 dX1_defaultsOf_229 rfl ?_
            refine r_ck (fun hk19 => ?_)
            exact r_lv [2, 3, 4, 0] rfl (ih _ x1 x2 (x3 + 1) hx1 hx2 hk19)
          · refine r_aload_n h 1 dX1_defaultsOf_101 rfl rfl ?_
            refine r_iload_n h 2 dX1_defaultsOf_102 rfl rfl ?_
            refine r_aload_n h 1 dX1_defaultsOf_103 rfl rfl ?_
            refine zm_getA h hc 40 (by decide) rfl q1520 rfl dX1_defaultsOf_104 ?_
            refine r_iload_n h 4 dX1_defaultsOf_107 rfl rfl ?_
            refine zm_ldI h hc 40 40 1600 (by decide) rfl rfl rfl (by decide) dX1_defaultsOf_108 (fun _ hr20 => ?_)
            refine r_aload_n h 1 dX1_defaultsOf_109 rfl rfl ?_
            refine zm_getA h hc 41 (by decide) rfl q1521 rfl dX1_defaultsOf_110 ?_
            refine r_iload_n h 4 dX1_defaultsOf_113 rfl rfl ?_
            refine zm_ldI h hc 41 41 1600 (by decide) rfl rfl rfl (by decide) dX1_defaultsOf_114 (fun _ hr21 => ?_)
            refine zm_cVz h hc (n := 3) (As := [iv x1, iv (σ15 40 x3), iv (σ15 41 x3)]) (fun o1 e1 => w_hasAttribute hc.1 _ x1 (σ15 40 x3) (σ15 41 x3) hx1 hr20 hr21 o1 e1) q1968 q1970 qs87 q136 q1971 (by decide +kernel) ⟨by decide, by decide⟩ rfl (Nat.le_of_ble_eq_true rfl) rfl dX1_defaultsOf_115 (fun r22 σ23 hr24 => ?_)
            refine r_if_ne h hr24.r 226 dX1_defaultsOf_118 rfl ?_ ?_
            · refine r_aload_n h 1 dX1_defaultsOf_121 rfl rfl ?_
              refine r_iload_n h 2 dX1_defaultsOf_122 rfl rfl ?_
              refine zm_cVi h hc (n := 1) (As := [iv x1]) (fun o1 e1 => w_attributesOf hc.1 _ x1 hx1 o1 e1) q1972 q1974 qs88 q136 q1975 (by decide +kernel) ⟨by decide, by decide⟩ rfl (Nat.le_of_ble_eq_true rfl) rfl dX1_defaultsOf_123 (fun r25 σ26 hr27 => ?_)
              refine r_bipush h dX1_defaultsOf_126 (by decide) ?_
              refine r_icmp_ne h hr27 (by decide) 138 dX1_defaultsOf_128 rfl ?_ ?_
              · refine r_aload_n h 1 dX1_defaultsOf_131 rfl rfl ?_
                refine r_bipush h dX1_defaultsOf_132 (by decide) ?_
                refine r_iload_n h 3 dX1_defaultsOf_134 rfl rfl ?_
                refine zm_cVv h hc (n := 2) (As := [iv (-3), iv x2]) (fun o1 e1 => w_fail hc.1 _ (-3) x2 (by decide) hx2 o1 e1) q1805 q1807 qs57 q136 q1808 (by decide +kernel) ⟨by decide, by decide⟩ rfl (Nat.le_of_ble_eq_true rfl) rfl dX1_defaultsOf_135 (fun σ28  => ?_)
                exact r_lv [1, 2, 3, 4] rfl (w_defaultsOf_138 h hc (m_defaultsOf_9 n) ih _ x1 x2 x3 hx1 hx2 hx3)
              · exact r_lv [1, 2, 3, 4] rfl (w_defaultsOf_138 h hc (m_defaultsOf_9 n) ih _ x1 x2 x3 hx1 hx2 hx3)
            · refine r_iinc (lv' := [(3, iv (x3 + 1)), (4, iv r14), (0, .ref (zm_h G)), (1, iv x1), (2, iv x2)]) h 4 dX1_defaultsOf_226 rfl (hN _ (by decide)) rfl ?_
              refine r_goto h 9 dX1_defaultsOf_229 rfl ?_
              refine r_ck (fun hk29 => ?_)
              exact r_lv [2, 3, 4, 0] rfl (ih _ x1 x2 (x3 + 1) hx1 hx2 hk29)
def m_defaultsOf (σ : MEM) (a0 a1 : Int) : Option zm_O := ck (inR (800 * (σ (-1) 8))) (m_defaultsOf_9 zF σ a0 a1 (800 * (σ (-1) 8)))
theorem w_defaultsOf {G : zm_G} (hD : zm_D G) (σ : MEM) (a0 a1 : Int) (ha0 : inR a0) (ha1 : inR a1) (o : zm_O) (hd : m_defaultsOf σ a0 a1 = some o) : zm_Met G yX1_defaultsOf cX1_defaultsOf 7 (Option.none : Option FieldType) 0 2 51 σ [.ref (zm_h G), iv a0, iv a1] o := by
  refine zm_intro hD hd (by decide) rfl (Nat.le_of_ble_eq_true rfl) rfl (fun C h hc => ?_)
  have hN : ∀ i, i < 7 → i < zv_n C := fun i q => by rw [hc.2.2.1]; exact q
  unfold m_defaultsOf
  refine r_sipush h dX1_defaultsOf_0 (by decide) ?_
  refine r_aload_n h 0 dX1_defaultsOf_3 rfl rfl ?_
  refine zm_getI h hc 8 8 (by decide) rfl rfl q1488 rfl dX1_defaultsOf_4 (fun hr1 => ?_)
  refine r_imul h dX1_defaultsOf_7 ?_
  refine r_istore_n (lv' := [(3, iv (800 * (σ (-1) 8))), (0, .ref (zm_h G)), (1, iv a0), (2, iv a1)]) h dX1_defaultsOf_8 rfl (hN _ (by decide)) rfl ?_
  refine r_ck (fun hk2 => ?_)
  exact r_lv [1, 2, 3, 0] rfl (w_defaultsOf_9 h hc zF _ a0 a1 (800 * (σ (-1) 8)) ha0 ha1 hk2)
theorem dX1_element_0 : decode cX1_element 0 = .ok (.aload_n 0, 1) := by decide +kernel
theorem dX1_element_1 : decode cX1_element 1 = .ok (.bipush 60, 2) := by decide +kernel
theorem dX1_element_3 : decode cX1_element 3 = .ok (.invokevirtual 340, 3) := by decide +kernel
theorem dX1_element_6 : decode cX1_element 6 = .ok (.istore_n 1, 1) := by decide +kernel
theorem dX1_element_7 : decode cX1_element 7 = .ok (.aload_n 0, 1) := by decide +kernel
theorem dX1_element_8 : decode cX1_element 8 = .ok (.invokevirtual 351, 3) := by decide +kernel
theorem dX1_element_11 : decode cX1_element 11 = .ok (.istore_n 2, 1) := by decide +kernel
theorem dX1_element_12 : decode cX1_element 12 = .ok (.aload_n 0, 1) := by decide +kernel
theorem dX1_element_13 : decode cX1_element 13 = .ok (.getfield 306, 3) := by decide +kernel
theorem dX1_element_16 : decode cX1_element 16 = .ok (.istore_n 3, 1) := by decide +kernel
theorem dX1_element_17 : decode cX1_element 17 = .ok (.aload_n 0, 1) := by decide +kernel
theorem dX1_element_18 : decode cX1_element 18 = .ok (.invokevirtual 289, 3) := by decide +kernel
theorem dX1_element_21 : decode cX1_element 21 = .ok (.ifCond .eq 19, 3) := by decide +kernel
theorem dX1_element_24 : decode cX1_element 24 = .ok (.aload_n 0, 1) := by decide +kernel
theorem dX1_element_25 : decode cX1_element 25 = .ok (.getfield 443, 3) := by decide +kernel
theorem dX1_element_28 : decode cX1_element 28 = .ok (.bipush 30, 2) := by decide +kernel
theorem dX1_element_30 : decode cX1_element 30 = .ok (.if_icmp .ne 10, 3) := by decide +kernel
theorem dX1_element_33 : decode cX1_element 33 = .ok (.aload_n 0, 1) := by decide +kernel
theorem dX1_element_34 : decode cX1_element 34 = .ok (.bipush (-3), 2) := by decide +kernel
theorem dX1_element_36 : decode cX1_element 36 = .ok (.iload_n 2, 1) := by decide +kernel
theorem dX1_element_37 : decode cX1_element 37 = .ok (.invokevirtual 293, 3) := by decide +kernel
theorem dX1_element_40 : decode cX1_element 40 = .ok (.aload_n 0, 1) := by decide +kernel
theorem dX1_element_41 : decode cX1_element 41 = .ok (.iconst 1, 1) := by decide +kernel
theorem dX1_element_42 : decode cX1_element 42 = .ok (.iload_n 2, 1) := by decide +kernel
theorem dX1_element_43 : decode cX1_element 43 = .ok (.invokevirtual 446, 3) := by decide +kernel
theorem dX1_element_46 : decode cX1_element 46 = .ok (.istore 4, 2) := by decide +kernel
theorem dX1_element_48 : decode cX1_element 48 = .ok (.aload_n 0, 1) := by decide +kernel
theorem dX1_element_49 : decode cX1_element 49 = .ok (.invokevirtual 289, 3) := by decide +kernel
theorem dX1_element_52 : decode cX1_element 52 = .ok (.ifCond .ne 4, 3) := by decide +kernel
theorem dX1_element_55 : decode cX1_element 55 = .ok (.return_, 1) := by decide +kernel
theorem dX1_element_56 : decode cX1_element 56 = .ok (.aload_n 0, 1) := by decide +kernel
theorem dX1_element_57 : decode cX1_element 57 = .ok (.getfield 37, 3) := by decide +kernel
theorem dX1_element_60 : decode cX1_element 60 = .ok (.sipush 600, 3) := by decide +kernel
theorem dX1_element_63 : decode cX1_element 63 = .ok (.aload_n 0, 1) := by decide +kernel
theorem dX1_element_64 : decode cX1_element 64 = .ok (.getfield 328, 3) := by decide +kernel
theorem dX1_element_67 : decode cX1_element 67 = .ok (.imul, 1) := by decide +kernel
theorem dX1_element_68 : decode cX1_element 68 = .ok (.iload 4, 2) := by decide +kernel
theorem dX1_element_70 : decode cX1_element 70 = .ok (.iadd, 1) := by decide +kernel
theorem dX1_element_71 : decode cX1_element 71 = .ok (.sipush 6000, 3) := by decide +kernel
theorem dX1_element_74 : decode cX1_element 74 = .ok (.aload_n 0, 1) := by decide +kernel
theorem dX1_element_75 : decode cX1_element 75 = .ok (.getfield 328, 3) := by decide +kernel
theorem dX1_element_78 : decode cX1_element 78 = .ok (.imul, 1) := by decide +kernel
theorem dX1_element_79 : decode cX1_element 79 = .ok (.iload_n 2, 1) := by decide +kernel
theorem dX1_element_80 : decode cX1_element 80 = .ok (.iadd, 1) := by decide +kernel
theorem dX1_element_81 : decode cX1_element 81 = .ok (.iastore, 1) := by decide +kernel
theorem dX1_element_82 : decode cX1_element 82 = .ok (.aload_n 0, 1) := by decide +kernel
theorem dX1_element_83 : decode cX1_element 83 = .ok (.getfield 40, 3) := by decide +kernel
theorem dX1_element_86 : decode cX1_element 86 = .ok (.sipush 600, 3) := by decide +kernel
theorem dX1_element_89 : decode cX1_element 89 = .ok (.aload_n 0, 1) := by decide +kernel
theorem dX1_element_90 : decode cX1_element 90 = .ok (.getfield 328, 3) := by decide +kernel
theorem dX1_element_93 : decode cX1_element 93 = .ok (.imul, 1) := by decide +kernel
theorem dX1_element_94 : decode cX1_element 94 = .ok (.iload 4, 2) := by decide +kernel
theorem dX1_element_96 : decode cX1_element 96 = .ok (.iadd, 1) := by decide +kernel
theorem dX1_element_97 : decode cX1_element 97 = .ok (.iload_n 3, 1) := by decide +kernel
theorem dX1_element_98 : decode cX1_element 98 = .ok (.iastore, 1) := by decide +kernel
theorem dX1_element_99 : decode cX1_element 99 = .ok (.aload_n 0, 1) := by decide +kernel
theorem dX1_element_100 : decode cX1_element 100 = .ok (.getfield 161, 3) := by decide +kernel
theorem dX1_element_103 : decode cX1_element 103 = .ok (.aload_n 0, 1) := by decide +kernel
theorem dX1_element_104 : decode cX1_element 104 = .ok (.getfield 443, 3) := by decide +kernel
theorem dX1_element_107 : decode cX1_element 107 = .ok (.iload 4, 2) := by decide +kernel
theorem dX1_element_109 : decode cX1_element 109 = .ok (.iastore, 1) := by decide +kernel
theorem dX1_element_110 : decode cX1_element 110 = .ok (.aload_n 0, 1) := by decide +kernel
theorem dX1_element_111 : decode cX1_element 111 = .ok (.dup, 1) := by decide +kernel
theorem dX1_element_112 : decode cX1_element 112 = .ok (.getfield 443, 3) := by decide +kernel
theorem dX1_element_115 : decode cX1_element 115 = .ok (.iconst 1, 1) := by decide +kernel
theorem dX1_element_116 : decode cX1_element 116 = .ok (.iadd, 1) := by decide +kernel
theorem dX1_element_117 : decode cX1_element 117 = .ok (.putfield 443, 3) := by decide +kernel
theorem dX1_element_120 : decode cX1_element 120 = .ok (.aload_n 0, 1) := by decide +kernel
theorem dX1_element_121 : decode cX1_element 121 = .ok (.getfield 61, 3) := by decide +kernel
theorem dX1_element_124 : decode cX1_element 124 = .ok (.aload_n 0, 1) := by decide +kernel
theorem dX1_element_125 : decode cX1_element 125 = .ok (.getfield 328, 3) := by decide +kernel
theorem dX1_element_128 : decode cX1_element 128 = .ok (.aload_n 0, 1) := by decide +kernel
theorem dX1_element_129 : decode cX1_element 129 = .ok (.getfield 443, 3) := by decide +kernel
theorem dX1_element_132 : decode cX1_element 132 = .ok (.aload_n 0, 1) := by decide +kernel
theorem dX1_element_133 : decode cX1_element 133 = .ok (.getfield 61, 3) := by decide +kernel
theorem dX1_element_136 : decode cX1_element 136 = .ok (.aload_n 0, 1) := by decide +kernel
theorem dX1_element_137 : decode cX1_element 137 = .ok (.getfield 328, 3) := by decide +kernel
theorem dX1_element_140 : decode cX1_element 140 = .ok (.iaload, 1) := by decide +kernel
theorem dX1_element_141 : decode cX1_element 141 = .ok (.if_icmp .le 10, 3) := by decide +kernel
theorem dX1_element_144 : decode cX1_element 144 = .ok (.aload_n 0, 1) := by decide +kernel
theorem dX1_element_145 : decode cX1_element 145 = .ok (.getfield 443, 3) := by decide +kernel
theorem dX1_element_148 : decode cX1_element 148 = .ok (.goto 12, 3) := by decide +kernel
theorem dX1_element_151 : decode cX1_element 151 = .ok (.aload_n 0, 1) := by decide +kernel
theorem dX1_element_152 : decode cX1_element 152 = .ok (.getfield 61, 3) := by decide +kernel
theorem dX1_element_155 : decode cX1_element 155 = .ok (.aload_n 0, 1) := by decide +kernel
theorem dX1_element_156 : decode cX1_element 156 = .ok (.getfield 328, 3) := by decide +kernel
theorem dX1_element_159 : decode cX1_element 159 = .ok (.iaload, 1) := by decide +kernel
theorem dX1_element_160 : decode cX1_element 160 = .ok (.iastore, 1) := by decide +kernel
theorem dX1_element_161 : decode cX1_element 161 = .ok (.iconst 1, 1) := by decide +kernel
theorem dX1_element_162 : decode cX1_element 162 = .ok (.istore 5, 2) := by decide +kernel
theorem dX1_element_164 : decode cX1_element 164 = .ok (.aload_n 0, 1) := by decide +kernel
theorem dX1_element_165 : decode cX1_element 165 = .ok (.invokevirtual 289, 3) := by decide +kernel
theorem dX1_element_168 : decode cX1_element 168 = .ok (.ifCond .eq 62, 3) := by decide +kernel
theorem dX1_element_171 : decode cX1_element 171 = .ok (.iload 5, 2) := by decide +kernel
theorem dX1_element_173 : decode cX1_element 173 = .ok (.ifCond .eq 57, 3) := by decide +kernel
theorem dX1_element_176 : decode cX1_element 176 = .ok (.aload_n 0, 1) := by decide +kernel
theorem dX1_element_177 : decode cX1_element 177 = .ok (.getfield 276, 3) := by decide +kernel
theorem dX1_element_180 : decode cX1_element 180 = .ok (.istore 6, 2) := by decide +kernel
theorem dX1_element_182 : decode cX1_element 182 = .ok (.aload_n 0, 1) := by decide +kernel
theorem dX1_element_183 : decode cX1_element 183 = .ok (.invokevirtual 300, 3) := by decide +kernel
theorem dX1_element_186 : decode cX1_element 186 = .ok (.aload_n 0, 1) := by decide +kernel
theorem dX1_element_187 : decode cX1_element 187 = .ok (.getfield 276, 3) := by decide +kernel
theorem dX1_element_190 : decode cX1_element 190 = .ok (.iload 6, 2) := by decide +kernel
theorem dX1_element_192 : decode cX1_element 192 = .ok (.if_icmp .le 21, 3) := by decide +kernel
theorem dX1_element_195 : decode cX1_element 195 = .ok (.aload_n 0, 1) := by decide +kernel
theorem dX1_element_196 : decode cX1_element 196 = .ok (.aload_n 0, 1) := by decide +kernel
theorem dX1_element_197 : decode cX1_element 197 = .ok (.getfield 276, 3) := by decide +kernel
theorem dX1_element_200 : decode cX1_element 200 = .ok (.invokevirtual 279, 3) := by decide +kernel
theorem dX1_element_203 : decode cX1_element 203 = .ok (.invokestatic 268, 3) := by decide +kernel
theorem dX1_element_206 : decode cX1_element 206 = .ok (.ifCond .eq 7, 3) := by decide +kernel
theorem dX1_element_209 : decode cX1_element 209 = .ok (.iconst 1, 1) := by decide +kernel
theorem dX1_element_210 : decode cX1_element 210 = .ok (.goto 4, 3) := by decide +kernel
theorem dX1_element_213 : decode cX1_element 213 = .ok (.iconst 0, 1) := by decide +kernel
theorem dX1_element_214 : decode cX1_element 214 = .ok (.istore 5, 2) := by decide +kernel
theorem dX1_element_216 : decode cX1_element 216 = .ok (.iload 5, 2) := by decide +kernel
theorem dX1_element_218 : decode cX1_element 218 = .ok (.ifCond .eq 9, 3) := by decide +kernel
theorem dX1_element_221 : decode cX1_element 221 = .ok (.aload_n 0, 1) := by decide +kernel
theorem dX1_element_222 : decode cX1_element 222 = .ok (.iload 4, 2) := by decide +kernel
theorem dX1_element_224 : decode cX1_element 224 = .ok (.invokevirtual 450, 3) := by decide +kernel
theorem dX1_element_227 : decode cX1_element 227 = .ok (.goto (-63), 3) := by decide +kernel
theorem dX1_element_230 : decode cX1_element 230 = .ok (.aload_n 0, 1) := by decide +kernel
theorem dX1_element_231 : decode cX1_element 231 = .ok (.invokevirtual 289, 3) := by decide +kernel
theorem dX1_element_234 : decode cX1_element 234 = .ok (.ifCond .ne 4, 3) := by decide +kernel
theorem dX1_element_237 : decode cX1_element 237 = .ok (.return_, 1) := by decide +kernel
theorem dX1_element_238 : decode cX1_element 238 = .ok (.aload_n 0, 1) := by decide +kernel
theorem dX1_element_239 : decode cX1_element 239 = .ok (.getfield 276, 3) := by decide +kernel
theorem dX1_element_242 : decode cX1_element 242 = .ok (.istore 6, 2) := by decide +kernel
theorem dX1_element_244 : decode cX1_element 244 = .ok (.aload_n 0, 1) := by decide +kernel
theorem dX1_element_245 : decode cX1_element 245 = .ok (.ldc2_w 453, 3) := by decide +kernel
theorem dX1_element_248 : decode cX1_element 248 = .ok (.iconst 2, 1) := by decide +kernel
theorem dX1_element_249 : decode cX1_element 249 = .ok (.invokevirtual 285, 3) := by decide +kernel
theorem dX1_element_252 : decode cX1_element 252 = .ok (.istore 7, 2) := by decide +kernel
theorem dX1_element_254 : decode cX1_element 254 = .ok (.iload 7, 2) := by decide +kernel
theorem dX1_element_256 : decode cX1_element 256 = .ok (.ifCond .eq 16, 3) := by decide +kernel
theorem dX1_element_259 : decode cX1_element 259 = .ok (.aload_n 0, 1) := by decide +kernel
theorem dX1_element_260 : decode cX1_element 260 = .ok (.dup, 1) := by decide +kernel
theorem dX1_element_261 : decode cX1_element 261 = .ok (.getfield 276, 3) := by decide +kernel
theorem dX1_element_264 : decode cX1_element 264 = .ok (.iconst 2, 1) := by decide +kernel
theorem dX1_element_265 : decode cX1_element 265 = .ok (.iadd, 1) := by decide +kernel
theorem dX1_element_266 : decode cX1_element 266 = .ok (.putfield 276, 3) := by decide +kernel
theorem dX1_element_269 : decode cX1_element 269 = .ok (.goto 10, 3) := by decide +kernel
theorem dX1_element_272 : decode cX1_element 272 = .ok (.aload_n 0, 1) := by decide +kernel
theorem dX1_element_273 : decode cX1_element 273 = .ok (.bipush 62, 2) := by decide +kernel
theorem dX1_element_275 : decode cX1_element 275 = .ok (.invokevirtual 340, 3) := by decide +kernel
theorem dX1_element_278 : decode cX1_element 278 = .ok (.istore_n 1, 1) := by decide +kernel
theorem dX1_element_279 : decode cX1_element 279 = .ok (.aload_n 0, 1) := by decide +kernel
theorem dX1_element_280 : decode cX1_element 280 = .ok (.iload 4, 2) := by decide +kernel
theorem dX1_element_282 : decode cX1_element 282 = .ok (.iload 6, 2) := by decide +kernel
theorem dX1_element_284 : decode cX1_element 284 = .ok (.invokevirtual 455, 3) := by decide +kernel
theorem dX1_element_287 : decode cX1_element 287 = .ok (.aload_n 0, 1) := by decide +kernel
theorem dX1_element_288 : decode cX1_element 288 = .ok (.dup, 1) := by decide +kernel
theorem dX1_element_289 : decode cX1_element 289 = .ok (.getfield 443, 3) := by decide +kernel
theorem dX1_element_292 : decode cX1_element 292 = .ok (.iload 7, 2) := by decide +kernel
theorem dX1_element_294 : decode cX1_element 294 = .ok (.ifCond .eq 7, 3) := by decide +kernel
theorem dX1_element_297 : decode cX1_element 297 = .ok (.iconst 1, 1) := by decide +kernel
theorem dX1_element_298 : decode cX1_element 298 = .ok (.goto 4, 3) := by decide +kernel
theorem dX1_element_301 : decode cX1_element 301 = .ok (.iconst 0, 1) := by decide +kernel
theorem dX1_element_302 : decode cX1_element 302 = .ok (.isub, 1) := by decide +kernel
theorem dX1_element_303 : decode cX1_element 303 = .ok (.putfield 443, 3) := by decide +kernel
theorem dX1_element_306 : decode cX1_element 306 = .ok (.return_, 1) := by decide +kernel
def m_element_279 (σ : MEM) (x4 x6 x7 : Int) : Option zm_O := bd (m_defaultsOf σ x4 x6) (fun _ σ1 => if x7 = 0 then (ck (inR ((σ1 (-1) 64) - 0)) (nu (mup σ1 (-1) 64 ((σ1 (-1) 64) - 0)) (fun σ4 => some (0, σ4)))) else (ck (inR ((σ1 (-1) 64) - 1)) (nu (mup σ1 (-1) 64 ((σ1 (-1) 64) - 1)) (fun σ6 => some (0, σ6)))))
theorem w_element_279 {C : zv_Cx zm_O} {G : zm_G} (h : zv_Ok C cX1_element RX1) (hc : zm_C C G 8 (Option.none : Option FieldType) 0 5 120) (σ : MEM) (x4 x6 x7 : Int) (hx4 : inR x4) (hx6 : inR x6) (hx7 : isB x7) : VV C (m_element_279 σ x4 x6 x7) σ [(0, .ref (zm_h G)), (4, iv x4), (6, iv x6), (7, iv x7)] [] 279 := by
  have hN : ∀ i, i < 8 → i < zv_n C := fun i q => by rw [hc.2.2.1]; exact q
  unfold m_element_279
  refine r_aload_n h 0 dX1_element_279 rfl rfl ?_
  refine r_iload h 1 dX1_element_280 rfl ?_
  refine r_iload h 2 dX1_element_282 rfl ?_
  refine zm_cVv h hc (n := 2) (As := [iv x4, iv x6]) (fun o1 e1 => w_defaultsOf hc.1 _ x4 x6 hx4 hx6 o1 e1) q1977 q1979 qs89 q136 q1980 (by decide +kernel) ⟨by decide, by decide⟩ rfl (Nat.le_of_ble_eq_true rfl) rfl dX1_element_284 (fun σ1  => ?_)
  refine r_aload_n h 0 dX1_element_287 rfl rfl ?_
  refine r_dup h dX1_element_288 rfl ?_
  refine zm_getI h hc 64 64 (by decide) rfl rfl q1543 rfl dX1_element_289 (fun hr2 => ?_)
  refine r_iload h 3 dX1_element_292 rfl ?_
  refine r_if_eq h hx7.r 301 dX1_element_294 rfl ?_ ?_
  · refine r_iconst h dX1_element_301 ?_
    refine r_isub h dX1_element_302 ?_
    refine r_ck (fun hk3 => ?_)
    refine zm_putI h hc 64 64 (by decide) rfl rfl q1543 ⟨rfl, rfl, by decide +kernel⟩ hk3 dX1_element_303 (fun σ4 _ => ?_)
    exact zm_vret h hc rfl dX1_element_306
  · refine r_iconst h dX1_element_297 ?_
    refine r_goto h 302 dX1_element_298 rfl ?_
    refine r_isub h dX1_element_302 ?_
    refine r_ck (fun hk5 => ?_)
    refine zm_putI h hc 64 64 (by decide) rfl rfl q1543 ⟨rfl, rfl, by decide +kernel⟩ hk5 dX1_element_303 (fun σ6 _ => ?_)
    exact zm_vret h hc rfl dX1_element_306
def m_element_230 (σ : MEM) (x4 : Int) : Option zm_O := bd (m_isGood σ) (fun r1 σ2 => if r1 = 0 then (some (0, σ2)) else (bd (m_stands σ2 12094 2) (fun r5 σ6 => if r5 = 0 then (bd (m_passes σ6 62) (fun r8 σ9 => m_element_279 σ9 x4 (σ2 (-1) 4) r5)) else (ck (inR ((σ6 (-1) 4) + 2)) (nu (mup σ6 (-1) 4 ((σ6 (-1) 4) + 2)) (fun σ13 => m_element_279 σ13 x4 (σ2 (-1) 4) r5))))))
theorem w_element_230 {C : zv_Cx zm_O} {G : zm_G} (h : zv_Ok C cX1_element RX1) (hc : zm_C C G 8 (Option.none : Option FieldType) 0 5 120) (σ : MEM) (x4 : Int) (hx4 : inR x4) : VV C (m_element_230 σ x4) σ [(0, .ref (zm_h G)), (4, iv x4)] [] 230 := by
  have hN : ∀ i, i < 8 → i < zv_n C := fun i q => by rw [hc.2.2.1]; exact q
  unfold m_element_230
  refine r_aload_n h 0 dX1_element_230 rfl rfl ?_
  refine zm_cVz h hc (n := 0) (As := []) (fun o1 e1 => w_isGood hc.1 _ o1 e1) q1801 q1803 qs56 q136 q1804 (by decide +kernel) ⟨by decide, by decide⟩ rfl (Nat.le_of_ble_eq_true rfl) rfl dX1_element_231 (fun r1 σ2 hr3 => ?_)
  refine r_if_ne h hr3.r 238 dX1_element_234 rfl ?_ ?_
  · exact zm_vret h hc rfl dX1_element_237
  · refine r_aload_n h 0 dX1_element_238 rfl rfl ?_
    refine zm_getI h hc 4 4 (by decide) rfl rfl q1484 rfl dX1_element_239 (fun hr4 => ?_)
    refine r_istore (lv' := [(6, iv (σ2 (-1) 4)), (0, .ref (zm_h G)), (4, iv x4)]) h dX1_element_242 (hN _ (by decide)) rfl ?_
    refine r_aload_n h 1 dX1_element_244 rfl rfl ?_
    refine r_ldc2 (x := 12094) h q1976 (by decide) dX1_element_245 ?_
    refine r_iconst h dX1_element_248 ?_
    refine zm_cVz h hc (n := 2) (As := [jv 12094, iv 2]) (fun o1 e1 => w_stands hc.1 _ 12094 2 (by decide) (by decide) o1 e1) q1825 q1827 qs61 q136 q1828 (by decide +kernel) ⟨by decide, by decide⟩ rfl (Nat.le_of_ble_eq_true rfl) rfl dX1_element_249 (fun r5 σ6 hr7 => ?_)
    refine r_istore (lv' := [(7, iv r5), (6, iv (σ2 (-1) 4)), (0, .ref (zm_h G)), (4, iv x4)]) h dX1_element_252 (hN _ (by decide)) rfl ?_
    refine r_iload h 0 dX1_element_254 rfl ?_
    refine r_if_eq h hr7.r 272 dX1_element_256 rfl ?_ ?_
    · refine r_aload_n h 2 dX1_element_272 rfl rfl ?_
      refine r_bipush h dX1_element_273 (by decide) ?_
      refine zm_cVz h hc (n := 1) (As := [iv 62]) (fun o1 e1 => w_passes hc.1 _ 62 (by decide) o1 e1) q1840 q1842 qs63 q136 q1843 (by decide +kernel) ⟨by decide, by decide⟩ rfl (Nat.le_of_ble_eq_true rfl) rfl dX1_element_275 (fun r8 σ9 hr10 => ?_)
      refine r_istore_n (lv' := [(1, iv r8), (7, iv r5), (6, iv (σ2 (-1) 4)), (0, .ref (zm_h G)), (4, iv x4)]) h dX1_element_278 rfl (hN _ (by decide)) rfl ?_
      exact r_lv [3, 4, 2, 1] rfl (w_element_279 h hc _ x4 (σ2 (-1) 4) r5 hx4 hr4 hr7)
    · refine r_aload_n h 2 dX1_element_259 rfl rfl ?_
      refine r_dup h dX1_element_260 rfl ?_
      refine zm_getI h hc 4 4 (by decide) rfl rfl q1484 rfl dX1_element_261 (fun hr11 => ?_)
      refine r_iconst h dX1_element_264 ?_
      refine r_iadd h dX1_element_265 ?_
      refine r_ck (fun hk12 => ?_)
      refine zm_putI h hc 4 4 (by decide) rfl rfl q1484 ⟨rfl, rfl, by decide +kernel⟩ hk12 dX1_element_266 (fun σ13 _ => ?_)
      refine r_goto h 279 dX1_element_269 rfl ?_
      exact r_lv [2, 3, 1, 0] rfl (w_element_279 h hc _ x4 (σ2 (-1) 4) r5 hx4 hr4 hr7)
def m_element_214 (lp164 : MEM → Int → Int → Option zm_O) (σ : MEM) (x4 s0 : Int) : Option zm_O := if s0 = 0 then (lp164 σ x4 s0) else (bd (m_attribute σ x4) (fun _ σ1 => lp164 σ1 x4 s0))
theorem w_element_214 {C : zv_Cx zm_O} {G : zm_G} (h : zv_Ok C cX1_element RX1) (hc : zm_C C G 8 (Option.none : Option FieldType) 0 5 120) (lp164 : MEM → Int → Int → Option zm_O) (hlp164 : ∀ (σ : MEM) (x4 x5 : Int), inR x4 → isB x5 → VV C (lp164 σ x4 x5) σ [(0, .ref (zm_h G)), (4, iv x4), (5, iv x5)] [] 164) (σ : MEM) (x4 s0 : Int) (hx4 : inR x4) (hs0 : isB s0) : VV C (m_element_214 lp164 σ x4 s0) σ [(0, .ref (zm_h G)), (4, iv x4)] [iv s0] 214 := by
  have hN : ∀ i, i < 8 → i < zv_n C := fun i q => by rw [hc.2.2.1]; exact q
  unfold m_element_214
  refine r_istore (lv' := [(5, iv s0), (0, .ref (zm_h G)), (4, iv x4)]) h dX1_element_214 (hN _ (by decide)) rfl ?_
  refine r_iload h 0 dX1_element_216 rfl ?_
  refine r_if_eq h hs0.r 227 dX1_element_218 rfl ?_ ?_
  · refine r_goto h 164 dX1_element_227 rfl ?_
    exact r_lv [1, 2, 0] rfl (hlp164 _ x4 s0 hx4 hs0)
  · refine r_aload_n h 1 dX1_element_221 rfl rfl ?_
    refine r_iload h 2 dX1_element_222 rfl ?_
    refine zm_cVv h hc (n := 1) (As := [iv x4]) (fun o1 e1 => w_attribute hc.1 _ x4 hx4 o1 e1) q1964 q1966 qs86 q136 q1967 (by decide +kernel) ⟨by decide, by decide⟩ rfl (Nat.le_of_ble_eq_true rfl) rfl dX1_element_224 (fun σ1  => ?_)
    refine r_goto h 164 dX1_element_227 rfl ?_
    exact r_lv [1, 2, 0] rfl (hlp164 _ x4 s0 hx4 hs0)
def m_element_213 (lp164 : MEM → Int → Int → Option zm_O) (σ : MEM) (x4 : Int) : Option zm_O := m_element_214 lp164 σ x4 0
theorem w_element_213 {C : zv_Cx zm_O} {G : zm_G} (h : zv_Ok C cX1_element RX1) (hc : zm_C C G 8 (Option.none : Option FieldType) 0 5 120) (lp164 : MEM → Int → Int → Option zm_O) (hlp164 : ∀ (σ : MEM) (x4 x5 : Int), inR x4 → isB x5 → VV C (lp164 σ x4 x5) σ [(0, .ref (zm_h G)), (4, iv x4), (5, iv x5)] [] 164) (σ : MEM) (x4 : Int) (hx4 : inR x4) : VV C (m_element_213 lp164 σ x4) σ [(0, .ref (zm_h G)), (4, iv x4)] [] 213 := by
  have hN : ∀ i, i < 8 → i < zv_n C := fun i q => by rw [hc.2.2.1]; exact q
  unfold m_element_213
  refine r_iconst h dX1_element_213 ?_
  exact r_lv [0, 1] rfl (w_element_214 h hc lp164 hlp164 _ x4 0 hx4 (by decide))
def m_element_164 : Nat → MEM → Int → Int → Option zm_O
  | 0, _, _, _ => none
  | n + 1, σ, x4, x5 => bd (m_isGood σ) (fun r1 σ2 => if r1 = 0 then (m_element_230 σ2 x4) else (if x5 = 0 then (m_element_230 σ2 x4) else (bd (m_maybeS σ2) (fun _ σ5 => if (σ5 (-1) 4) ≤ (σ2 (-1) 4) then (m_element_213 (m_element_164 n) σ5 x4) else (bd (m_octet σ5 (σ5 (-1) 4)) (fun r8 σ9 => bd (m_isFirst σ9 r8) (fun r11 σ12 => if r11 = 0 then (m_element_213 (m_element_164 n) σ12 x4) else (m_element_214 (m_element_164 n) σ12 x4 1))))))))
theorem w_element_164 {C : zv_Cx zm_O} {G : zm_G} (h : zv_Ok C cX1_element RX1) (hc : zm_C C G 8 (Option.none : Option FieldType) 0 5 120) : ∀ (n : Nat) (σ : MEM) (x4 x5 : Int), inR x4 → isB x5 → VV C (m_element_164 n σ x4 x5) σ [(0, .ref (zm_h G)), (4, iv x4), (5, iv x5)] [] 164 := by
  have hN : ∀ i, i < 8 → i < zv_n C := fun i q => by rw [hc.2.2.1]; exact q
  intro n
  induction n with
  | zero => intros; exact r_none
  | succ n ih =>
    intro σ x4 x5 hx4 hx5
    rw [m_element_164]
    refine r_aload_n h 0 dX1_element_164 rfl rfl ?_
    refine zm_cVz h hc (n := 0) (As := []) (fun o1 e1 => w_isGood hc.1 _ o1 e1) q1801 q1803 qs56 q136 q1804 (by decide +kernel) ⟨by decide, by decide⟩ rfl (Nat.le_of_ble_eq_true rfl) rfl dX1_element_165 (fun r1 σ2 hr3 => ?_)
    refine r_if_eq h hr3.r 230 dX1_element_168 rfl ?_ ?_
    · exact r_lv [0, 1] rfl (w_element_230 h hc _ x4 hx4)
    · refine r_iload h 2 dX1_element_171 rfl ?_
      refine r_if_eq h hx5.r 230 dX1_element_173 rfl ?_ ?_
      · exact r_lv [0, 1] rfl (w_element_230 h hc _ x4 hx4)
      · refine r_aload_n h 0 dX1_element_176 rfl rfl ?_
        refine zm_getI h hc 4 4 (by decide) rfl rfl q1484 rfl dX1_element_177 (fun hr4 => ?_)
        refine r_istore (lv' := [(6, iv (σ2 (-1) 4)), (0, .ref (zm_h G)), (4, iv x4), (5, iv x5)]) h dX1_element_180 (hN _ (by decide)) rfl ?_
        refine r_aload_n h 1 dX1_element_182 rfl rfl ?_
        refine zm_cVv h hc (n := 0) (As := []) (fun o1 e1 => w_maybeS hc.1 _ o1 e1) q1813 q1815 qs59 q136 q1816 (by decide +kernel) ⟨by decide, by decide⟩ rfl (Nat.le_of_ble_eq_true rfl) rfl dX1_element_183 (fun σ5  => ?_)
        refine r_aload_n h 1 dX1_element_186 rfl rfl ?_
        refine zm_getI h hc 4 4 (by decide) rfl rfl q1484 rfl dX1_element_187 (fun hr6 => ?_)
        refine r_iload h 0 dX1_element_190 rfl ?_
        refine r_icmp_le h hr6 hr4 213 dX1_element_192 rfl ?_ ?_
        · exact r_lv [1, 2] rfl (w_element_213 h hc (m_element_164 n) ih _ x4 hx4)
        · refine r_aload_n h 1 dX1_element_195 rfl rfl ?_
          refine r_aload_n h 1 dX1_element_196 rfl rfl ?_
          refine zm_getI h hc 4 4 (by decide) rfl rfl q1484 rfl dX1_element_197 (fun hr7 => ?_)
          refine zm_cVi h hc (n := 1) (As := [iv (σ5 (-1) 4)]) (fun o1 e1 => w_octet hc.1 _ (σ5 (-1) 4) hr7 o1 e1) q1817 q1819 qs60 q136 q1820 (by decide +kernel) ⟨by decide, by decide⟩ rfl (Nat.le_of_ble_eq_true rfl) rfl dX1_element_200 (fun r8 σ9 hr10 => ?_)
          refine zm_cSz h hc (n := 1) (As := [iv r8]) (fun o1 e1 => w_isFirst hc.1 _ r8 hr10 o1 e1) q1862 q1863 q136 q1864 (by decide +kernel) ⟨by decide, by decide⟩ rfl (Nat.le_of_ble_eq_true rfl) rfl dX1_element_203 (fun r11 σ12 hr13 => ?_)
          refine r_if_eq h hr13.r 213 dX1_element_206 rfl ?_ ?_
          · exact r_lv [1, 2] rfl (w_element_213 h hc (m_element_164 n) ih _ x4 hx4)
          · refine r_iconst h dX1_element_209 ?_
            refine r_goto h 214 dX1_element_210 rfl ?_
            exact r_lv [1, 2] rfl (w_element_214 h hc (m_element_164 n) ih _ x4 1 hx4 (by decide))
def m_element_40 (σ : MEM) (x2 x3 : Int) : Option zm_O := bd (m_newNode σ 1 x2) (fun r1 σ2 => bd (m_isGood σ2) (fun r4 σ5 => if r4 = 0 then (some (0, σ5)) else (ck (inR ((6000 * (σ5 (-1) 8)) + x2)) (ck (0 ≤ ((600 * (σ5 (-1) 8)) + r1) ∧ ((600 * (σ5 (-1) 8)) + r1) < 1200) (nu (mup σ5 15 ((600 * (σ5 (-1) 8)) + r1) ((6000 * (σ5 (-1) 8)) + x2)) (fun σ10 => ck (0 ≤ ((600 * (σ10 (-1) 8)) + r1) ∧ ((600 * (σ10 (-1) 8)) + r1) < 1200) (nu (mup σ10 16 ((600 * (σ10 (-1) 8)) + r1) x3) (fun σ12 => ck (0 ≤ (σ12 (-1) 64) ∧ (σ12 (-1) 64) < 31) (nu (mup σ12 63 (σ12 (-1) 64) r1) (fun σ14 => ck (inR ((σ14 (-1) 64) + 1)) (nu (mup σ14 (-1) 64 ((σ14 (-1) 64) + 1)) (fun σ17 => ck (0 ≤ (σ17 (-1) 8) ∧ (σ17 (-1) 8) < 2) (if (σ17 (-1) 64) ≤ (σ17 23 (σ17 (-1) 8)) then (ck (0 ≤ (σ17 (-1) 8) ∧ (σ17 (-1) 8) < 2) (ck (0 ≤ (σ17 (-1) 8) ∧ (σ17 (-1) 8) < 2) (nu (mup σ17 23 (σ17 (-1) 8) (σ17 23 (σ17 (-1) 8))) (fun σ24 => m_element_164 zF σ24 r1 1)))) else (ck (0 ≤ (σ17 (-1) 8) ∧ (σ17 (-1) 8) < 2) (nu (mup σ17 23 (σ17 (-1) 8) (σ17 (-1) 64)) (fun σ26 => m_element_164 zF σ26 r1 1))))))))))))))))
theorem w_element_40 {C : zv_Cx zm_O} {G : zm_G} (h : zv_Ok C cX1_element RX1) (hc : zm_C C G 8 (Option.none : Option FieldType) 0 5 120) (σ : MEM) (x2 x3 : Int) (hx2 : inR x2) (hx3 : inR x3) : VV C (m_element_40 σ x2 x3) σ [(0, .ref (zm_h G)), (2, iv x2), (3, iv x3)] [] 40 := by
  have hN : ∀ i, i < 8 → i < zv_n C := fun i q => by rw [hc.2.2.1]; exact q
  unfold m_element_40
  refine r_aload_n h 0 dX1_element_40 rfl rfl ?_
  refine r_iconst h dX1_element_41 ?_
  refine r_iload_n h 1 dX1_element_42 rfl rfl ?_
  refine zm_cVi h hc (n := 2) (As := [iv 1, iv x2]) (fun o1 e1 => w_newNode hc.1 _ 1 x2 (by decide) hx2 o1 e1) q1797 q1799 qs55 q136 q1800 (by decide +kernel) ⟨by decide, by decide⟩ rfl (Nat.le_of_ble_eq_true rfl) rfl dX1_element_43 (fun r1 σ2 hr3 => ?_)
  refine r_istore (lv' := [(4, iv r1), (0, .ref (zm_h G)), (2, iv x2), (3, iv x3)]) h dX1_element_46 (hN _ (by decide)) rfl ?_
  refine r_aload_n h 1 dX1_element_48 rfl rfl ?_
  refine zm_cVz h hc (n := 0) (As := []) (fun o1 e1 => w_isGood hc.1 _ o1 e1) q1801 q1803 qs56 q136 q1804 (by decide +kernel) ⟨by decide, by decide⟩ rfl (Nat.le_of_ble_eq_true rfl) rfl dX1_element_49 (fun r4 σ5 hr6 => ?_)
  refine r_if_ne h hr6.r 56 dX1_element_52 rfl ?_ ?_
  · exact zm_vret h hc rfl dX1_element_55
  · refine r_aload_n h 1 dX1_element_56 rfl rfl ?_
    refine zm_getA h hc 15 (by decide) rfl q1495 rfl dX1_element_57 ?_
    refine r_sipush h dX1_element_60 (by decide) ?_
    refine r_aload_n h 1 dX1_element_63 rfl rfl ?_
    refine zm_getI h hc 8 8 (by decide) rfl rfl q1488 rfl dX1_element_64 (fun hr7 => ?_)
    refine r_imul h dX1_element_67 ?_
    refine r_iload h 0 dX1_element_68 rfl ?_
    refine r_iadd h dX1_element_70 ?_
    refine r_sipush h dX1_element_71 (by decide) ?_
    refine r_aload_n h 1 dX1_element_74 rfl rfl ?_
    refine zm_getI h hc 8 8 (by decide) rfl rfl q1488 rfl dX1_element_75 (fun hr8 => ?_)
    refine r_imul h dX1_element_78 ?_
    refine r_iload_n h 2 dX1_element_79 rfl rfl ?_
    refine r_iadd h dX1_element_80 ?_
    refine r_ck (fun hk9 => ?_)
    refine zm_stI h hc 15 15 1200 (by decide) rfl rfl rfl (by decide) hk9 dX1_element_81 (fun _ σ10 _ => ?_)
    refine r_aload_n h 1 dX1_element_82 rfl rfl ?_
    refine zm_getA h hc 16 (by decide) rfl q1496 rfl dX1_element_83 ?_
    refine r_sipush h dX1_element_86 (by decide) ?_
    refine r_aload_n h 1 dX1_element_89 rfl rfl ?_
    refine zm_getI h hc 8 8 (by decide) rfl rfl q1488 rfl dX1_element_90 (fun hr11 => ?_)
    refine r_imul h dX1_element_93 ?_
    refine r_iload h 0 dX1_element_94 rfl ?_
    refine r_iadd h dX1_element_96 ?_
    refine r_iload_n h 3 dX1_element_97 rfl rfl ?_
    refine zm_stI h hc 16 16 1200 (by decide) rfl rfl rfl (by decide) hx3 dX1_element_98 (fun _ σ12 _ => ?_)
    refine r_aload_n h 1 dX1_element_99 rfl rfl ?_
    refine zm_getA h hc 63 (by decide) rfl q1542 rfl dX1_element_100 ?_
    refine r_aload_n h 1 dX1_element_103 rfl rfl ?_
    refine zm_getI h hc 64 64 (by decide) rfl rfl q1543 rfl dX1_element_104 (fun hr13 => ?_)
    refine r_iload h 0 dX1_element_107 rfl ?_
    refine zm_stI h hc 63 63 31 (by decide) rfl rfl rfl (by decide) hr3 dX1_element_109 (fun _ σ14 _ => ?_)
    refine r_aload_n h 1 dX1_element_110 rfl rfl ?_
    refine r_dup h dX1_element_111 rfl ?_
    refine zm_getI h hc 64 64 (by decide) rfl rfl q1543 rfl dX1_element_112 (fun hr15 => ?_)
    refine r_iconst h dX1_element_115 ?_
    refine r_iadd h dX1_element_116 ?_
    refine r_ck (fun hk16 => ?_)
    refine zm_putI h hc 64 64 (by decide) rfl rfl q1543 ⟨rfl, rfl, by decide +kernel⟩ hk16 dX1_element_117 (fun σ17 _ => ?_)
    refine r_aload_n h 1 dX1_element_120 rfl rfl ?_
    refine zm_getA h hc 23 (by decide) rfl q1503 rfl dX1_element_121 ?_
    refine r_aload_n h 1 dX1_element_124 rfl rfl ?_
    refine zm_getI h hc 8 8 (by decide) rfl rfl q1488 rfl dX1_element_125 (fun hr18 => ?_)
    refine r_aload_n h 1 dX1_element_128 rfl rfl ?_
    refine zm_getI h hc 64 64 (by decide) rfl rfl q1543 rfl dX1_element_129 (fun hr19 => ?_)
    refine r_aload_n h 1 dX1_element_132 rfl rfl ?_
    refine zm_getA h hc 23 (by decide) rfl q1503 rfl dX1_element_133 ?_
    refine r_aload_n h 1 dX1_element_136 rfl rfl ?_
    refine zm_getI h hc 8 8 (by decide) rfl rfl q1488 rfl dX1_element_137 (fun hr20 => ?_)
    refine zm_ldI h hc 23 23 2 (by decide) rfl rfl rfl (by decide) dX1_element_140 (fun _ hr21 => ?_)
    refine r_icmp_le h hr19 hr21 151 dX1_element_141 rfl ?_ ?_
    · refine r_aload_n h 1 dX1_element_151 rfl rfl ?_
      refine zm_getA h hc 23 (by decide) rfl q1503 rfl dX1_element_152 ?_
      refine r_aload_n h 1 dX1_element_155 rfl rfl ?_
      refine zm_getI h hc 8 8 (by decide) rfl rfl q1488 rfl dX1_element_156 (fun hr22 => ?_)
      refine zm_ldI h hc 23 23 2 (by decide) rfl rfl rfl (by decide) dX1_element_159 (fun _ hr23 => ?_)
      refine zm_stI h hc 23 23 2 (by decide) rfl rfl rfl (by decide) hr23 dX1_element_160 (fun _ σ24 _ => ?_)
      refine r_iconst h dX1_element_161 ?_
      refine r_istore (lv' := [(5, iv 1), (4, iv r1), (0, .ref (zm_h G)), (2, iv x2), (3, iv x3)]) h dX1_element_162 (hN _ (by decide)) rfl ?_
      exact r_lv [2, 1, 0] rfl (w_element_164 h hc zF _ r1 1 hr3 (by decide))
    · refine r_aload_n h 1 dX1_element_144 rfl rfl ?_
      refine zm_getI h hc 64 64 (by decide) rfl rfl q1543 rfl dX1_element_145 (fun hr25 => ?_)
      refine r_goto h 160 dX1_element_148 rfl ?_
      refine zm_stI h hc 23 23 2 (by decide) rfl rfl rfl (by decide) hr25 dX1_element_160 (fun _ σ26 _ => ?_)
      refine r_iconst h dX1_element_161 ?_
      refine r_istore (lv' := [(5, iv 1), (4, iv r1), (0, .ref (zm_h G)), (2, iv x2), (3, iv x3)]) h dX1_element_162 (hN _ (by decide)) rfl ?_
      exact r_lv [2, 1, 0] rfl (w_element_164 h hc zF _ r1 1 hr3 (by decide))
def m_element (σ : MEM) : Option zm_O := bd (m_passes σ 60) (fun r1 σ2 => bd (m_takeName σ2) (fun r4 σ5 => bd (m_isGood σ5) (fun r8 σ9 => if r8 = 0 then (m_element_40 σ9 r4 (σ5 (-1) 51)) else (if (σ9 (-1) 64) = 30 then (bd (m_fail σ9 (-3) r4) (fun _ σ12 => m_element_40 σ12 r4 (σ5 (-1) 51))) else (m_element_40 σ9 r4 (σ5 (-1) 51))))))
theorem w_element {G : zm_G} (hD : zm_D G) (σ : MEM) (o : zm_O) (hd : m_element σ  = some o) : zm_Met G yX1_element cX1_element 8 (Option.none : Option FieldType) 0 5 120 σ [.ref (zm_h G)] o := by
  refine zm_intro hD hd (by decide) rfl (Nat.le_of_ble_eq_true rfl) rfl (fun C h hc => ?_)
  have hN : ∀ i, i < 8 → i < zv_n C := fun i q => by rw [hc.2.2.1]; exact q
  unfold m_element
  refine r_aload_n h 0 dX1_element_0 rfl rfl ?_
  refine r_bipush h dX1_element_1 (by decide) ?_
  refine zm_cVz h hc (n := 1) (As := [iv 60]) (fun o1 e1 => w_passes hc.1 _ 60 (by decide) o1 e1) q1840 q1842 qs63 q136 q1843 (by decide +kernel) ⟨by decide, by decide⟩ rfl (Nat.le_of_ble_eq_true rfl) rfl dX1_element_3 (fun r1 σ2 hr3 => ?_)
  refine r_istore_n (lv' := [(1, iv r1), (0, .ref (zm_h G))]) h dX1_element_6 rfl (hN _ (by decide)) rfl ?_
  refine r_aload_n h 1 dX1_element_7 rfl rfl ?_
  refine zm_cVi h hc (n := 0) (As := []) (fun o1 e1 => w_takeName hc.1 _ o1 e1) q1858 q1860 qs67 q136 q1861 (by decide +kernel) ⟨by decide, by decide⟩ rfl (Nat.le_of_ble_eq_true rfl) rfl dX1_element_8 (fun r4 σ5 hr6 => ?_)
  refine r_istore_n (lv' := [(2, iv r4), (1, iv r1), (0, .ref (zm_h G))]) h dX1_element_11 rfl (hN _ (by decide)) rfl ?_
  refine r_aload_n h 2 dX1_element_12 rfl rfl ?_
  refine zm_getI h hc 51 51 (by decide) rfl rfl q1531 rfl dX1_element_13 (fun hr7 => ?_)
  refine r_istore_n (lv' := [(3, iv (σ5 (-1) 51)), (2, iv r4), (1, iv r1), (0, .ref (zm_h G))]) h dX1_element_16 rfl (hN _ (by decide)) rfl ?_
  refine r_aload_n h 3 dX1_element_17 rfl rfl ?_
  refine zm_cVz h hc (n := 0) (As := []) (fun o1 e1 => w_isGood hc.1 _ o1 e1) q1801 q1803 qs56 q136 q1804 (by decide +kernel) ⟨by decide, by decide⟩ rfl (Nat.le_of_ble_eq_true rfl) rfl dX1_element_18 (fun r8 σ9 hr10 => ?_)
  refine r_if_eq h hr10.r 40 dX1_element_21 rfl ?_ ?_
  · exact r_lv [3, 1, 0] rfl (w_element_40 h hc _ r4 (σ5 (-1) 51) hr6 hr7)
  · refine r_aload_n h 3 dX1_element_24 rfl rfl ?_
    refine zm_getI h hc 64 64 (by decide) rfl rfl q1543 rfl dX1_element_25 (fun hr11 => ?_)
    refine r_bipush h dX1_element_28 (by decide) ?_
    refine r_icmp_ne h hr11 (by decide) 40 dX1_element_30 rfl ?_ ?_
    · refine r_aload_n h 3 dX1_element_33 rfl rfl ?_
      refine r_bipush h dX1_element_34 (by decide) ?_
      refine r_iload_n h 1 dX1_element_36 rfl rfl ?_
      refine zm_cVv h hc (n := 2) (As := [iv (-3), iv r4]) (fun o1 e1 => w_fail hc.1 _ (-3) r4 (by decide) hr6 o1 e1) q1805 q1807 qs57 q136 q1808 (by decide +kernel) ⟨by decide, by decide⟩ rfl (Nat.le_of_ble_eq_true rfl) rfl dX1_element_37 (fun σ12  => ?_)
      exact r_lv [3, 1, 0] rfl (w_element_40 h hc _ r4 (σ5 (-1) 51) hr6 hr7)
    · exact r_lv [3, 1, 0] rfl (w_element_40 h hc _ r4 (σ5 (-1) 51) hr6 hr7)
theorem dX1_close_0 : decode cX1_close 0 = .ok (.aload_n 0, 1) := by decide +kernel
theorem dX1_close_1 : decode cX1_close 1 = .ok (.dup, 1) := by decide +kernel
theorem dX1_close_2 : decode cX1_close 2 = .ok (.getfield 276, 3) := by decide +kernel
theorem dX1_close_5 : decode cX1_close 5 = .ok (.iconst 2, 1) := by decide +kernel
theorem dX1_close_6 : decode cX1_close 6 = .ok (.iadd, 1) := by decide +kernel
theorem dX1_close_7 : decode cX1_close 7 = .ok (.putfield 276, 3) := by decide +kernel
theorem dX1_close_10 : decode cX1_close 10 = .ok (.aload_n 0, 1) := by decide +kernel
theorem dX1_close_11 : decode cX1_close 11 = .ok (.invokevirtual 351, 3) := by decide +kernel
theorem dX1_close_14 : decode cX1_close 14 = .ok (.istore_n 1, 1) := by decide +kernel
theorem dX1_close_15 : decode cX1_close 15 = .ok (.sipush 600, 3) := by decide +kernel
theorem dX1_close_18 : decode cX1_close 18 = .ok (.aload_n 0, 1) := by decide +kernel
theorem dX1_close_19 : decode cX1_close 19 = .ok (.getfield 328, 3) := by decide +kernel
theorem dX1_close_22 : decode cX1_close 22 = .ok (.imul, 1) := by decide +kernel
theorem dX1_close_23 : decode cX1_close 23 = .ok (.aload_n 0, 1) := by decide +kernel
theorem dX1_close_24 : decode cX1_close 24 = .ok (.getfield 161, 3) := by decide +kernel
theorem dX1_close_27 : decode cX1_close 27 = .ok (.aload_n 0, 1) := by decide +kernel
theorem dX1_close_28 : decode cX1_close 28 = .ok (.getfield 443, 3) := by decide +kernel
theorem dX1_close_31 : decode cX1_close 31 = .ok (.iconst 1, 1) := by decide +kernel
theorem dX1_close_32 : decode cX1_close 32 = .ok (.isub, 1) := by decide +kernel
theorem dX1_close_33 : decode cX1_close 33 = .ok (.iaload, 1) := by decide +kernel
theorem dX1_close_34 : decode cX1_close 34 = .ok (.iadd, 1) := by decide +kernel
theorem dX1_close_35 : decode cX1_close 35 = .ok (.istore_n 2, 1) := by decide +kernel
theorem dX1_close_36 : decode cX1_close 36 = .ok (.aload_n 0, 1) := by decide +kernel
theorem dX1_close_37 : decode cX1_close 37 = .ok (.invokevirtual 289, 3) := by decide +kernel
theorem dX1_close_40 : decode cX1_close 40 = .ok (.ifCond .eq 43, 3) := by decide +kernel
theorem dX1_close_43 : decode cX1_close 43 = .ok (.aload_n 0, 1) := by decide +kernel
theorem dX1_close_44 : decode cX1_close 44 = .ok (.sipush 6000, 3) := by decide +kernel
theorem dX1_close_47 : decode cX1_close 47 = .ok (.aload_n 0, 1) := by decide +kernel
theorem dX1_close_48 : decode cX1_close 48 = .ok (.getfield 328, 3) := by decide +kernel
theorem dX1_close_51 : decode cX1_close 51 = .ok (.imul, 1) := by decide +kernel
theorem dX1_close_52 : decode cX1_close 52 = .ok (.iload_n 1, 1) := by decide +kernel
theorem dX1_close_53 : decode cX1_close 53 = .ok (.iadd, 1) := by decide +kernel
theorem dX1_close_54 : decode cX1_close 54 = .ok (.aload_n 0, 1) := by decide +kernel
theorem dX1_close_55 : decode cX1_close 55 = .ok (.getfield 306, 3) := by decide +kernel
theorem dX1_close_58 : decode cX1_close 58 = .ok (.aload_n 0, 1) := by decide +kernel
theorem dX1_close_59 : decode cX1_close 59 = .ok (.getfield 37, 3) := by decide +kernel
theorem dX1_close_62 : decode cX1_close 62 = .ok (.iload_n 2, 1) := by decide +kernel
theorem dX1_close_63 : decode cX1_close 63 = .ok (.iaload, 1) := by decide +kernel
theorem dX1_close_64 : decode cX1_close 64 = .ok (.aload_n 0, 1) := by decide +kernel
theorem dX1_close_65 : decode cX1_close 65 = .ok (.getfield 40, 3) := by decide +kernel
theorem dX1_close_68 : decode cX1_close 68 = .ok (.iload_n 2, 1) := by decide +kernel
theorem dX1_close_69 : decode cX1_close 69 = .ok (.iaload, 1) := by decide +kernel
theorem dX1_close_70 : decode cX1_close 70 = .ok (.invokevirtual 412, 3) := by decide +kernel
theorem dX1_close_73 : decode cX1_close 73 = .ok (.ifCond .ne 10, 3) := by decide +kernel
theorem dX1_close_76 : decode cX1_close 76 = .ok (.aload_n 0, 1) := by decide +kernel
theorem dX1_close_77 : decode cX1_close 77 = .ok (.bipush (-2), 2) := by decide +kernel
theorem dX1_close_79 : decode cX1_close 79 = .ok (.iload_n 1, 1) := by decide +kernel
theorem dX1_close_80 : decode cX1_close 80 = .ok (.invokevirtual 293, 3) := by decide +kernel
theorem dX1_close_83 : decode cX1_close 83 = .ok (.aload_n 0, 1) := by decide +kernel
theorem dX1_close_84 : decode cX1_close 84 = .ok (.invokevirtual 300, 3) := by decide +kernel
theorem dX1_close_87 : decode cX1_close 87 = .ok (.aload_n 0, 1) := by decide +kernel
theorem dX1_close_88 : decode cX1_close 88 = .ok (.bipush 62, 2) := by decide +kernel
theorem dX1_close_90 : decode cX1_close 90 = .ok (.invokevirtual 340, 3) := by decide +kernel
theorem dX1_close_93 : decode cX1_close 93 = .ok (.istore_n 3, 1) := by decide +kernel
theorem dX1_close_94 : decode cX1_close 94 = .ok (.aload_n 0, 1) := by decide +kernel
theorem dX1_close_95 : decode cX1_close 95 = .ok (.dup, 1) := by decide +kernel
theorem dX1_close_96 : decode cX1_close 96 = .ok (.getfield 443, 3) := by decide +kernel
theorem dX1_close_99 : decode cX1_close 99 = .ok (.iconst 1, 1) := by decide +kernel
theorem dX1_close_100 : decode cX1_close 100 = .ok (.isub, 1) := by decide +kernel
theorem dX1_close_101 : decode cX1_close 101 = .ok (.putfield 443, 3) := by decide +kernel
theorem dX1_close_104 : decode cX1_close 104 = .ok (.return_, 1) := by decide +kernel
def m_close_83 (σ : MEM) : Option zm_O := bd (m_maybeS σ) (fun _ σ1 => bd (m_passes σ1 62) (fun r2 σ3 => ck (inR ((σ3 (-1) 64) - 1)) (nu (mup σ3 (-1) 64 ((σ3 (-1) 64) - 1)) (fun σ7 => some (0, σ7)))))
theorem w_close_83 {C : zv_Cx zm_O} {G : zm_G} (h : zv_Ok C cX1_close RX1) (hc : zm_C C G 4 (Option.none : Option FieldType) 0 4 86) (σ : MEM) : VV C (m_close_83 σ ) σ [(0, .ref (zm_h G))] [] 83 := by
  have hN : ∀ i, i < 4 → i < zv_n C := fun i q => by rw [hc.2.2.1]; exact q
  unfold m_close_83
  refine r_aload_n h 0 dX1_close_83 rfl rfl ?_
  refine zm_cVv h hc (n := 0) (As := []) (fun o1 e1 => w_maybeS hc.1 _ o1 e1) q1813 q1815 qs59 q136 q1816 (by decide +kernel) ⟨by decide, by decide⟩ rfl (Nat.le_of_ble_eq_true rfl) rfl dX1_close_84 (fun σ1  => ?_)
  refine r_aload_n h 0 dX1_close_87 rfl rfl ?_
  refine r_bipush h dX1_close_88 (by decide) ?_
  refine zm_cVz h hc (n := 1) (As := [iv 62]) (fun o1 e1 => w_passes hc.1 _ 62 (by decide) o1 e1) q1840 q1842 qs63 q136 q1843 (by decide +kernel) ⟨by decide, by decide⟩ rfl (Nat.le_of_ble_eq_true rfl) rfl dX1_close_90 (fun r2 σ3 hr4 => ?_)
  refine r_istore_n (lv' := [(3, iv r2), (0, .ref (zm_h G))]) h dX1_close_93 rfl (hN _ (by decide)) rfl ?_
  refine r_aload_n h 1 dX1_close_94 rfl rfl ?_
  refine r_dup h dX1_close_95 rfl ?_
  refine zm_getI h hc 64 64 (by decide) rfl rfl q1543 rfl dX1_close_96 (fun hr5 => ?_)
  refine r_iconst h dX1_close_99 ?_
  refine r_isub h dX1_close_100 ?_
  refine r_ck (fun hk6 => ?_)
  refine zm_putI h hc 64 64 (by decide) rfl rfl q1543 ⟨rfl, rfl, by decide +kernel⟩ hk6 dX1_close_101 (fun σ7 _ => ?_)
  exact zm_vret h hc rfl dX1_close_104
def m_close (σ : MEM) : Option zm_O := ck (inR ((σ (-1) 4) + 2)) (nu (mup σ (-1) 4 ((σ (-1) 4) + 2)) (fun σ3 => bd (m_takeName σ3) (fun r4 σ5 => ck (0 ≤ ((σ5 (-1) 64) - 1) ∧ ((σ5 (-1) 64) - 1) < 31) (bd (m_isGood σ5) (fun r10 σ11 => if r10 = 0 then (m_close_83 σ11) else (ck (0 ≤ ((600 * (σ5 (-1) 8)) + (σ5 63 ((σ5 (-1) 64) - 1))) ∧ ((600 * (σ5 (-1) 8)) + (σ5 63 ((σ5 (-1) 64) - 1))) < 1200) (ck (0 ≤ ((600 * (σ5 (-1) 8)) + (σ5 63 ((σ5 (-1) 64) - 1))) ∧ ((600 * (σ5 (-1) 8)) + (σ5 63 ((σ5 (-1) 64) - 1))) < 1200) (ck (inR ((6000 * (σ11 (-1) 8)) + r4)) (bd (m_isSame σ11 ((6000 * (σ11 (-1) 8)) + r4) (σ11 (-1) 51) (σ11 15 ((600 * (σ5 (-1) 8)) + (σ5 63 ((σ5 (-1) 64) - 1)))) (σ11 16 ((600 * (σ5 (-1) 8)) + (σ5 63 ((σ5 (-1) 64) - 1))))) (fun r18 σ19 => if r18 = 0 then (bd (m_fail σ19 (-2) r4) (fun _ σ21 => m_close_83 σ21)) else (m_close_83 σ19)))))))))))
theorem w_close {G : zm_G} (hD : zm_D G) (σ : MEM) (o : zm_O) (hd : m_close σ  = some o) : zm_Met G yX1_close cX1_close 4 (Option.none : Option FieldType) 0 4 86 σ [.ref (zm_h G)] o := by
  refine zm_intro hD hd (by decide) rfl (Nat.le_of_ble_eq_true rfl) rfl (fun C h hc => ?_)
  have hN : ∀ i, i < 4 → i < zv_n C := fun i q => by rw [hc.2.2.1]; exact q
  unfold m_close
  refine r_aload_n h 0 dX1_close_0 rfl rfl ?_
  refine r_dup h dX1_close_1 rfl ?_
  refine zm_getI h hc 4 4 (by decide) rfl rfl q1484 rfl dX1_close_2 (fun hr1 => ?_)
  refine r_iconst h dX1_close_5 ?_
  refine r_iadd h dX1_close_6 ?_
  refine r_ck (fun hk2 => ?_)
  refine zm_putI h hc 4 4 (by decide) rfl rfl q1484 ⟨rfl, rfl, by decide +kernel⟩ hk2 dX1_close_7 (fun σ3 _ => ?_)
  refine r_aload_n h 0 dX1_close_10 rfl rfl ?_
  refine zm_cVi h hc (n := 0) (As := []) (fun o1 e1 => w_takeName hc.1 _ o1 e1) q1858 q1860 qs67 q136 q1861 (by decide +kernel) ⟨by decide, by decide⟩ rfl (Nat.le_of_ble_eq_true rfl) rfl dX1_close_11 (fun r4 σ5 hr6 => ?_)
  refine r_istore_n (lv' := [(1, iv r4), (0, .ref (zm_h G))]) h dX1_close_14 rfl (hN _ (by decide)) rfl ?_
  refine r_sipush h dX1_close_15 (by decide) ?_
  refine r_aload_n h 1 dX1_close_18 rfl rfl ?_
  refine zm_getI h hc 8 8 (by decide) rfl rfl q1488 rfl dX1_close_19 (fun hr7 => ?_)
  refine r_imul h dX1_close_22 ?_
  refine r_aload_n h 1 dX1_close_23 rfl rfl ?_
  refine zm_getA h hc 63 (by decide) rfl q1542 rfl dX1_close_24 ?_
  refine r_aload_n h 1 dX1_close_27 rfl rfl ?_
  refine zm_getI h hc 64 64 (by decide) rfl rfl q1543 rfl dX1_close_28 (fun hr8 => ?_)
  refine r_iconst h dX1_close_31 ?_
  refine r_isub h dX1_close_32 ?_
  refine zm_ldI h hc 63 63 31 (by decide) rfl rfl rfl (by decide) dX1_close_33 (fun _ hr9 => ?_)
  refine r_iadd h dX1_close_34 ?_
  refine r_istore_n (lv' := [(2, iv ((600 * (σ5 (-1) 8)) + (σ5 63 ((σ5 (-1) 64) - 1)))), (1, iv r4), (0, .ref (zm_h G))]) h dX1_close_35 rfl (hN _ (by decide)) rfl ?_
  refine r_aload_n h 2 dX1_close_36 rfl rfl ?_
  refine zm_cVz h hc (n := 0) (As := []) (fun o1 e1 => w_isGood hc.1 _ o1 e1) q1801 q1803 qs56 q136 q1804 (by decide +kernel) ⟨by decide, by decide⟩ rfl (Nat.le_of_ble_eq_true rfl) rfl dX1_close_37 (fun r10 σ11 hr12 => ?_)
  refine r_if_eq h hr12.r 83 dX1_close_40 rfl ?_ ?_
  · exact r_lv [2] rfl (w_close_83 h hc _)
  · refine r_aload_n h 2 dX1_close_43 rfl rfl ?_
    refine r_sipush h dX1_close_44 (by decide) ?_
    refine r_aload_n h 2 dX1_close_47 rfl rfl ?_
    refine zm_getI h hc 8 8 (by decide) rfl rfl q1488 rfl dX1_close_48 (fun hr13 => ?_)
    refine r_imul h dX1_close_51 ?_
    refine r_iload_n h 1 dX1_close_52 rfl rfl ?_
    refine r_iadd h dX1_close_53 ?_
    refine r_aload_n h 2 dX1_close_54 rfl rfl ?_
    refine zm_getI h hc 51 51 (by decide) rfl rfl q1531 rfl dX1_close_55 (fun hr14 => ?_)
    refine r_aload_n h 2 dX1_close_58 rfl rfl ?_
    refine zm_getA h hc 15 (by decide) rfl q1495 rfl dX1_close_59 ?_
    refine r_iload_n h 0 dX1_close_62 rfl rfl ?_
    refine zm_ldI h hc 15 15 1200 (by decide) rfl rfl rfl (by decide) dX1_close_63 (fun _ hr15 => ?_)
    refine r_aload_n h 2 dX1_close_64 rfl rfl ?_
    refine zm_getA h hc 16 (by decide) rfl q1496 rfl dX1_close_65 ?_
    refine r_iload_n h 0 dX1_close_68 rfl rfl ?_
    refine zm_ldI h hc 16 16 1200 (by decide) rfl rfl rfl (by decide) dX1_close_69 (fun _ hr16 => ?_)
    refine r_ck (fun hk17 => ?_)
    refine zm_cVz h hc (n := 4) (As := [iv ((6000 * (σ11 (-1) 8)) + r4), iv (σ11 (-1) 51), iv (σ11 15 ((600 * (σ5 (-1) 8)) + (σ5 63 ((σ5 (-1) 64) - 1)))), iv (σ11 16 ((600 * (σ5 (-1) 8)) + (σ5 63 ((σ5 (-1) 64) - 1))))]) (fun o1 e1 => w_isSame hc.1 _ ((6000 * (σ11 (-1) 8)) + r4) (σ11 (-1) 51) (σ11 15 ((600 * (σ5 (-1) 8)) + (σ5 63 ((σ5 (-1) 64) - 1)))) (σ11 16 ((600 * (σ5 (-1) 8)) + (σ5 63 ((σ5 (-1) 64) - 1)))) hk17 hr14 hr15 hr16 o1 e1) q1924 q1926 qs79 q136 q1927 (by decide +kernel) ⟨by decide, by decide⟩ rfl (Nat.le_of_ble_eq_true rfl) rfl dX1_close_70 (fun r18 σ19 hr20 => ?_)
    refine r_if_ne h hr20.r 83 dX1_close_73 rfl ?_ ?_
    · refine r_aload_n h 2 dX1_close_76 rfl rfl ?_
      refine r_bipush h dX1_close_77 (by decide) ?_
      refine r_iload_n h 1 dX1_close_79 rfl rfl ?_
      refine zm_cVv h hc (n := 2) (As := [iv (-2), iv r4]) (fun o1 e1 => w_fail hc.1 _ (-2) r4 (by decide) hr6 o1 e1) q1805 q1807 qs57 q136 q1808 (by decide +kernel) ⟨by decide, by decide⟩ rfl (Nat.le_of_ble_eq_true rfl) rfl dX1_close_80 (fun σ21  => ?_)
      exact r_lv [2] rfl (w_close_83 h hc _)
    · exact r_lv [2] rfl (w_close_83 h hc _)
theorem dX1_text_0 : decode cX1_text 0 = .ok (.sipush 2000, 3) := by decide +kernel
theorem dX1_text_3 : decode cX1_text 3 = .ok (.aload_n 0, 1) := by decide +kernel
theorem dX1_text_4 : decode cX1_text 4 = .ok (.getfield 328, 3) := by decide +kernel
theorem dX1_text_7 : decode cX1_text 7 = .ok (.imul, 1) := by decide +kernel
theorem dX1_text_8 : decode cX1_text 8 = .ok (.aload_n 0, 1) := by decide +kernel
theorem dX1_text_9 : decode cX1_text 9 = .ok (.getfield 58, 3) := by decide +kernel
theorem dX1_text_12 : decode cX1_text 12 = .ok (.aload_n 0, 1) := by decide +kernel
theorem dX1_text_13 : decode cX1_text 13 = .ok (.getfield 328, 3) := by decide +kernel
theorem dX1_text_16 : decode cX1_text 16 = .ok (.iaload, 1) := by decide +kernel
theorem dX1_text_17 : decode cX1_text 17 = .ok (.iadd, 1) := by decide +kernel
theorem dX1_text_18 : decode cX1_text 18 = .ok (.istore_n 1, 1) := by decide +kernel
theorem dX1_text_19 : decode cX1_text 19 = .ok (.iconst (-1), 1) := by decide +kernel
theorem dX1_text_20 : decode cX1_text 20 = .ok (.istore_n 2, 1) := by decide +kernel
theorem dX1_text_21 : decode cX1_text 21 = .ok (.aload_n 0, 1) := by decide +kernel
theorem dX1_text_22 : decode cX1_text 22 = .ok (.invokevirtual 289, 3) := by decide +kernel
theorem dX1_text_25 : decode cX1_text 25 = .ok (.ifCond .eq 123, 3) := by decide +kernel
theorem dX1_text_28 : decode cX1_text 28 = .ok (.iload_n 2, 1) := by decide +kernel
theorem dX1_text_29 : decode cX1_text 29 = .ok (.ifCond .lt 16, 3) := by decide +kernel
theorem dX1_text_32 : decode cX1_text 32 = .ok (.aload_n 0, 1) := by decide +kernel
theorem dX1_text_33 : decode cX1_text 33 = .ok (.aload_n 0, 1) := by decide +kernel
theorem dX1_text_34 : decode cX1_text 34 = .ok (.getfield 276, 3) := by decide +kernel
theorem dX1_text_37 : decode cX1_text 37 = .ok (.invokevirtual 279, 3) := by decide +kernel
theorem dX1_text_40 : decode cX1_text 40 = .ok (.bipush 60, 2) := by decide +kernel
theorem dX1_text_42 : decode cX1_text 42 = .ok (.if_icmp .eq 106, 3) := by decide +kernel
theorem dX1_text_45 : decode cX1_text 45 = .ok (.aload_n 0, 1) := by decide +kernel
theorem dX1_text_46 : decode cX1_text 46 = .ok (.getfield 276, 3) := by decide +kernel
theorem dX1_text_49 : decode cX1_text 49 = .ok (.istore_n 3, 1) := by decide +kernel
theorem dX1_text_50 : decode cX1_text 50 = .ok (.aload_n 0, 1) := by decide +kernel
theorem dX1_text_51 : decode cX1_text 51 = .ok (.invokevirtual 331, 3) := by decide +kernel
theorem dX1_text_54 : decode cX1_text 54 = .ok (.istore 4, 2) := by decide +kernel
theorem dX1_text_56 : decode cX1_text 56 = .ok (.iload_n 2, 1) := by decide +kernel
theorem dX1_text_57 : decode cX1_text 57 = .ok (.ifCond .ge 19, 3) := by decide +kernel
theorem dX1_text_60 : decode cX1_text 60 = .ok (.aload_n 0, 1) := by decide +kernel
theorem dX1_text_61 : decode cX1_text 61 = .ok (.invokevirtual 289, 3) := by decide +kernel
theorem dX1_text_64 : decode cX1_text 64 = .ok (.ifCond .eq 12, 3) := by decide +kernel
theorem dX1_text_67 : decode cX1_text 67 = .ok (.aload_n 0, 1) := by decide +kernel
theorem dX1_text_68 : decode cX1_text 68 = .ok (.iconst 3, 1) := by decide +kernel
theorem dX1_text_69 : decode cX1_text 69 = .ok (.iload_n 3, 1) := by decide +kernel
theorem dX1_text_70 : decode cX1_text 70 = .ok (.invokevirtual 446, 3) := by decide +kernel
theorem dX1_text_73 : decode cX1_text 73 = .ok (.goto 4, 3) := by decide +kernel
theorem dX1_text_76 : decode cX1_text 76 = .ok (.iload_n 2, 1) := by decide +kernel
theorem dX1_text_77 : decode cX1_text 77 = .ok (.istore_n 2, 1) := by decide +kernel
theorem dX1_text_78 : decode cX1_text 78 = .ok (.aload_n 0, 1) := by decide +kernel
theorem dX1_text_79 : decode cX1_text 79 = .ok (.invokevirtual 289, 3) := by decide +kernel
theorem dX1_text_82 : decode cX1_text 82 = .ok (.ifCond .eq 63, 3) := by decide +kernel
theorem dX1_text_85 : decode cX1_text 85 = .ok (.aload_n 0, 1) := by decide +kernel
theorem dX1_text_86 : decode cX1_text 86 = .ok (.iload 4, 2) := by decide +kernel
theorem dX1_text_88 : decode cX1_text 88 = .ok (.iload_n 3, 1) := by decide +kernel
theorem dX1_text_89 : decode cX1_text 89 = .ok (.invokevirtual 335, 3) := by decide +kernel
theorem dX1_text_92 : decode cX1_text 92 = .ok (.aload_n 0, 1) := by decide +kernel
theorem dX1_text_93 : decode cX1_text 93 = .ok (.getfield 52, 3) := by decide +kernel
theorem dX1_text_96 : decode cX1_text 96 = .ok (.sipush 600, 3) := by decide +kernel
theorem dX1_text_99 : decode cX1_text 99 = .ok (.aload_n 0, 1) := by decide +kernel
theorem dX1_text_100 : decode cX1_text 100 = .ok (.getfield 328, 3) := by decide +kernel
theorem dX1_text_103 : decode cX1_text 103 = .ok (.imul, 1) := by decide +kernel
theorem dX1_text_104 : decode cX1_text 104 = .ok (.iload_n 2, 1) := by decide +kernel
theorem dX1_text_105 : decode cX1_text 105 = .ok (.iadd, 1) := by decide +kernel
theorem dX1_text_106 : decode cX1_text 106 = .ok (.aload_n 0, 1) := by decide +kernel
theorem dX1_text_107 : decode cX1_text 107 = .ok (.getfield 52, 3) := by decide +kernel
theorem dX1_text_110 : decode cX1_text 110 = .ok (.sipush 600, 3) := by decide +kernel
theorem dX1_text_113 : decode cX1_text 113 = .ok (.aload_n 0, 1) := by decide +kernel
theorem dX1_text_114 : decode cX1_text 114 = .ok (.getfield 328, 3) := by decide +kernel
theorem dX1_text_117 : decode cX1_text 117 = .ok (.imul, 1) := by decide +kernel
theorem dX1_text_118 : decode cX1_text 118 = .ok (.iload_n 2, 1) := by decide +kernel
theorem dX1_text_119 : decode cX1_text 119 = .ok (.iadd, 1) := by decide +kernel
theorem dX1_text_120 : decode cX1_text 120 = .ok (.baload, 1) := by decide +kernel
theorem dX1_text_121 : decode cX1_text 121 = .ok (.ifCond .eq 22, 3) := by decide +kernel
theorem dX1_text_124 : decode cX1_text 124 = .ok (.iload 4, 2) := by decide +kernel
theorem dX1_text_126 : decode cX1_text 126 = .ok (.invokestatic 297, 3) := by decide +kernel
theorem dX1_text_129 : decode cX1_text 129 = .ok (.ifCond .eq 14, 3) := by decide +kernel
theorem dX1_text_132 : decode cX1_text 132 = .ok (.aload_n 0, 1) := by decide +kernel
theorem dX1_text_133 : decode cX1_text 133 = .ok (.getfield 309, 3) := by decide +kernel
theorem dX1_text_136 : decode cX1_text 136 = .ok (.ifCond .ne 7, 3) := by decide +kernel
theorem dX1_text_139 : decode cX1_text 139 = .ok (.iconst 1, 1) := by decide +kernel
theorem dX1_text_140 : decode cX1_text 140 = .ok (.goto 4, 3) := by decide +kernel
theorem dX1_text_143 : decode cX1_text 143 = .ok (.iconst 0, 1) := by decide +kernel
theorem dX1_text_144 : decode cX1_text 144 = .ok (.bastore, 1) := by decide +kernel
theorem dX1_text_145 : decode cX1_text 145 = .ok (.goto (-124), 3) := by decide +kernel
theorem dX1_text_148 : decode cX1_text 148 = .ok (.iload_n 2, 1) := by decide +kernel
theorem dX1_text_149 : decode cX1_text 149 = .ok (.ifCond .lt 54, 3) := by decide +kernel
theorem dX1_text_152 : decode cX1_text 152 = .ok (.aload_n 0, 1) := by decide +kernel
theorem dX1_text_153 : decode cX1_text 153 = .ok (.getfield 43, 3) := by decide +kernel
theorem dX1_text_156 : decode cX1_text 156 = .ok (.sipush 600, 3) := by decide +kernel
theorem dX1_text_159 : decode cX1_text 159 = .ok (.aload_n 0, 1) := by decide +kernel
theorem dX1_text_160 : decode cX1_text 160 = .ok (.getfield 328, 3) := by decide +kernel
theorem dX1_text_163 : decode cX1_text 163 = .ok (.imul, 1) := by decide +kernel
theorem dX1_text_164 : decode cX1_text 164 = .ok (.iload_n 2, 1) := by decide +kernel
theorem dX1_text_165 : decode cX1_text 165 = .ok (.iadd, 1) := by decide +kernel
theorem dX1_text_166 : decode cX1_text 166 = .ok (.iload_n 1, 1) := by decide +kernel
theorem dX1_text_167 : decode cX1_text 167 = .ok (.iastore, 1) := by decide +kernel
theorem dX1_text_168 : decode cX1_text 168 = .ok (.aload_n 0, 1) := by decide +kernel
theorem dX1_text_169 : decode cX1_text 169 = .ok (.getfield 46, 3) := by decide +kernel
theorem dX1_text_172 : decode cX1_text 172 = .ok (.sipush 600, 3) := by decide +kernel
theorem dX1_text_175 : decode cX1_text 175 = .ok (.aload_n 0, 1) := by decide +kernel
theorem dX1_text_176 : decode cX1_text 176 = .ok (.getfield 328, 3) := by decide +kernel
theorem dX1_text_179 : decode cX1_text 179 = .ok (.imul, 1) := by decide +kernel
theorem dX1_text_180 : decode cX1_text 180 = .ok (.iload_n 2, 1) := by decide +kernel
theorem dX1_text_181 : decode cX1_text 181 = .ok (.iadd, 1) := by decide +kernel
theorem dX1_text_182 : decode cX1_text 182 = .ok (.sipush 2000, 3) := by decide +kernel
theorem dX1_text_185 : decode cX1_text 185 = .ok (.aload_n 0, 1) := by decide +kernel
theorem dX1_text_186 : decode cX1_text 186 = .ok (.getfield 328, 3) := by decide +kernel
theorem dX1_text_189 : decode cX1_text 189 = .ok (.imul, 1) := by decide +kernel
theorem dX1_text_190 : decode cX1_text 190 = .ok (.aload_n 0, 1) := by decide +kernel
theorem dX1_text_191 : decode cX1_text 191 = .ok (.getfield 58, 3) := by decide +kernel
theorem dX1_text_194 : decode cX1_text 194 = .ok (.aload_n 0, 1) := by decide +kernel
theorem dX1_text_195 : decode cX1_text 195 = .ok (.getfield 328, 3) := by decide +kernel
theorem dX1_text_198 : decode cX1_text 198 = .ok (.iaload, 1) := by decide +kernel
theorem dX1_text_199 : decode cX1_text 199 = .ok (.iadd, 1) := by decide +kernel
theorem dX1_text_200 : decode cX1_text 200 = .ok (.iload_n 1, 1) := by decide +kernel
theorem dX1_text_201 : decode cX1_text 201 = .ok (.isub, 1) := by decide +kernel
theorem dX1_text_202 : decode cX1_text 202 = .ok (.iastore, 1) := by decide +kernel
theorem dX1_text_203 : decode cX1_text 203 = .ok (.return_, 1) := by decide +kernel
def m_text_148 (σ : MEM) (x1 x2 : Int) : Option zm_O := if x2 < 0 then (some (0, σ)) else (ck (0 ≤ ((600 * (σ (-1) 8)) + x2) ∧ ((600 * (σ (-1) 8)) + x2) < 1200) (nu (mup σ 17 ((600 * (σ (-1) 8)) + x2) x1) (fun σ2 => ck (0 ≤ (σ2 (-1) 8) ∧ (σ2 (-1) 8) < 2) (ck (inR (((2000 * (σ2 (-1) 8)) + (σ2 22 (σ2 (-1) 8))) - x1)) (ck (0 ≤ ((600 * (σ2 (-1) 8)) + x2) ∧ ((600 * (σ2 (-1) 8)) + x2) < 1200) (nu (mup σ2 18 ((600 * (σ2 (-1) 8)) + x2) (((2000 * (σ2 (-1) 8)) + (σ2 22 (σ2 (-1) 8))) - x1)) (fun σ8 => some (0, σ8))))))))
theorem w_text_148 {C : zv_Cx zm_O} {G : zm_G} (h : zv_Ok C cX1_text RX1) (hc : zm_C C G 5 (Option.none : Option FieldType) 0 3 70) (σ : MEM) (x1 x2 : Int) (hx1 : inR x1) (hx2 : inR x2) : VV C (m_text_148 σ x1 x2) σ [(0, .ref (zm_h G)), (1, iv x1), (2, iv x2)] [] 148 := by
  have hN : ∀ i, i < 5 → i < zv_n C := fun i q => by rw [hc.2.2.1]; exact q
  unfold m_text_148
  refine r_iload_n h 2 dX1_text_148 rfl rfl ?_
  refine r_if_lt h hx2 203 dX1_text_149 rfl ?_ ?_
  · exact zm_vret h hc rfl dX1_text_203
  · refine r_aload_n h 0 dX1_text_152 rfl rfl ?_
    refine zm_getA h hc 17 (by decide) rfl q1497 rfl dX1_text_153 ?_
    refine r_sipush h dX1_text_156 (by decide) ?_
    refine r_aload_n h 0 dX1_text_159 rfl rfl ?_
    refine zm_getI h hc 8 8 (by decide) rfl rfl q1488 rfl dX1_text_160 (fun hr1 => ?_)
    refine r_imul h dX1_text_163 ?_
    refine r_iload_n h 2 dX1_text_164 rfl rfl ?_
    refine r_iadd h dX1_text_165 ?_
    refine r_iload_n h 1 dX1_text_166 rfl rfl ?_
    refine zm_stI h hc 17 17 1200 (by decide) rfl rfl rfl (by decide) hx1 dX1_text_167 (fun _ σ2 _ => ?_)
    refine r_aload_n h 0 dX1_text_168 rfl rfl ?_
    refine zm_getA h hc 18 (by decide) rfl q1498 rfl dX1_text_169 ?_
    refine r_sipush h dX1_text_172 (by decide) ?_
    refine r_aload_n h 0 dX1_text_175 rfl rfl ?_
    refine zm_getI h hc 8 8 (by decide) rfl rfl q1488 rfl dX1_text_176 (fun hr3 => ?_)
    refine r_imul h dX1_text_179 ?_
    refine r_iload_n h 2 dX1_text_180 rfl rfl ?_
    refine r_iadd h dX1_text_181 ?_
    refine r_sipush h dX1_text_182 (by decide) ?_
    refine r_aload_n h 0 dX1_text_185 rfl rfl ?_
    refine zm_getI h hc 8 8 (by decide) rfl rfl q1488 rfl dX1_text_186 (fun hr4 => ?_)
    refine r_imul h dX1_text_189 ?_
    refine r_aload_n h 0 dX1_text_190 rfl rfl ?_
    refine zm_getA h hc 22 (by decide) rfl q1502 rfl dX1_text_191 ?_
    refine r_aload_n h 0 dX1_text_194 rfl rfl ?_
    refine zm_getI h hc 8 8 (by decide) rfl rfl q1488 rfl dX1_text_195 (fun hr5 => ?_)
    refine zm_ldI h hc 22 22 2 (by decide) rfl rfl rfl (by decide) dX1_text_198 (fun _ hr6 => ?_)
    refine r_iadd h dX1_text_199 ?_
    refine r_iload_n h 1 dX1_text_200 rfl rfl ?_
    refine r_isub h dX1_text_201 ?_
    refine r_ck (fun hk7 => ?_)
    refine zm_stI h hc 18 18 1200 (by decide) rfl rfl rfl (by decide) hk7 dX1_text_202 (fun _ σ8 _ => ?_)
    exact zm_vret h hc rfl dX1_text_203
def m_text_77 (lp21 : MEM → Int → Int → Option zm_O) (σ : MEM) (x1 x3 x4 s0 : Int) : Option zm_O := bd (m_isGood σ) (fun r1 σ2 => if r1 = 0 then (lp21 σ2 x1 s0) else (bd (m_keep σ2 x4 x3) (fun _ σ4 => ck (0 ≤ ((600 * (σ4 (-1) 8)) + s0) ∧ ((600 * (σ4 (-1) 8)) + s0) < 1200) (if (σ4 20 ((600 * (σ4 (-1) 8)) + s0)) = 0 then (ck (0 ≤ ((600 * (σ4 (-1) 8)) + s0) ∧ ((600 * (σ4 (-1) 8)) + s0) < 1200) (nu (mup σ4 20 ((600 * (σ4 (-1) 8)) + s0) 0) (fun σ8 => lp21 σ8 x1 s0))) else (bd (m_isS σ4 x4) (fun r9 σ10 => if r9 = 0 then (ck (0 ≤ ((600 * (σ4 (-1) 8)) + s0) ∧ ((600 * (σ4 (-1) 8)) + s0) < 1200) (nu (mup σ10 20 ((600 * (σ4 (-1) 8)) + s0) 0) (fun σ12 => lp21 σ12 x1 s0))) else (if (σ10 (-1) 52) = 0 then (ck (0 ≤ ((600 * (σ4 (-1) 8)) + s0) ∧ ((600 * (σ4 (-1) 8)) + s0) < 1200) (nu (mup σ10 20 ((600 * (σ4 (-1) 8)) + s0) 1) (fun σ14 => lp21 σ14 x1 s0))) else (ck (0 ≤ ((600 * (σ4 (-1) 8)) + s0) ∧ ((600 * (σ4 (-1) 8)) + s0) < 1200) (nu (mup σ10 20 ((600 * (σ4 (-1) 8)) + s0) 0) (fun σ15 => lp21 σ15 x1 s0))))))))))
theorem w_text_77 {C : zv_Cx zm_O} {G : zm_G} (h : zv_Ok C cX1_text RX1) (hc : zm_C C G 5 (Option.none : Option FieldType) 0 3 70) (lp21 : MEM → Int → Int → Option zm_O) (hlp21 : ∀ (σ : MEM) (x1 x2 : Int), inR x1 → inR x2 → VV C (lp21 σ x1 x2) σ [(0, .ref (zm_h G)), (1, iv x1), (2, iv x2)] [] 21) (σ : MEM) (x1 x3 x4 s0 : Int) (hx1 : inR x1) (hx3 : inR x3) (hx4 : inR x4) (hs0 : inR s0) : VV C (m_text_77 lp21 σ x1 x3 x4 s0) σ [(0, .ref (zm_h G)), (1, iv x1), (3, iv x3), (4, iv x4)] [iv s0] 77 := by
  have hN : ∀ i, i < 5 → i < zv_n C := fun i q => by rw [hc.2.2.1]; exact q
  unfold m_text_77
  refine r_istore_n (lv' := [(2, iv s0), (0, .ref (zm_h G)), (1, iv x1), (3, iv x3), (4, iv x4)]) h dX1_text_77 rfl (hN _ (by decide)) rfl ?_
  refine r_aload_n h 1 dX1_text_78 rfl rfl ?_
  refine zm_cVz h hc (n := 0) (As := []) (fun o1 e1 => w_isGood hc.1 _ o1 e1) q1801 q1803 qs56 q136 q1804 (by decide +kernel) ⟨by decide, by decide⟩ rfl (Nat.le_of_ble_eq_true rfl) rfl dX1_text_79 (fun r1 σ2 hr3 => ?_)
  refine r_if_eq h hr3.r 145 dX1_text_82 rfl ?_ ?_
  · refine r_goto h 21 dX1_text_145 rfl ?_
    exact r_lv [1, 2, 0] rfl (hlp21 _ x1 s0 hx1 hs0)
  · refine r_aload_n h 1 dX1_text_85 rfl rfl ?_
    refine r_iload h 4 dX1_text_86 rfl ?_
    refine r_iload_n h 3 dX1_text_88 rfl rfl ?_
    refine zm_cVv h hc (n := 2) (As := [iv x4, iv x3]) (fun o1 e1 => w_keep hc.1 _ x4 x3 hx4 hx3 o1 e1) q1956 q1958 qs84 q136 q1959 (by decide +kernel) ⟨by decide, by decide⟩ rfl (Nat.le_of_ble_eq_true rfl) rfl dX1_text_89 (fun σ4  => ?_)
    refine r_aload_n h 1 dX1_text_92 rfl rfl ?_
    refine zm_getA h hc 20 (by decide) rfl q1500 rfl dX1_text_93 ?_
    refine r_sipush h dX1_text_96 (by decide) ?_
    refine r_aload_n h 1 dX1_text_99 rfl rfl ?_
    refine zm_getI h hc 8 8 (by decide) rfl rfl q1488 rfl dX1_text_100 (fun hr5 => ?_)
    refine r_imul h dX1_text_103 ?_
    refine r_iload_n h 0 dX1_text_104 rfl rfl ?_
    refine r_iadd h dX1_text_105 ?_
    refine r_aload_n h 1 dX1_text_106 rfl rfl ?_
    refine zm_getA h hc 20 (by decide) rfl q1500 rfl dX1_text_107 ?_
    refine r_sipush h dX1_text_110 (by decide) ?_
    refine r_aload_n h 1 dX1_text_113 rfl rfl ?_
    refine zm_getI h hc 8 8 (by decide) rfl rfl q1488 rfl dX1_text_114 (fun hr6 => ?_)
    refine r_imul h dX1_text_117 ?_
    refine r_iload_n h 0 dX1_text_118 rfl rfl ?_
    refine r_iadd h dX1_text_119 ?_
    refine zm_ldZ h hc 20 20 1200 (by decide) rfl rfl rfl (by decide) dX1_text_120 (fun _ hr7 => ?_)
    refine r_if_eq h hr7.r 143 dX1_text_121 rfl ?_ ?_
    · refine r_iconst h dX1_text_143 ?_
      refine zm_stZ h hc 20 20 1200 (by decide) rfl rfl rfl (by decide) (by decide) dX1_text_144 (fun _ σ8 _ => ?_)
      refine r_goto h 21 dX1_text_145 rfl ?_
      exact r_lv [1, 2, 0] rfl (hlp21 _ x1 s0 hx1 hs0)
    · refine r_iload h 4 dX1_text_124 rfl ?_
      refine zm_cSz h hc (n := 1) (As := [iv x4]) (fun o1 e1 => w_isS hc.1 _ x4 hx4 o1 e1) q1821 q1822 q136 q1823 (by decide +kernel) ⟨by decide, by decide⟩ rfl (Nat.le_of_ble_eq_true rfl) rfl dX1_text_126 (fun r9 σ10 hr11 => ?_)
      refine r_if_eq h hr11.r 143 dX1_text_129 rfl ?_ ?_
      · refine r_iconst h dX1_text_143 ?_
        refine zm_stZ h hc 20 20 1200 (by decide) rfl rfl rfl (by decide) (by decide) dX1_text_144 (fun _ σ12 _ => ?_)
        refine r_goto h 21 dX1_text_145 rfl ?_
        exact r_lv [1, 2, 0] rfl (hlp21 _ x1 s0 hx1 hs0)
      · refine r_aload_n h 1 dX1_text_132 rfl rfl ?_
        refine zm_getZ h hc 52 52 (by decide) rfl rfl q1532 rfl dX1_text_133 (fun hr13 => ?_)
        refine r_if_ne h hr13.r 143 dX1_text_136 rfl ?_ ?_
        · refine r_iconst h dX1_text_139 ?_
          refine r_goto h 144 dX1_text_140 rfl ?_
          refine zm_stZ h hc 20 20 1200 (by decide) rfl rfl rfl (by decide) (by decide) dX1_text_144 (fun _ σ14 _ => ?_)
          refine r_goto h 21 dX1_text_145 rfl ?_
          exact r_lv [1, 2, 0] rfl (hlp21 _ x1 s0 hx1 hs0)
        · refine r_iconst h dX1_text_143 ?_
          refine zm_stZ h hc 20 20 1200 (by decide) rfl rfl rfl (by decide) (by decide) dX1_text_144 (fun _ σ15 _ => ?_)
          refine r_goto h 21 dX1_text_145 rfl ?_
          exact r_lv [1, 2, 0] rfl (hlp21 _ x1 s0 hx1 hs0)
def m_text_76 (lp21 : MEM → Int → Int → Option zm_O) (σ : MEM) (x1 x2 x3 x4 : Int) : Option zm_O := m_text_77 lp21 σ x1 x3 x4 x2
theorem w_text_76 {C : zv_Cx zm_O} {G : zm_G} (h : zv_Ok C cX1_text RX1) (hc : zm_C C G 5 (Option.none : Option FieldType) 0 3 70) (lp21 : MEM → Int → Int → Option zm_O) (hlp21 : ∀ (σ : MEM) (x1 x2 : Int), inR x1 → inR x2 → VV C (lp21 σ x1 x2) σ [(0, .ref (zm_h G)), (1, iv x1), (2, iv x2)] [] 21) (σ : MEM) (x1 x2 x3 x4 : Int) (hx1 : inR x1) (hx2 : inR x2) (hx3 : inR x3) (hx4 : inR x4) : VV C (m_text_76 lp21 σ x1 x2 x3 x4) σ [(0, .ref (zm_h G)), (1, iv x1), (2, iv x2), (3, iv x3), (4, iv x4)] [] 76 := by
  have hN : ∀ i, i < 5 → i < zv_n C := fun i q => by rw [hc.2.2.1]; exact q
  unfold m_text_76
  refine r_iload_n h 2 dX1_text_76 rfl rfl ?_
  exact r_lv [0, 1, 3, 4] rfl (w_text_77 h hc lp21 hlp21 _ x1 x3 x4 x2 hx1 hx3 hx4 hx2)
def m_text_45 (lp21 : MEM → Int → Int → Option zm_O) (σ : MEM) (x1 x2 : Int) : Option zm_O := bd (m_takePiece σ) (fun r2 σ3 => if 0 ≤ x2 then (m_text_76 lp21 σ3 x1 x2 (σ (-1) 4) r2) else (bd (m_isGood σ3) (fun r5 σ6 => if r5 = 0 then (m_text_76 lp21 σ6 x1 x2 (σ (-1) 4) r2) else (bd (m_newNode σ6 3 (σ (-1) 4)) (fun r8 σ9 => m_text_77 lp21 σ9 x1 (σ (-1) 4) r2 r8)))))
theorem w_text_45 {C : zv_Cx zm_O} {G : zm_G} (h : zv_Ok C cX1_text RX1) (hc : zm_C C G 5 (Option.none : Option FieldType) 0 3 70) (lp21 : MEM → Int → Int → Option zm_O) (hlp21 : ∀ (σ : MEM) (x1 x2 : Int), inR x1 → inR x2 → VV C (lp21 σ x1 x2) σ [(0, .ref (zm_h G)), (1, iv x1), (2, iv x2)] [] 21) (σ : MEM) (x1 x2 : Int) (hx1 : inR x1) (hx2 : inR x2) : VV C (m_text_45 lp21 σ x1 x2) σ [(0, .ref (zm_h G)), (1, iv x1), (2, iv x2)] [] 45 := by
  have hN : ∀ i, i < 5 → i < zv_n C := fun i q => by rw [hc.2.2.1]; exact q
  unfold m_text_45
  refine r_aload_n h 0 dX1_text_45 rfl rfl ?_
  refine zm_getI h hc 4 4 (by decide) rfl rfl q1484 rfl dX1_text_46 (fun hr1 => ?_)
  refine r_istore_n (lv' := [(3, iv (σ (-1) 4)), (0, .ref (zm_h G)), (1, iv x1), (2, iv x2)]) h dX1_text_49 rfl (hN _ (by decide)) rfl ?_
  refine r_aload_n h 1 dX1_text_50 rfl rfl ?_
  refine zm_cVi h hc (n := 0) (As := []) (fun o1 e1 => w_takePiece hc.1 _ o1 e1) q1946 q1948 qs83 q136 q1949 (by decide +kernel) ⟨by decide, by decide⟩ rfl (Nat.le_of_ble_eq_true rfl) rfl dX1_text_51 (fun r2 σ3 hr4 => ?_)
  refine r_istore (lv' := [(4, iv r2), (3, iv (σ (-1) 4)), (0, .ref (zm_h G)), (1, iv x1), (2, iv x2)]) h dX1_text_54 (hN _ (by decide)) rfl ?_
  refine r_iload_n h 4 dX1_text_56 rfl rfl ?_
  refine r_if_ge h hx2 76 dX1_text_57 rfl ?_ ?_
  · exact r_lv [2, 3, 4, 1, 0] rfl (w_text_76 h hc lp21 hlp21 _ x1 x2 (σ (-1) 4) r2 hx1 hx2 hr1 hr4)
  · refine r_aload_n h 2 dX1_text_60 rfl rfl ?_
    refine zm_cVz h hc (n := 0) (As := []) (fun o1 e1 => w_isGood hc.1 _ o1 e1) q1801 q1803 qs56 q136 q1804 (by decide +kernel) ⟨by decide, by decide⟩ rfl (Nat.le_of_ble_eq_true rfl) rfl dX1_text_61 (fun r5 σ6 hr7 => ?_)
    refine r_if_eq h hr7.r 76 dX1_text_64 rfl ?_ ?_
    · exact r_lv [2, 3, 4, 1, 0] rfl (w_text_76 h hc lp21 hlp21 _ x1 x2 (σ (-1) 4) r2 hx1 hx2 hr1 hr4)
    · refine r_aload_n h 2 dX1_text_67 rfl rfl ?_
      refine r_iconst h dX1_text_68 ?_
      refine r_iload_n h 1 dX1_text_69 rfl rfl ?_
      refine zm_cVi h hc (n := 2) (As := [iv 3, iv (σ (-1) 4)]) (fun o1 e1 => w_newNode hc.1 _ 3 (σ (-1) 4) (by decide) hr1 o1 e1) q1797 q1799 qs55 q136 q1800 (by decide +kernel) ⟨by decide, by decide⟩ rfl (Nat.le_of_ble_eq_true rfl) rfl dX1_text_70 (fun r8 σ9 hr10 => ?_)
      refine r_goto h 77 dX1_text_73 rfl ?_
      exact r_lv [2, 3, 1, 0] rfl (w_text_77 h hc lp21 hlp21 _ x1 (σ (-1) 4) r2 r8 hx1 hr1 hr4 hr10)
def m_text_21 : Nat → MEM → Int → Int → Option zm_O
  | 0, _, _, _ => none
  | n + 1, σ, x1, x2 => bd (m_isGood σ) (fun r1 σ2 => if r1 = 0 then (m_text_148 σ2 x1 x2) else (if x2 < 0 then (m_text_45 (m_text_21 n) σ2 x1 x2) else (bd (m_octet σ2 (σ2 (-1) 4)) (fun r5 σ6 => if r5 = 60 then (m_text_148 σ6 x1 x2) else (m_text_45 (m_text_21 n) σ6 x1 x2)))))
theorem w_text_21 {C : zv_Cx zm_O} {G : zm_G} (h : zv_Ok C cX1_text RX1) (hc : zm_C C G 5 (Option.none : Option FieldType) 0 3 70) : ∀ (n : Nat) (σ : MEM) (x1 x2 : Int), inR x1 → inR x2 → VV C (m_text_21 n σ x1 x2) σ [(0, .ref (zm_h G)), (1, iv x1), (2, iv x2)] [] 21 := by
  have hN : ∀ i, i < 5 → i < zv_n C := fun i q => by rw [hc.2.2.1]; exact q
  intro n
  induction n with
  | zero => intros; exact r_none
  | succ n ih =>
    intro σ x1 x2 hx1 hx2
    rw [m_text_21]
    refine r_aload_n h 0 dX1_text_21 rfl rfl ?_
    refine zm_cVz h hc (n := 0) (As := []) (fun o1 e1 => w_isGood hc.1 _ o1 e1) q1801 q1803 qs56 q136 q1804 (by decide +kernel) ⟨by decide, by decide⟩ rfl (Nat.le_of_ble_eq_true rfl) rfl dX1_text_22 (fun r1 σ2 hr3 => ?_)
    refine r_if_eq h hr3.r 148 dX1_text_25 rfl ?_ ?_
    · exact r_lv [0, 1, 2] rfl (w_text_148 h hc _ x1 x2 hx1 hx2)
    · refine r_iload_n h 2 dX1_text_28 rfl rfl ?_
      refine r_if_lt h hx2 45 dX1_text_29 rfl ?_ ?_
      · exact r_lv [0, 1, 2] rfl (w_text_45 h hc (m_text_21 n) ih _ x1 x2 hx1 hx2)
      · refine r_aload_n h 0 dX1_text_32 rfl rfl ?_
        refine r_aload_n h 0 dX1_text_33 rfl rfl ?_
        refine zm_getI h hc 4 4 (by decide) rfl rfl q1484 rfl dX1_text_34 (fun hr4 => ?_)
        refine zm_cVi h hc (n := 1) (As := [iv (σ2 (-1) 4)]) (fun o1 e1 => w_octet hc.1 _ (σ2 (-1) 4) hr4 o1 e1) q1817 q1819 qs60 q136 q1820 (by decide +kernel) ⟨by decide, by decide⟩ rfl (Nat.le_of_ble_eq_true rfl) rfl dX1_text_37 (fun r5 σ6 hr7 => ?_)
        refine r_bipush h dX1_text_40 (by decide) ?_
        refine r_icmp_eq h hr7 (by decide) 148 dX1_text_42 rfl ?_ ?_
        · exact r_lv [0, 1, 2] rfl (w_text_148 h hc _ x1 x2 hx1 hx2)
        · exact r_lv [0, 1, 2] rfl (w_text_45 h hc (m_text_21 n) ih _ x1 x2 hx1 hx2)
def m_text (σ : MEM) : Option zm_O := ck (0 ≤ (σ (-1) 8) ∧ (σ (-1) 8) < 2) (ck (inR ((2000 * (σ (-1) 8)) + (σ 22 (σ (-1) 8)))) (m_text_21 zF σ ((2000 * (σ (-1) 8)) + (σ 22 (σ (-1) 8))) (-1)))
theorem w_text {G : zm_G} (hD : zm_D G) (σ : MEM) (o : zm_O) (hd : m_text σ  = some o) : zm_Met G yX1_text cX1_text 5 (Option.none : Option FieldType) 0 3 70 σ [.ref (zm_h G)] o := by
  refine zm_intro hD hd (by decide) rfl (Nat.le_of_ble_eq_true rfl) rfl (fun C h hc => ?_)
  have hN : ∀ i, i < 5 → i < zv_n C := fun i q => by rw [hc.2.2.1]; exact q
  unfold m_text
  refine r_sipush h dX1_text_0 (by decide) ?_
  refine r_aload_n h 0 dX1_text_3 rfl rfl ?_
  refine zm_getI h hc 8 8 (by decide) rfl rfl q1488 rfl dX1_text_4 (fun hr1 => ?_)
  refine r_imul h dX1_text_7 ?_
  refine r_aload_n h 0 dX1_text_8 rfl rfl ?_
  refine zm_getA h hc 22 (by decide) rfl q1502 rfl dX1_text_9 ?_
  refine r_aload_n h 0 dX1_text_12 rfl rfl ?_
  refine zm_getI h hc 8 8 (by decide) rfl rfl q1488 rfl dX1_text_13 (fun hr2 => ?_)
  refine zm_ldI h hc 22 22 2 (by decide) rfl rfl rfl (by decide) dX1_text_16 (fun _ hr3 => ?_)
  refine r_iadd h dX1_text_17 ?_
  refine r_istore_n (lv' := [(1, iv ((2000 * (σ (-1) 8)) + (σ 22 (σ (-1) 8)))), (0, .ref (zm_h G))]) h dX1_text_18 rfl (hN _ (by decide)) rfl ?_
  refine r_iconst h dX1_text_19 ?_
  refine r_istore_n (lv' := [(2, iv (-1)), (1, iv ((2000 * (σ (-1) 8)) + (σ 22 (σ (-1) 8)))), (0, .ref (zm_h G))]) h dX1_text_20 rfl (hN _ (by decide)) rfl ?_
  refine r_ck (fun hk4 => ?_)
  exact r_lv [2, 1, 0] rfl (w_text_21 h hc zF _ ((2000 * (σ (-1) 8)) + (σ 22 (σ (-1) 8))) (-1) hk4 (by decide))
theorem dX1_content_0 : decode cX1_content 0 = .ok (.aload_n 0, 1) := by decide +kernel
theorem dX1_content_1 : decode cX1_content 1 = .ok (.invokevirtual 289, 3) := by decide +kernel
theorem dX1_content_4 : decode cX1_content 4 = .ok (.ifCond .eq 73, 3) := by decide +kernel
theorem dX1_content_7 : decode cX1_content 7 = .ok (.aload_n 0, 1) := by decide +kernel
theorem dX1_content_8 : decode cX1_content 8 = .ok (.getfield 443, 3) := by decide +kernel
theorem dX1_content_11 : decode cX1_content 11 = .ok (.ifCond .le 66, 3) := by decide +kernel
theorem dX1_content_14 : decode cX1_content 14 = .ok (.aload_n 0, 1) := by decide +kernel
theorem dX1_content_15 : decode cX1_content 15 = .ok (.ldc2_w 465, 3) := by decide +kernel
theorem dX1_content_18 : decode cX1_content 18 = .ok (.iconst 2, 1) := by decide +kernel
theorem dX1_content_19 : decode cX1_content 19 = .ok (.invokevirtual 285, 3) := by decide +kernel
theorem dX1_content_22 : decode cX1_content 22 = .ok (.ifCond .eq 10, 3) := by decide +kernel
theorem dX1_content_25 : decode cX1_content 25 = .ok (.aload_n 0, 1) := by decide +kernel
theorem dX1_content_26 : decode cX1_content 26 = .ok (.invokevirtual 467, 3) := by decide +kernel
theorem dX1_content_29 : decode cX1_content 29 = .ok (.goto (-29), 3) := by decide +kernel
theorem dX1_content_32 : decode cX1_content 32 = .ok (.aload_n 0, 1) := by decide +kernel
theorem dX1_content_33 : decode cX1_content 33 = .ok (.ldc2_w 343, 3) := by decide +kernel
theorem dX1_content_36 : decode cX1_content 36 = .ok (.iconst 4, 1) := by decide +kernel
theorem dX1_content_37 : decode cX1_content 37 = .ok (.invokevirtual 285, 3) := by decide +kernel
theorem dX1_content_40 : decode cX1_content 40 = .ok (.ifCond .eq 10, 3) := by decide +kernel
theorem dX1_content_43 : decode cX1_content 43 = .ok (.aload_n 0, 1) := by decide +kernel
theorem dX1_content_44 : decode cX1_content 44 = .ok (.invokevirtual 345, 3) := by decide +kernel
theorem dX1_content_47 : decode cX1_content 47 = .ok (.goto (-47), 3) := by decide +kernel
theorem dX1_content_50 : decode cX1_content 50 = .ok (.aload_n 0, 1) := by decide +kernel
theorem dX1_content_51 : decode cX1_content 51 = .ok (.aload_n 0, 1) := by decide +kernel
theorem dX1_content_52 : decode cX1_content 52 = .ok (.getfield 276, 3) := by decide +kernel
theorem dX1_content_55 : decode cX1_content 55 = .ok (.invokevirtual 279, 3) := by decide +kernel
theorem dX1_content_58 : decode cX1_content 58 = .ok (.bipush 60, 2) := by decide +kernel
theorem dX1_content_60 : decode cX1_content 60 = .ok (.if_icmp .ne 10, 3) := by decide +kernel
theorem dX1_content_63 : decode cX1_content 63 = .ok (.aload_n 0, 1) := by decide +kernel
theorem dX1_content_64 : decode cX1_content 64 = .ok (.invokevirtual 470, 3) := by decide +kernel
theorem dX1_content_67 : decode cX1_content 67 = .ok (.goto (-67), 3) := by decide +kernel
theorem dX1_content_70 : decode cX1_content 70 = .ok (.aload_n 0, 1) := by decide +kernel
theorem dX1_content_71 : decode cX1_content 71 = .ok (.invokevirtual 473, 3) := by decide +kernel
theorem dX1_content_74 : decode cX1_content 74 = .ok (.goto (-74), 3) := by decide +kernel
theorem dX1_content_77 : decode cX1_content 77 = .ok (.return_, 1) := by decide +kernel
def m_content_0 : Nat → MEM → Option zm_O
  | 0, _ => none
  | n + 1, σ => bd (m_isGood σ) (fun r1 σ2 => if r1 = 0 then (some (0, σ2)) else (if (σ2 (-1) 64) ≤ 0 then (some (0, σ2)) else (bd (m_stands σ2 15407 2) (fun r5 σ6 => if r5 = 0 then (bd (m_stands σ6 1008807213 4) (fun r8 σ9 => if r8 = 0 then (bd (m_octet σ9 (σ9 (-1) 4)) (fun r12 σ13 => if r12 = 60 then (bd (m_element σ13) (fun _ σ15 => m_content_0 n σ15)) else (bd (m_text σ13) (fun _ σ16 => m_content_0 n σ16)))) else (bd (m_comment σ9) (fun _ σ17 => m_content_0 n σ17)))) else (bd (m_close σ6) (fun _ σ18 => m_content_0 n σ18))))))
theorem w_content_0 {C : zv_Cx zm_O} {G : zm_G} (h : zv_Ok C cX1_content RX1) (hc : zm_C C G 1 (Option.none : Option FieldType) 0 6 147) : ∀ (n : Nat) (σ : MEM), VV C (m_content_0 n σ ) σ [(0, .ref (zm_h G))] [] 0 := by
  have hN : ∀ i, i < 1 → i < zv_n C := fun i q => by rw [hc.2.2.1]; exact q
  intro n
  induction n with
  | zero => intros; exact r_none
  | succ n ih =>
    intro σ  
    rw [m_content_0]
    refine r_aload_n h 0 dX1_content_0 rfl rfl ?_
    refine zm_cVz h hc (n := 0) (As := []) (fun o1 e1 => w_isGood hc.1 _ o1 e1) q1801 q1803 qs56 q136 q1804 (by decide +kernel) ⟨by decide, by decide⟩ rfl (Nat.le_of_ble_eq_true rfl) rfl dX1_content_1 (fun r1 σ2 hr3 => ?_)
    refine r_if_eq h hr3.r 77 dX1_content_4 rfl ?_ ?_
    · exact zm_vret h hc rfl dX1_content_77
    · refine r_aload_n h 0 dX1_content_7 rfl rfl ?_
      refine zm_getI h hc 64 64 (by decide) rfl rfl q1543 rfl dX1_content_8 (fun hr4 => ?_)
      refine r_if_le h hr4 77 dX1_content_11 rfl ?_ ?_
      · exact zm_vret h hc rfl dX1_content_77
      · refine r_aload_n h 0 dX1_content_14 rfl rfl ?_
        refine r_ldc2 (x := 15407) h q1985 (by decide) dX1_content_15 ?_
        refine r_iconst h dX1_content_18 ?_
        refine zm_cVz h hc (n := 2) (As := [jv 15407, iv 2]) (fun o1 e1 => w_stands hc.1 _ 15407 2 (by decide) (by decide) o1 e1) q1825 q1827 qs61 q136 q1828 (by decide +kernel) ⟨by decide, by decide⟩ rfl (Nat.le_of_ble_eq_true rfl) rfl dX1_content_19 (fun r5 σ6 hr7 => ?_)
        refine r_if_eq h hr7.r 32 dX1_content_22 rfl ?_ ?_
        · refine r_aload_n h 0 dX1_content_32 rfl rfl ?_
          refine r_ldc2 (x := 1008807213) h q1824 (by decide) dX1_content_33 ?_
          refine r_iconst h dX1_content_36 ?_
          refine zm_cVz h hc (n := 2) (As := [jv 1008807213, iv 4]) (fun o1 e1 => w_stands hc.1 _ 1008807213 4 (by decide) (by decide) o1 e1) q1825 q1827 qs61 q136 q1828 (by decide +kernel) ⟨by decide, by decide⟩ rfl (Nat.le_of_ble_eq_true rfl) rfl dX1_content_37 (fun r8 σ9 hr10 => ?_)
          refine r_if_eq h hr10.r 50 dX1_content_40 rfl ?_ ?_
          · refine r_aload_n h 0 dX1_content_50 rfl rfl ?_
            refine r_aload_n h 0 dX1_content_51 rfl rfl ?_
            refine zm_getI h hc 4 4 (by decide) rfl rfl q1484 rfl dX1_content_52 (fun hr11 => ?_)
            refine zm_cVi h hc (n := 1) (As := [iv (σ9 (-1) 4)]) (fun o1 e1 => w_octet hc.1 _ (σ9 (-1) 4) hr11 o1 e1) q1817 q1819 qs60 q136 q1820 (by decide +kernel) ⟨by decide, by decide⟩ rfl (Nat.le_of_ble_eq_true rfl) rfl dX1_content_55 (fun r12 σ13 hr14 => ?_)
            refine r_bipush h dX1_content_58 (by decide) ?_
            refine r_icmp_ne h hr14 (by decide) 70 dX1_content_60 rfl ?_ ?_
            · refine r_aload_n h 0 dX1_content_63 rfl rfl ?_
              refine zm_cVv h hc (n := 0) (As := []) (fun o1 e1 => w_element hc.1 _ o1 e1) q1960 q1962 qs85 q136 q1963 (by decide +kernel) ⟨by decide, by decide⟩ rfl (Nat.le_of_ble_eq_true rfl) rfl dX1_content_64 (fun σ15  => ?_)
              refine r_goto h 0 dX1_content_67 rfl ?_
              exact r_lv [0] rfl (ih _)
            · refine r_aload_n h 0 dX1_content_70 rfl rfl ?_
              refine zm_cVv h hc (n := 0) (As := []) (fun o1 e1 => w_text hc.1 _ o1 e1) q1990 q1992 qs92 q136 q1993 (by decide +kernel) ⟨by decide, by decide⟩ rfl (Nat.le_of_ble_eq_true rfl) rfl dX1_content_71 (fun σ16  => ?_)
              refine r_goto h 0 dX1_content_74 rfl ?_
              exact r_lv [0] rfl (ih _)
          · refine r_aload_n h 0 dX1_content_43 rfl rfl ?_
            refine zm_cVv h hc (n := 0) (As := []) (fun o1 e1 => w_comment hc.1 _ o1 e1) q1830 q1832 qs62 q136 q1833 (by decide +kernel) ⟨by decide, by decide⟩ rfl (Nat.le_of_ble_eq_true rfl) rfl dX1_content_44 (fun σ17  => ?_)
            refine r_goto h 0 dX1_content_47 rfl ?_
            exact r_lv [0] rfl (ih _)
        · refine r_aload_n h 0 dX1_content_25 rfl rfl ?_
          refine zm_cVv h hc (n := 0) (As := []) (fun o1 e1 => w_close hc.1 _ o1 e1) q1986 q1988 qs91 q136 q1989 (by decide +kernel) ⟨by decide, by decide⟩ rfl (Nat.le_of_ble_eq_true rfl) rfl dX1_content_26 (fun σ18  => ?_)
          refine r_goto h 0 dX1_content_29 rfl ?_
          exact r_lv [0] rfl (ih _)
def m_content (σ : MEM) : Option zm_O := m_content_0 zF σ
theorem w_content {G : zm_G} (hD : zm_D G) (σ : MEM) (o : zm_O) (hd : m_content σ  = some o) : zm_Met G yX1_content cX1_content 1 (Option.none : Option FieldType) 0 6 147 σ [.ref (zm_h G)] o := by
  refine zm_intro hD hd (by decide) rfl (Nat.le_of_ble_eq_true rfl) rfl (fun C h hc => ?_)
  have hN : ∀ i, i < 1 → i < zv_n C := fun i q => by rw [hc.2.2.1]; exact q
  unfold m_content
  exact r_lv [0] rfl (w_content_0 h hc zF _)
theorem dX1_declOf_0 : decode cX1_declOf 0 = .ok (.bipush 30, 2) := by decide +kernel
theorem dX1_declOf_2 : decode cX1_declOf 2 = .ok (.aload_n 0, 1) := by decide +kernel
theorem dX1_declOf_3 : decode cX1_declOf 3 = .ok (.getfield 482, 3) := by decide +kernel
theorem dX1_declOf_6 : decode cX1_declOf 6 = .ok (.imul, 1) := by decide +kernel
theorem dX1_declOf_7 : decode cX1_declOf 7 = .ok (.istore_n 3, 1) := by decide +kernel
theorem dX1_declOf_8 : decode cX1_declOf 8 = .ok (.iload_n 3, 1) := by decide +kernel
theorem dX1_declOf_9 : decode cX1_declOf 9 = .ok (.bipush 30, 2) := by decide +kernel
theorem dX1_declOf_11 : decode cX1_declOf 11 = .ok (.aload_n 0, 1) := by decide +kernel
theorem dX1_declOf_12 : decode cX1_declOf 12 = .ok (.getfield 482, 3) := by decide +kernel
theorem dX1_declOf_15 : decode cX1_declOf 15 = .ok (.imul, 1) := by decide +kernel
theorem dX1_declOf_16 : decode cX1_declOf 16 = .ok (.aload_n 0, 1) := by decide +kernel
theorem dX1_declOf_17 : decode cX1_declOf 17 = .ok (.getfield 70, 3) := by decide +kernel
theorem dX1_declOf_20 : decode cX1_declOf 20 = .ok (.aload_n 0, 1) := by decide +kernel
theorem dX1_declOf_21 : decode cX1_declOf 21 = .ok (.getfield 482, 3) := by decide +kernel
theorem dX1_declOf_24 : decode cX1_declOf 24 = .ok (.iaload, 1) := by decide +kernel
theorem dX1_declOf_25 : decode cX1_declOf 25 = .ok (.iadd, 1) := by decide +kernel
theorem dX1_declOf_26 : decode cX1_declOf 26 = .ok (.if_icmp .ge 32, 3) := by decide +kernel
theorem dX1_declOf_29 : decode cX1_declOf 29 = .ok (.aload_n 0, 1) := by decide +kernel
theorem dX1_declOf_30 : decode cX1_declOf 30 = .ok (.aload_n 0, 1) := by decide +kernel
theorem dX1_declOf_31 : decode cX1_declOf 31 = .ok (.getfield 73, 3) := by decide +kernel
theorem dX1_declOf_34 : decode cX1_declOf 34 = .ok (.iload_n 3, 1) := by decide +kernel
theorem dX1_declOf_35 : decode cX1_declOf 35 = .ok (.iaload, 1) := by decide +kernel
theorem dX1_declOf_36 : decode cX1_declOf 36 = .ok (.aload_n 0, 1) := by decide +kernel
theorem dX1_declOf_37 : decode cX1_declOf 37 = .ok (.getfield 76, 3) := by decide +kernel
theorem dX1_declOf_40 : decode cX1_declOf 40 = .ok (.iload_n 3, 1) := by decide +kernel
theorem dX1_declOf_41 : decode cX1_declOf 41 = .ok (.iaload, 1) := by decide +kernel
theorem dX1_declOf_42 : decode cX1_declOf 42 = .ok (.iload_n 1, 1) := by decide +kernel
theorem dX1_declOf_43 : decode cX1_declOf 43 = .ok (.iload_n 2, 1) := by decide +kernel
theorem dX1_declOf_44 : decode cX1_declOf 44 = .ok (.invokevirtual 412, 3) := by decide +kernel
theorem dX1_declOf_47 : decode cX1_declOf 47 = .ok (.ifCond .eq 5, 3) := by decide +kernel
theorem dX1_declOf_50 : decode cX1_declOf 50 = .ok (.iload_n 3, 1) := by decide +kernel
theorem dX1_declOf_51 : decode cX1_declOf 51 = .ok (.ireturn, 1) := by decide +kernel
theorem dX1_declOf_52 : decode cX1_declOf 52 = .ok (.iinc 3 1, 3) := by decide +kernel
theorem dX1_declOf_55 : decode cX1_declOf 55 = .ok (.goto (-47), 3) := by decide +kernel
theorem dX1_declOf_58 : decode cX1_declOf 58 = .ok (.iconst (-1), 1) := by decide +kernel
theorem dX1_declOf_59 : decode cX1_declOf 59 = .ok (.ireturn, 1) := by decide +kernel
def m_declOf_8 : Nat → MEM → Int → Int → Int → Option zm_O
  | 0, _, _, _, _ => none
  | n + 1, σ, x1, x2, x3 => ck (0 ≤ (σ (-1) 7) ∧ (σ (-1) 7) < 2) (ck (inR ((30 * (σ (-1) 7)) + (σ 26 (σ (-1) 7)))) (if ((30 * (σ (-1) 7)) + (σ 26 (σ (-1) 7))) ≤ x3 then (some ((-1), σ)) else (ck (0 ≤ x3 ∧ x3 < 60) (ck (0 ≤ x3 ∧ x3 < 60) (bd (m_isSame σ (σ 27 x3) (σ 28 x3) x1 x2) (fun r7 σ8 => if r7 = 0 then (ck (inR (x3 + 1)) (m_declOf_8 n σ8 x1 x2 (x3 + 1))) else (some (x3, σ8))))))))
theorem w_declOf_8 {C : zv_Cx zm_O} {G : zm_G} (h : zv_Ok C cX1_declOf RX1) (hc : zm_C C G 4 (Option.some FieldType.int) 1 1 26) : ∀ (n : Nat) (σ : MEM) (x1 x2 x3 : Int), inR x1 → inR x2 → inR x3 → VV C (m_declOf_8 n σ x1 x2 x3) σ [(0, .ref (zm_h G)), (1, iv x1), (2, iv x2), (3, iv x3)] [] 8 := by
  have hN : ∀ i, i < 4 → i < zv_n C := fun i q => by rw [hc.2.2.1]; exact q
  intro n
  induction n with
  | zero => intros; exact r_none
  | succ n ih =>
    intro σ x1 x2 x3 hx1 hx2 hx3
    rw [m_declOf_8]
    refine r_iload_n h 3 dX1_declOf_8 rfl rfl ?_
    refine r_bipush h dX1_declOf_9 (by decide) ?_
    refine r_aload_n h 0 dX1_declOf_11 rfl rfl ?_
    refine zm_getI h hc 7 7 (by decide) rfl rfl q1487 rfl dX1_declOf_12 (fun hr1 => ?_)
    refine r_imul h dX1_declOf_15 ?_
    refine r_aload_n h 0 dX1_declOf_16 rfl rfl ?_
    refine zm_getA h hc 26 (by decide) rfl q1506 rfl dX1_declOf_17 ?_
    refine r_aload_n h 0 dX1_declOf_20 rfl rfl ?_
    refine zm_getI h hc 7 7 (by decide) rfl rfl q1487 rfl dX1_declOf_21 (fun hr2 => ?_)
    refine zm_ldI h hc 26 26 2 (by decide) rfl rfl rfl (by decide) dX1_declOf_24 (fun _ hr3 => ?_)
    refine r_iadd h dX1_declOf_25 ?_
    refine r_ck (fun hk4 => ?_)
    refine r_icmp_ge h hx3 hk4 58 dX1_declOf_26 rfl ?_ ?_
    · refine r_iconst h dX1_declOf_58 ?_
      exact zm_iret h hc rfl (by decide) dX1_declOf_59
    · refine r_aload_n h 0 dX1_declOf_29 rfl rfl ?_
      refine r_aload_n h 0 dX1_declOf_30 rfl rfl ?_
      refine zm_getA h hc 27 (by decide) rfl q1507 rfl dX1_declOf_31 ?_
      refine r_iload_n h 3 dX1_declOf_34 rfl rfl ?_
      refine zm_ldI h hc 27 27 60 (by decide) rfl rfl rfl (by decide) dX1_declOf_35 (fun _ hr5 => ?_)
      refine r_aload_n h 0 dX1_declOf_36 rfl rfl ?_
      refine zm_getA h hc 28 (by decide) rfl q1508 rfl dX1_declOf_37 ?_
      refine r_iload_n h 3 dX1_declOf_40 rfl rfl ?_
      refine zm_ldI h hc 28 28 60 (by decide) rfl rfl rfl (by decide) dX1_declOf_41 (fun _ hr6 => ?_)
      refine r_iload_n h 1 dX1_declOf_42 rfl rfl ?_
      refine r_iload_n h 2 dX1_declOf_43 rfl rfl ?_
      refine zm_cVz h hc (n := 4) (As := [iv (σ 27 x3), iv (σ 28 x3), iv x1, iv x2]) (fun o1 e1 => w_isSame hc.1 _ (σ 27 x3) (σ 28 x3) x1 x2 hr5 hr6 hx1 hx2 o1 e1) q1924 q1926 qs79 q136 q1927 (by decide +kernel) ⟨by decide, by decide⟩ rfl (Nat.le_of_ble_eq_true rfl) rfl dX1_declOf_44 (fun r7 σ8 hr9 => ?_)
      refine r_if_eq h hr9.r 52 dX1_declOf_47 rfl ?_ ?_
      · refine r_iinc (lv' := [(3, iv (x3 + 1)), (0, .ref (zm_h G)), (1, iv x1), (2, iv x2)]) h 3 dX1_declOf_52 rfl (hN _ (by decide)) rfl ?_
        refine r_goto h 8 dX1_declOf_55 rfl ?_
        refine r_ck (fun hk10 => ?_)
        exact r_lv [1, 2, 3, 0] rfl (ih _ x1 x2 (x3 + 1) hx1 hx2 hk10)
      · refine r_iload_n h 3 dX1_declOf_50 rfl rfl ?_
        exact zm_iret h hc rfl hx3 dX1_declOf_51
def m_declOf (σ : MEM) (a0 a1 : Int) : Option zm_O := ck (inR (30 * (σ (-1) 7))) (m_declOf_8 zF σ a0 a1 (30 * (σ (-1) 7)))
theorem w_declOf {G : zm_G} (hD : zm_D G) (σ : MEM) (a0 a1 : Int) (ha0 : inR a0) (ha1 : inR a1) (o : zm_O) (hd : m_declOf σ a0 a1 = some o) : zm_Met G yX1_declOf cX1_declOf 4 (Option.some FieldType.int) 1 1 26 σ [.ref (zm_h G), iv a0, iv a1] o := by
  refine zm_intro hD hd (by decide) rfl (Nat.le_of_ble_eq_true rfl) rfl (fun C h hc => ?_)
  have hN : ∀ i, i < 4 → i < zv_n C := fun i q => by rw [hc.2.2.1]; exact q
  unfold m_declOf
  refine r_bipush h dX1_declOf_0 (by decide) ?_
  refine r_aload_n h 0 dX1_declOf_2 rfl rfl ?_
  refine zm_getI h hc 7 7 (by decide) rfl rfl q1487 rfl dX1_declOf_3 (fun hr1 => ?_)
  refine r_imul h dX1_declOf_6 ?_
  refine r_istore_n (lv' := [(3, iv (30 * (σ (-1) 7))), (0, .ref (zm_h G)), (1, iv a0), (2, iv a1)]) h dX1_declOf_7 rfl (hN _ (by decide)) rfl ?_
  refine r_ck (fun hk2 => ?_)
  exact r_lv [1, 2, 3, 0] rfl (w_declOf_8 h hc zF _ a0 a1 (30 * (σ (-1) 7)) ha0 ha1 hk2)
theorem dX1_tellFinding_0 : decode cX1_tellFinding 0 = .ok (.aload_n 0, 1) := by decide +kernel
theorem dX1_tellFinding_1 : decode cX1_tellFinding 1 = .ok (.getfield 164, 3) := by decide +kernel
theorem dX1_tellFinding_4 : decode cX1_tellFinding 4 = .ok (.aload_n 0, 1) := by decide +kernel
theorem dX1_tellFinding_5 : decode cX1_tellFinding 5 = .ok (.getfield 510, 3) := by decide +kernel
theorem dX1_tellFinding_8 : decode cX1_tellFinding 8 = .ok (.iload_n 1, 1) := by decide +kernel
theorem dX1_tellFinding_9 : decode cX1_tellFinding 9 = .ok (.iastore, 1) := by decide +kernel
theorem dX1_tellFinding_10 : decode cX1_tellFinding 10 = .ok (.aload_n 0, 1) := by decide +kernel
theorem dX1_tellFinding_11 : decode cX1_tellFinding 11 = .ok (.getfield 167, 3) := by decide +kernel
theorem dX1_tellFinding_14 : decode cX1_tellFinding 14 = .ok (.aload_n 0, 1) := by decide +kernel
theorem dX1_tellFinding_15 : decode cX1_tellFinding 15 = .ok (.getfield 510, 3) := by decide +kernel
theorem dX1_tellFinding_18 : decode cX1_tellFinding 18 = .ok (.iload_n 2, 1) := by decide +kernel
theorem dX1_tellFinding_19 : decode cX1_tellFinding 19 = .ok (.iastore, 1) := by decide +kernel
theorem dX1_tellFinding_20 : decode cX1_tellFinding 20 = .ok (.aload_n 0, 1) := by decide +kernel
theorem dX1_tellFinding_21 : decode cX1_tellFinding 21 = .ok (.dup, 1) := by decide +kernel
theorem dX1_tellFinding_22 : decode cX1_tellFinding 22 = .ok (.getfield 510, 3) := by decide +kernel
theorem dX1_tellFinding_25 : decode cX1_tellFinding 25 = .ok (.iconst 1, 1) := by decide +kernel
theorem dX1_tellFinding_26 : decode cX1_tellFinding 26 = .ok (.iadd, 1) := by decide +kernel
theorem dX1_tellFinding_27 : decode cX1_tellFinding 27 = .ok (.putfield 510, 3) := by decide +kernel
theorem dX1_tellFinding_30 : decode cX1_tellFinding 30 = .ok (.return_, 1) := by decide +kernel
def m_tellFinding (σ : MEM) (a0 a1 : Int) : Option zm_O := ck (0 ≤ (σ (-1) 65) ∧ (σ (-1) 65) < 8000) (nu (mup σ 66 (σ (-1) 65) a0) (fun σ2 => ck (0 ≤ (σ2 (-1) 65) ∧ (σ2 (-1) 65) < 8000) (nu (mup σ2 67 (σ2 (-1) 65) a1) (fun σ4 => ck (inR ((σ4 (-1) 65) + 1)) (nu (mup σ4 (-1) 65 ((σ4 (-1) 65) + 1)) (fun σ7 => some (0, σ7)))))))
theorem w_tellFinding {G : zm_G} (hD : zm_D G) (σ : MEM) (a0 a1 : Int) (ha0 : inR a0) (ha1 : inR a1) (o : zm_O) (hd : m_tellFinding σ a0 a1 = some o) : zm_Met G yX1_tellFinding cX1_tellFinding 3 (Option.none : Option FieldType) 0 0 0 σ [.ref (zm_h G), iv a0, iv a1] o := by
  refine zm_intro hD hd (by decide) rfl (Nat.le_of_ble_eq_true rfl) rfl (fun C h hc => ?_)
  have hN : ∀ i, i < 3 → i < zv_n C := fun i q => by rw [hc.2.2.1]; exact q
  unfold m_tellFinding
  refine r_aload_n h 0 dX1_tellFinding_0 rfl rfl ?_
  refine zm_getA h hc 66 (by decide) rfl q1545 rfl dX1_tellFinding_1 ?_
  refine r_aload_n h 0 dX1_tellFinding_4 rfl rfl ?_
  refine zm_getI h hc 65 65 (by decide) rfl rfl q1544 rfl dX1_tellFinding_5 (fun hr1 => ?_)
  refine r_iload_n h 1 dX1_tellFinding_8 rfl rfl ?_
  refine zm_stI h hc 66 66 8000 (by decide) rfl rfl rfl (by decide) ha0 dX1_tellFinding_9 (fun _ σ2 _ => ?_)
  refine r_aload_n h 0 dX1_tellFinding_10 rfl rfl ?_
  refine zm_getA h hc 67 (by decide) rfl q1546 rfl dX1_tellFinding_11 ?_
  refine r_aload_n h 0 dX1_tellFinding_14 rfl rfl ?_
  refine zm_getI h hc 65 65 (by decide) rfl rfl q1544 rfl dX1_tellFinding_15 (fun hr3 => ?_)
  refine r_iload_n h 2 dX1_tellFinding_18 rfl rfl ?_
  refine zm_stI h hc 67 67 8000 (by decide) rfl rfl rfl (by decide) ha1 dX1_tellFinding_19 (fun _ σ4 _ => ?_)
  refine r_aload_n h 0 dX1_tellFinding_20 rfl rfl ?_
  refine r_dup h dX1_tellFinding_21 rfl ?_
  refine zm_getI h hc 65 65 (by decide) rfl rfl q1544 rfl dX1_tellFinding_22 (fun hr5 => ?_)
  refine r_iconst h dX1_tellFinding_25 ?_
  refine r_iadd h dX1_tellFinding_26 ?_
  refine r_ck (fun hk6 => ?_)
  refine zm_putI h hc 65 65 (by decide) rfl rfl q1544 ⟨rfl, rfl, by decide +kernel⟩ hk6 dX1_tellFinding_27 (fun σ7 _ => ?_)
  exact zm_vret h hc rfl dX1_tellFinding_30
theorem dX1_areAlike_0 : decode cX1_areAlike 0 = .ok (.aload_n 0, 1) := by decide +kernel
theorem dX1_areAlike_1 : decode cX1_areAlike 1 = .ok (.aload_n 0, 1) := by decide +kernel
theorem dX1_areAlike_2 : decode cX1_areAlike 2 = .ok (.getfield 85, 3) := by decide +kernel
theorem dX1_areAlike_5 : decode cX1_areAlike 5 = .ok (.bipush 40, 2) := by decide +kernel
theorem dX1_areAlike_7 : decode cX1_areAlike 7 = .ok (.iload_n 1, 1) := by decide +kernel
theorem dX1_areAlike_8 : decode cX1_areAlike 8 = .ok (.imul, 1) := by decide +kernel
theorem dX1_areAlike_9 : decode cX1_areAlike 9 = .ok (.iload_n 2, 1) := by decide +kernel
theorem dX1_areAlike_10 : decode cX1_areAlike 10 = .ok (.iadd, 1) := by decide +kernel
theorem dX1_areAlike_11 : decode cX1_areAlike 11 = .ok (.iaload, 1) := by decide +kernel
theorem dX1_areAlike_12 : decode cX1_areAlike 12 = .ok (.aload_n 0, 1) := by decide +kernel
theorem dX1_areAlike_13 : decode cX1_areAlike 13 = .ok (.getfield 88, 3) := by decide +kernel
theorem dX1_areAlike_16 : decode cX1_areAlike 16 = .ok (.bipush 40, 2) := by decide +kernel
theorem dX1_areAlike_18 : decode cX1_areAlike 18 = .ok (.iload_n 1, 1) := by decide +kernel
theorem dX1_areAlike_19 : decode cX1_areAlike 19 = .ok (.imul, 1) := by decide +kernel
theorem dX1_areAlike_20 : decode cX1_areAlike 20 = .ok (.iload_n 2, 1) := by decide +kernel
theorem dX1_areAlike_21 : decode cX1_areAlike 21 = .ok (.iadd, 1) := by decide +kernel
theorem dX1_areAlike_22 : decode cX1_areAlike 22 = .ok (.iaload, 1) := by decide +kernel
theorem dX1_areAlike_23 : decode cX1_areAlike 23 = .ok (.aload_n 0, 1) := by decide +kernel
theorem dX1_areAlike_24 : decode cX1_areAlike 24 = .ok (.getfield 85, 3) := by decide +kernel
theorem dX1_areAlike_27 : decode cX1_areAlike 27 = .ok (.bipush 40, 2) := by decide +kernel
theorem dX1_areAlike_29 : decode cX1_areAlike 29 = .ok (.iload_n 1, 1) := by decide +kernel
theorem dX1_areAlike_30 : decode cX1_areAlike 30 = .ok (.imul, 1) := by decide +kernel
theorem dX1_areAlike_31 : decode cX1_areAlike 31 = .ok (.iload_n 3, 1) := by decide +kernel
theorem dX1_areAlike_32 : decode cX1_areAlike 32 = .ok (.iadd, 1) := by decide +kernel
theorem dX1_areAlike_33 : decode cX1_areAlike 33 = .ok (.iaload, 1) := by decide +kernel
theorem dX1_areAlike_34 : decode cX1_areAlike 34 = .ok (.aload_n 0, 1) := by decide +kernel
theorem dX1_areAlike_35 : decode cX1_areAlike 35 = .ok (.getfield 88, 3) := by decide +kernel
theorem dX1_areAlike_38 : decode cX1_areAlike 38 = .ok (.bipush 40, 2) := by decide +kernel
theorem dX1_areAlike_40 : decode cX1_areAlike 40 = .ok (.iload_n 1, 1) := by decide +kernel
theorem dX1_areAlike_41 : decode cX1_areAlike 41 = .ok (.imul, 1) := by decide +kernel
theorem dX1_areAlike_42 : decode cX1_areAlike 42 = .ok (.iload_n 3, 1) := by decide +kernel
theorem dX1_areAlike_43 : decode cX1_areAlike 43 = .ok (.iadd, 1) := by decide +kernel
theorem dX1_areAlike_44 : decode cX1_areAlike 44 = .ok (.iaload, 1) := by decide +kernel
theorem dX1_areAlike_45 : decode cX1_areAlike 45 = .ok (.invokevirtual 412, 3) := by decide +kernel
theorem dX1_areAlike_48 : decode cX1_areAlike 48 = .ok (.ireturn, 1) := by decide +kernel
def m_areAlike (σ : MEM) (a0 a1 a2 : Int) : Option zm_O := ck (0 ≤ ((40 * a0) + a1) ∧ ((40 * a0) + a1) < 2400) (ck (0 ≤ ((40 * a0) + a1) ∧ ((40 * a0) + a1) < 2400) (ck (0 ≤ ((40 * a0) + a2) ∧ ((40 * a0) + a2) < 2400) (ck (0 ≤ ((40 * a0) + a2) ∧ ((40 * a0) + a2) < 2400) (bd (m_isSame σ (σ 31 ((40 * a0) + a1)) (σ 32 ((40 * a0) + a1)) (σ 31 ((40 * a0) + a2)) (σ 32 ((40 * a0) + a2))) (fun r5 σ6 => some (r5, σ6))))))
theorem w_areAlike {G : zm_G} (hD : zm_D G) (σ : MEM) (a0 a1 a2 : Int) (ha0 : inR a0) (ha1 : inR a1) (ha2 : inR a2) (o : zm_O) (hd : m_areAlike σ a0 a1 a2 = some o) : zm_Met G yX1_areAlike cX1_areAlike 4 (Option.some FieldType.boolean) 3 1 26 σ [.ref (zm_h G), iv a0, iv a1, iv a2] o := by
  refine zm_intro hD hd (by decide) rfl (Nat.le_of_ble_eq_true rfl) rfl (fun C h hc => ?_)
  have hN : ∀ i, i < 4 → i < zv_n C := fun i q => by rw [hc.2.2.1]; exact q
  unfold m_areAlike
  refine r_aload_n h 0 dX1_areAlike_0 rfl rfl ?_
  refine r_aload_n h 0 dX1_areAlike_1 rfl rfl ?_
  refine zm_getA h hc 31 (by decide) rfl q1511 rfl dX1_areAlike_2 ?_
  refine r_bipush h dX1_areAlike_5 (by decide) ?_
  refine r_iload_n h 1 dX1_areAlike_7 rfl rfl ?_
  refine r_imul h dX1_areAlike_8 ?_
  refine r_iload_n h 2 dX1_areAlike_9 rfl rfl ?_
  refine r_iadd h dX1_areAlike_10 ?_
  refine zm_ldI h hc 31 31 2400 (by decide) rfl rfl rfl (by decide) dX1_areAlike_11 (fun _ hr1 => ?_)
  refine r_aload_n h 0 dX1_areAlike_12 rfl rfl ?_
  refine zm_getA h hc 32 (by decide) rfl q1512 rfl dX1_areAlike_13 ?_
  refine r_bipush h dX1_areAlike_16 (by decide) ?_
  refine r_iload_n h 1 dX1_areAlike_18 rfl rfl ?_
  refine r_imul h dX1_areAlike_19 ?_
  refine r_iload_n h 2 dX1_areAlike_20 rfl rfl ?_
  refine r_iadd h dX1_areAlike_21 ?_
  refine zm_ldI h hc 32 32 2400 (by decide) rfl rfl rfl (by decide) dX1_areAlike_22 (fun _ hr2 => ?_)
  refine r_aload_n h 0 dX1_areAlike_23 rfl rfl ?_
  refine zm_getA h hc 31 (by decide) rfl q1511 rfl dX1_areAlike_24 ?_
  refine r_bipush h dX1_areAlike_27 (by decide) ?_
  refine r_iload_n h 1 dX1_areAlike_29 rfl rfl ?_
  refine r_imul h dX1_areAlike_30 ?_
  refine r_iload_n h 3 dX1_areAlike_31 rfl rfl ?_
  refine r_iadd h dX1_areAlike_32 ?_
  refine zm_ldI h hc 31 31 2400 (by decide) rfl rfl rfl (by decide) dX1_areAlike_33 (fun _ hr3 => ?_)
  refine r_aload_n h 0 dX1_areAlike_34 rfl rfl ?_
  refine zm_getA h hc 32 (by decide) rfl q1512 rfl dX1_areAlike_35 ?_
  refine r_bipush h dX1_areAlike_38 (by decide) ?_
  refine r_iload_n h 1 dX1_areAlike_40 rfl rfl ?_
  refine r_imul h dX1_areAlike_41 ?_
  refine r_iload_n h 3 dX1_areAlike_42 rfl rfl ?_
  refine r_iadd h dX1_areAlike_43 ?_
  refine zm_ldI h hc 32 32 2400 (by decide) rfl rfl rfl (by decide) dX1_areAlike_44 (fun _ hr4 => ?_)
  refine zm_cVz h hc (n := 4) (As := [iv (σ 31 ((40 * a0) + a1)), iv (σ 32 ((40 * a0) + a1)), iv (σ 31 ((40 * a0) + a2)), iv (σ 32 ((40 * a0) + a2))]) (fun o1 e1 => w_isSame hc.1 _ (σ 31 ((40 * a0) + a1)) (σ 32 ((40 * a0) + a1)) (σ 31 ((40 * a0) + a2)) (σ 32 ((40 * a0) + a2)) hr1 hr2 hr3 hr4 o1 e1) q1924 q1926 qs79 q136 q1927 (by decide +kernel) ⟨by decide, by decide⟩ rfl (Nat.le_of_ble_eq_true rfl) rfl dX1_areAlike_45 (fun r5 σ6 hr7 => ?_)
  exact zm_zret h hc rfl hr7 dX1_areAlike_48
theorem dX1_isDoubled_0 : decode cX1_isDoubled 0 = .ok (.iconst 0, 1) := by decide +kernel
theorem dX1_isDoubled_1 : decode cX1_isDoubled 1 = .ok (.istore 4, 2) := by decide +kernel
theorem dX1_isDoubled_3 : decode cX1_isDoubled 3 = .ok (.iconst 0, 1) := by decide +kernel
theorem dX1_isDoubled_4 : decode cX1_isDoubled 4 = .ok (.istore 5, 2) := by decide +kernel
theorem dX1_isDoubled_6 : decode cX1_isDoubled 6 = .ok (.iload 5, 2) := by decide +kernel
theorem dX1_isDoubled_8 : decode cX1_isDoubled 8 = .ok (.aload_n 0, 1) := by decide +kernel
theorem dX1_isDoubled_9 : decode cX1_isDoubled 9 = .ok (.getfield 82, 3) := by decide +kernel
theorem dX1_isDoubled_12 : decode cX1_isDoubled 12 = .ok (.iload_n 1, 1) := by decide +kernel
theorem dX1_isDoubled_13 : decode cX1_isDoubled 13 = .ok (.iaload, 1) := by decide +kernel
theorem dX1_isDoubled_14 : decode cX1_isDoubled 14 = .ok (.if_icmp .ge 71, 3) := by decide +kernel
theorem dX1_isDoubled_17 : decode cX1_isDoubled 17 = .ok (.iconst 0, 1) := by decide +kernel
theorem dX1_isDoubled_18 : decode cX1_isDoubled 18 = .ok (.istore 6, 2) := by decide +kernel
theorem dX1_isDoubled_20 : decode cX1_isDoubled 20 = .ok (.iload 6, 2) := by decide +kernel
theorem dX1_isDoubled_22 : decode cX1_isDoubled 22 = .ok (.iload 5, 2) := by decide +kernel
theorem dX1_isDoubled_24 : decode cX1_isDoubled 24 = .ok (.if_icmp .ge 55, 3) := by decide +kernel
theorem dX1_isDoubled_27 : decode cX1_isDoubled 27 = .ok (.lload_n 2, 1) := by decide +kernel
theorem dX1_isDoubled_28 : decode cX1_isDoubled 28 = .ok (.iload 5, 2) := by decide +kernel
theorem dX1_isDoubled_30 : decode cX1_isDoubled 30 = .ok (.lshr, 1) := by decide +kernel
theorem dX1_isDoubled_31 : decode cX1_isDoubled 31 = .ok (.lconst 1, 1) := by decide +kernel
theorem dX1_isDoubled_32 : decode cX1_isDoubled 32 = .ok (.land, 1) := by decide +kernel
theorem dX1_isDoubled_33 : decode cX1_isDoubled 33 = .ok (.lconst 1, 1) := by decide +kernel
theorem dX1_isDoubled_34 : decode cX1_isDoubled 34 = .ok (.lcmp, 1) := by decide +kernel
theorem dX1_isDoubled_35 : decode cX1_isDoubled 35 = .ok (.ifCond .ne 44, 3) := by decide +kernel
theorem dX1_isDoubled_38 : decode cX1_isDoubled 38 = .ok (.iload 4, 2) := by decide +kernel
theorem dX1_isDoubled_40 : decode cX1_isDoubled 40 = .ok (.ifCond .ne 26, 3) := by decide +kernel
theorem dX1_isDoubled_43 : decode cX1_isDoubled 43 = .ok (.lload_n 2, 1) := by decide +kernel
theorem dX1_isDoubled_44 : decode cX1_isDoubled 44 = .ok (.iload 6, 2) := by decide +kernel
theorem dX1_isDoubled_46 : decode cX1_isDoubled 46 = .ok (.lshr, 1) := by decide +kernel
theorem dX1_isDoubled_47 : decode cX1_isDoubled 47 = .ok (.lconst 1, 1) := by decide +kernel
theorem dX1_isDoubled_48 : decode cX1_isDoubled 48 = .ok (.land, 1) := by decide +kernel
theorem dX1_isDoubled_49 : decode cX1_isDoubled 49 = .ok (.lconst 1, 1) := by decide +kernel
theorem dX1_isDoubled_50 : decode cX1_isDoubled 50 = .ok (.lcmp, 1) := by decide +kernel
theorem dX1_isDoubled_51 : decode cX1_isDoubled 51 = .ok (.ifCond .ne 19, 3) := by decide +kernel
theorem dX1_isDoubled_54 : decode cX1_isDoubled 54 = .ok (.aload_n 0, 1) := by decide +kernel
theorem dX1_isDoubled_55 : decode cX1_isDoubled 55 = .ok (.iload_n 1, 1) := by decide +kernel
theorem dX1_isDoubled_56 : decode cX1_isDoubled 56 = .ok (.iload 5, 2) := by decide +kernel
theorem dX1_isDoubled_58 : decode cX1_isDoubled 58 = .ok (.iload 6, 2) := by decide +kernel
theorem dX1_isDoubled_60 : decode cX1_isDoubled 60 = .ok (.invokevirtual 513, 3) := by decide +kernel
theorem dX1_isDoubled_63 : decode cX1_isDoubled 63 = .ok (.ifCond .eq 7, 3) := by decide +kernel
theorem dX1_isDoubled_66 : decode cX1_isDoubled 66 = .ok (.iconst 1, 1) := by decide +kernel
theorem dX1_isDoubled_67 : decode cX1_isDoubled 67 = .ok (.goto 4, 3) := by decide +kernel
theorem dX1_isDoubled_70 : decode cX1_isDoubled 70 = .ok (.iconst 0, 1) := by decide +kernel
theorem dX1_isDoubled_71 : decode cX1_isDoubled 71 = .ok (.istore 4, 2) := by decide +kernel
theorem dX1_isDoubled_73 : decode cX1_isDoubled 73 = .ok (.iinc 6 1, 3) := by decide +kernel
theorem dX1_isDoubled_76 : decode cX1_isDoubled 76 = .ok (.goto (-56), 3) := by decide +kernel
theorem dX1_isDoubled_79 : decode cX1_isDoubled 79 = .ok (.iinc 5 1, 3) := by decide +kernel
theorem dX1_isDoubled_82 : decode cX1_isDoubled 82 = .ok (.goto (-76), 3) := by decide +kernel
theorem dX1_isDoubled_85 : decode cX1_isDoubled 85 = .ok (.iload 4, 2) := by decide +kernel
theorem dX1_isDoubled_87 : decode cX1_isDoubled 87 = .ok (.ireturn, 1) := by decide +kernel
def m_isDoubled_20 (lp6 : MEM → Int → Int → Int → Int → Option zm_O) : Nat → MEM → Int → Int → Int → Int → Int → Option zm_O
  | 0, _, _, _, _, _, _ => none
  | n + 1, σ, x1, x2, x4, x5, x6 => if x5 ≤ x6 then (ck (inR (x5 + 1)) (lp6 σ x1 x2 x4 (x5 + 1))) else (if (j_cmp (j_and (j_shr x2 x5) 1) 1) = 0 then (if x4 = 0 then (if (j_cmp (j_and (j_shr x2 x6) 1) 1) = 0 then (bd (m_areAlike σ x1 x5 x6) (fun r2 σ3 => if r2 = 0 then (ck (inR (x6 + 1)) (m_isDoubled_20 lp6 n σ3 x1 x2 0 x5 (x6 + 1))) else (ck (inR (x6 + 1)) (m_isDoubled_20 lp6 n σ3 x1 x2 1 x5 (x6 + 1))))) else (ck (inR (x6 + 1)) (m_isDoubled_20 lp6 n σ x1 x2 0 x5 (x6 + 1)))) else (ck (inR (x6 + 1)) (m_isDoubled_20 lp6 n σ x1 x2 1 x5 (x6 + 1)))) else (ck (inR (x5 + 1)) (lp6 σ x1 x2 x4 (x5 + 1))))
theorem w_isDoubled_20 {C : zv_Cx zm_O} {G : zm_G} (h : zv_Ok C cX1_isDoubled RX1) (hc : zm_C C G 7 (Option.some FieldType.boolean) 3 2 49) (lp6 : MEM → Int → Int → Int → Int → Option zm_O) (hlp6 : ∀ (σ : MEM) (x1 x2 x4 x5 : Int), inR x1 → inL x2 → isB x4 → inR x5 → VV C (lp6 σ x1 x2 x4 x5) σ [(0, .ref (zm_h G)), (1, iv x1), (2, jv x2), (4, iv x4), (5, iv x5)] [] 6) : ∀ (n : Nat) (σ : MEM) (x1 x2 x4 x5 x6 : Int), inR x1 → inL x2 → isB x4 → inR x5 → inR x6 → VV C (m_isDoubled_20 lp6 n σ x1 x2 x4 x5 x6) σ [(0, .ref (zm_h G)), (1, iv x1), (2, jv x2), (4, iv x4), (5, iv x5), (6, iv x6)] [] 20 := by
  have hN : ∀ i, i < 7 → i < zv_n C := fun i q => by rw [hc.2.2.1]; exact q
  intro n
  induction n with
  | zero => intros; exact r_none
  | succ n ih =>
    intro σ x1 x2 x4 x5 x6 hx1 hx2 hx4 hx5 hx6
    rw [m_isDoubled_20]
    refine r_iload h 5 dX1_isDoubled_20 rfl ?_
    refine r_iload h 4 dX1_isDoubled_22 rfl ?_
    refine r_icmp_ge h hx6 hx5 79 dX1_isDoubled_24 rfl ?_ ?_
    · refine r_iinc (lv' := [(5, iv (x5 + 1)), (0, .ref (zm_h G)), (1, iv x1), (2, jv x2), (4, iv x4), (6, iv x6)]) h 4 dX1_isDoubled_79 rfl (hN _ (by decide)) rfl ?_
      refine r_goto h 6 dX1_isDoubled_82 rfl ?_
      refine r_ck (fun hk1 => ?_)
      exact r_lv [1, 2, 3, 4, 0] rfl (hlp6 _ x1 x2 x4 (x5 + 1) hx1 hx2 hx4 hk1)
    · refine r_lload_n h 2 dX1_isDoubled_27 rfl rfl ?_
      refine r_iload h 4 dX1_isDoubled_28 rfl ?_
      refine r_lshr h dX1_isDoubled_30 ?_
      refine r_lconst (x := 1) h dX1_isDoubled_31 (by decide) ?_
      refine r_land h dX1_isDoubled_32 ?_
      refine r_lconst (x := 1) h dX1_isDoubled_33 (by decide) ?_
      refine r_lcmp h (inL_t _) (by decide) dX1_isDoubled_34 ?_
      refine r_if_ne h (j_cmp_r _ _) 79 dX1_isDoubled_35 rfl ?_ ?_
      · refine r_iload h 3 dX1_isDoubled_38 rfl ?_
        refine r_if_ne h hx4.r 66 dX1_isDoubled_40 rfl ?_ ?_
        · refine r_lload_n h 2 dX1_isDoubled_43 rfl rfl ?_
          refine r_iload h 5 dX1_isDoubled_44 rfl ?_
          refine r_lshr h dX1_isDoubled_46 ?_
          refine r_lconst (x := 1) h dX1_isDoubled_47 (by decide) ?_
          refine r_land h dX1_isDoubled_48 ?_
          refine r_lconst (x := 1) h dX1_isDoubled_49 (by decide) ?_
          refine r_lcmp h (inL_t _) (by decide) dX1_isDoubled_50 ?_
          refine r_if_ne h (j_cmp_r _ _) 70 dX1_isDoubled_51 rfl ?_ ?_
          · refine r_aload_n h 0 dX1_isDoubled_54 rfl rfl ?_
            refine r_iload_n h 1 dX1_isDoubled_55 rfl rfl ?_
            refine r_iload h 4 dX1_isDoubled_56 rfl ?_
            refine r_iload h 5 dX1_isDoubled_58 rfl ?_
            refine zm_cVz h hc (n := 3) (As := [iv x1, iv x5, iv x6]) (fun o1 e1 => w_areAlike hc.1 _ x1 x5 x6 hx1 hx5 hx6 o1 e1) q2014 q2016 qs98 q136 q2017 (by decide +kernel) ⟨by decide, by decide⟩ rfl (Nat.le_of_ble_eq_true rfl) rfl dX1_isDoubled_60 (fun r2 σ3 hr4 => ?_)
            refine r_if_eq h hr4.r 70 dX1_isDoubled_63 rfl ?_ ?_
            · refine r_iconst h dX1_isDoubled_70 ?_
              refine r_istore (lv' := [(4, iv 0), (0, .ref (zm_h G)), (1, iv x1), (2, jv x2), (5, iv x5), (6, iv x6)]) h dX1_isDoubled_71 (hN _ (by decide)) rfl ?_
              refine r_iinc (lv' := [(6, iv (x6 + 1)), (4, iv 0), (0, .ref (zm_h G)), (1, iv x1), (2, jv x2), (5, iv x5)]) h 5 dX1_isDoubled_73 rfl (hN _ (by decide)) rfl ?_
              refine r_goto h 20 dX1_isDoubled_76 rfl ?_
              refine r_ck (fun hk5 => ?_)
              exact r_lv [2, 3, 4, 1, 5, 0] rfl (ih _ x1 x2 0 x5 (x6 + 1) hx1 hx2 (by decide) hx5 hk5)
            · refine r_iconst h dX1_isDoubled_66 ?_
              refine r_goto h 71 dX1_isDoubled_67 rfl ?_
              refine r_istore (lv' := [(4, iv 1), (0, .ref (zm_h G)), (1, iv x1), (2, jv x2), (5, iv x5), (6, iv x6)]) h dX1_isDoubled_71 (hN _ (by decide)) rfl ?_
              refine r_iinc (lv' := [(6, iv (x6 + 1)), (4, iv 1), (0, .ref (zm_h G)), (1, iv x1), (2, jv x2), (5, iv x5)]) h 5 dX1_isDoubled_73 rfl (hN _ (by decide)) rfl ?_
              refine r_goto h 20 dX1_isDoubled_76 rfl ?_
              refine r_ck (fun hk6 => ?_)
              exact r_lv [2, 3, 4, 1, 5, 0] rfl (ih _ x1 x2 1 x5 (x6 + 1) hx1 hx2 (by decide) hx5 hk6)
          · refine r_iconst h dX1_isDoubled_70 ?_
            refine r_istore (lv' := [(4, iv 0), (0, .ref (zm_h G)), (1, iv x1), (2, jv x2), (5, iv x5), (6, iv x6)]) h dX1_isDoubled_71 (hN _ (by decide)) rfl ?_
            refine r_iinc (lv' := [(6, iv (x6 + 1)), (4, iv 0), (0, .ref (zm_h G)), (1, iv x1), (2, jv x2), (5, iv x5)]) h 5 dX1_isDoubled_73 rfl (hN _ (by decide)) rfl ?_
            refine r_goto h 20 dX1_isDoubled_76 rfl ?_
            refine r_ck (fun hk7 => ?_)
            exact r_lv [2, 3, 4, 1, 5, 0] rfl (ih _ x1 x2 0 x5 (x6 + 1) hx1 hx2 (by decide) hx5 hk7)
        · refine r_iconst h dX1_isDoubled_66 ?_
          refine r_goto h 71 dX1_isDoubled_67 rfl ?_
          refine r_istore (lv' := [(4, iv 1), (0, .ref (zm_h G)), (1, iv x1), (2, jv x2), (5, iv x5), (6, iv x6)]) h dX1_isDoubled_71 (hN _ (by decide)) rfl ?_
          refine r_iinc (lv' := [(6, iv (x6 + 1)), (4, iv 1), (0, .ref (zm_h G)), (1, iv x1), (2, jv x2), (5, iv x5)]) h 5 dX1_isDoubled_73 rfl (hN _ (by decide)) rfl ?_
          refine r_goto h 20 dX1_isDoubled_76 rfl ?_
          refine r_ck (fun hk8 => ?_)
          exact r_lv [2, 3, 4, 1, 5, 0] rfl (ih _ x1 x2 1 x5 (x6 + 1) hx1 hx2 (by decide) hx5 hk8)
      · refine r_iinc (lv' := [(5, iv (x5 + 1)), (0, .ref (zm_h G)), (1, iv x1), (2, jv x2), (4, iv x4), (6, iv x6)]) h 4 dX1_isDoubled_79 rfl (hN _ (by decide)) rfl ?_
        refine r_goto h 6 dX1_isDoubled_82 rfl ?_
        refine r_ck (fun hk9 => ?_)
        exact r_lv [1, 2, 3, 4, 0] rfl (hlp6 _ x1 x2 x4 (x5 + 1) hx1 hx2 hx4 hk9)
def m_isDoubled_6 : Nat → MEM → Int → Int → Int → Int → Option zm_O
  | 0, _, _, _, _, _ => none
  | n + 1, σ, x1, x2, x4, x5 => ck (0 ≤ x1 ∧ x1 < 60) (if (σ 30 x1) ≤ x5 then (some (x4, σ)) else (m_isDoubled_20 (m_isDoubled_6 n) zF σ x1 x2 x4 x5 0))
theorem w_isDoubled_6 {C : zv_Cx zm_O} {G : zm_G} (h : zv_Ok C cX1_isDoubled RX1) (hc : zm_C C G 7 (Option.some FieldType.boolean) 3 2 49) : ∀ (n : Nat) (σ : MEM) (x1 x2 x4 x5 : Int), inR x1 → inL x2 → isB x4 → inR x5 → VV C (m_isDoubled_6 n σ x1 x2 x4 x5) σ [(0, .ref (zm_h G)), (1, iv x1), (2, jv x2), (4, iv x4), (5, iv x5)] [] 6 := by
  have hN : ∀ i, i < 7 → i < zv_n C := fun i q => by rw [hc.2.2.1]; exact q
  intro n
  induction n with
  | zero => intros; exact r_none
  | succ n ih =>
    intro σ x1 x2 x4 x5 hx1 hx2 hx4 hx5
    rw [m_isDoubled_6]
    refine r_iload h 4 dX1_isDoubled_6 rfl ?_
    refine r_aload_n h 0 dX1_isDoubled_8 rfl rfl ?_
    refine zm_getA h hc 30 (by decide) rfl q1510 rfl dX1_isDoubled_9 ?_
    refine r_iload_n h 1 dX1_isDoubled_12 rfl rfl ?_
    refine zm_ldI h hc 30 30 60 (by decide) rfl rfl rfl (by decide) dX1_isDoubled_13 (fun _ hr1 => ?_)
    refine r_icmp_ge h hx5 hr1 85 dX1_isDoubled_14 rfl ?_ ?_
    · refine r_iload h 3 dX1_isDoubled_85 rfl ?_
      exact zm_zret h hc rfl hx4 dX1_isDoubled_87
    · refine r_iconst h dX1_isDoubled_17 ?_
      refine r_istore (lv' := [(6, iv 0), (0, .ref (zm_h G)), (1, iv x1), (2, jv x2), (4, iv x4), (5, iv x5)]) h dX1_isDoubled_18 (hN _ (by decide)) rfl ?_
      exact r_lv [1, 2, 3, 4, 5, 0] rfl (w_isDoubled_20 h hc (m_isDoubled_6 n) ih zF _ x1 x2 x4 x5 0 hx1 hx2 hx4 hx5 (by decide))
def m_isDoubled (σ : MEM) (a0 a1 : Int) : Option zm_O := m_isDoubled_6 zF σ a0 a1 0 0
theorem w_isDoubled {G : zm_G} (hD : zm_D G) (σ : MEM) (a0 a1 : Int) (ha0 : inR a0) (ha1 : inL a1) (o : zm_O) (hd : m_isDoubled σ a0 a1 = some o) : zm_Met G yX1_isDoubled cX1_isDoubled 7 (Option.some FieldType.boolean) 3 2 49 σ [.ref (zm_h G), iv a0, jv a1] o := by
  refine zm_intro hD hd (by decide) rfl (Nat.le_of_ble_eq_true rfl) rfl (fun C h hc => ?_)
  have hN : ∀ i, i < 7 → i < zv_n C := fun i q => by rw [hc.2.2.1]; exact q
  unfold m_isDoubled
  refine r_iconst h dX1_isDoubled_0 ?_
  refine r_istore (lv' := [(4, iv 0), (0, .ref (zm_h G)), (1, iv a0), (2, jv a1)]) h dX1_isDoubled_1 (hN _ (by decide)) rfl ?_
  refine r_iconst h dX1_isDoubled_3 ?_
  refine r_istore (lv' := [(5, iv 0), (4, iv 0), (0, .ref (zm_h G)), (1, iv a0), (2, jv a1)]) h dX1_isDoubled_4 (hN _ (by decide)) rfl ?_
  exact r_lv [2, 3, 4, 1, 0] rfl (w_isDoubled_6 h hc zF _ a0 a1 0 0 ha0 ha1 (by decide) (by decide))
theorem dX1_judgeDecl_0 : decode cX1_judgeDecl 0 = .ok (.bipush 30, 2) := by decide +kernel
theorem dX1_judgeDecl_2 : decode cX1_judgeDecl 2 = .ok (.aload_n 0, 1) := by decide +kernel
theorem dX1_judgeDecl_3 : decode cX1_judgeDecl 3 = .ok (.getfield 482, 3) := by decide +kernel
theorem dX1_judgeDecl_6 : decode cX1_judgeDecl 6 = .ok (.imul, 1) := by decide +kernel
theorem dX1_judgeDecl_7 : decode cX1_judgeDecl 7 = .ok (.iload_n 1, 1) := by decide +kernel
theorem dX1_judgeDecl_8 : decode cX1_judgeDecl 8 = .ok (.iadd, 1) := by decide +kernel
theorem dX1_judgeDecl_9 : decode cX1_judgeDecl 9 = .ok (.istore_n 2, 1) := by decide +kernel
theorem dX1_judgeDecl_10 : decode cX1_judgeDecl 10 = .ok (.aload_n 0, 1) := by decide +kernel
theorem dX1_judgeDecl_11 : decode cX1_judgeDecl 11 = .ok (.aload_n 0, 1) := by decide +kernel
theorem dX1_judgeDecl_12 : decode cX1_judgeDecl 12 = .ok (.getfield 73, 3) := by decide +kernel
theorem dX1_judgeDecl_15 : decode cX1_judgeDecl 15 = .ok (.iload_n 2, 1) := by decide +kernel
theorem dX1_judgeDecl_16 : decode cX1_judgeDecl 16 = .ok (.iaload, 1) := by decide +kernel
theorem dX1_judgeDecl_17 : decode cX1_judgeDecl 17 = .ok (.aload_n 0, 1) := by decide +kernel
theorem dX1_judgeDecl_18 : decode cX1_judgeDecl 18 = .ok (.getfield 76, 3) := by decide +kernel
theorem dX1_judgeDecl_21 : decode cX1_judgeDecl 21 = .ok (.iload_n 2, 1) := by decide +kernel
theorem dX1_judgeDecl_22 : decode cX1_judgeDecl 22 = .ok (.iaload, 1) := by decide +kernel
theorem dX1_judgeDecl_23 : decode cX1_judgeDecl 23 = .ok (.invokevirtual 516, 3) := by decide +kernel
theorem dX1_judgeDecl_26 : decode cX1_judgeDecl 26 = .ok (.iload_n 2, 1) := by decide +kernel
theorem dX1_judgeDecl_27 : decode cX1_judgeDecl 27 = .ok (.if_icmp .ge 9, 3) := by decide +kernel
theorem dX1_judgeDecl_30 : decode cX1_judgeDecl 30 = .ok (.aload_n 0, 1) := by decide +kernel
theorem dX1_judgeDecl_31 : decode cX1_judgeDecl 31 = .ok (.iconst 1, 1) := by decide +kernel
theorem dX1_judgeDecl_32 : decode cX1_judgeDecl 32 = .ok (.iload_n 1, 1) := by decide +kernel
theorem dX1_judgeDecl_33 : decode cX1_judgeDecl 33 = .ok (.invokevirtual 519, 3) := by decide +kernel
theorem dX1_judgeDecl_36 : decode cX1_judgeDecl 36 = .ok (.aload_n 0, 1) := by decide +kernel
theorem dX1_judgeDecl_37 : decode cX1_judgeDecl 37 = .ok (.getfield 79, 3) := by decide +kernel
theorem dX1_judgeDecl_40 : decode cX1_judgeDecl 40 = .ok (.iload_n 2, 1) := by decide +kernel
theorem dX1_judgeDecl_41 : decode cX1_judgeDecl 41 = .ok (.iaload, 1) := by decide +kernel
theorem dX1_judgeDecl_42 : decode cX1_judgeDecl 42 = .ok (.iconst 3, 1) := by decide +kernel
theorem dX1_judgeDecl_43 : decode cX1_judgeDecl 43 = .ok (.if_icmp .ne 21, 3) := by decide +kernel
theorem dX1_judgeDecl_46 : decode cX1_judgeDecl 46 = .ok (.aload_n 0, 1) := by decide +kernel
theorem dX1_judgeDecl_47 : decode cX1_judgeDecl 47 = .ok (.iload_n 2, 1) := by decide +kernel
theorem dX1_judgeDecl_48 : decode cX1_judgeDecl 48 = .ok (.aload_n 0, 1) := by decide +kernel
theorem dX1_judgeDecl_49 : decode cX1_judgeDecl 49 = .ok (.getfield 91, 3) := by decide +kernel
theorem dX1_judgeDecl_52 : decode cX1_judgeDecl 52 = .ok (.iload_n 2, 1) := by decide +kernel
theorem dX1_judgeDecl_53 : decode cX1_judgeDecl 53 = .ok (.laload, 1) := by decide +kernel
theorem dX1_judgeDecl_54 : decode cX1_judgeDecl 54 = .ok (.invokevirtual 522, 3) := by decide +kernel
theorem dX1_judgeDecl_57 : decode cX1_judgeDecl 57 = .ok (.ifCond .eq 7, 3) := by decide +kernel
theorem dX1_judgeDecl_60 : decode cX1_judgeDecl 60 = .ok (.iconst 1, 1) := by decide +kernel
theorem dX1_judgeDecl_61 : decode cX1_judgeDecl 61 = .ok (.goto 4, 3) := by decide +kernel
theorem dX1_judgeDecl_64 : decode cX1_judgeDecl 64 = .ok (.iconst 0, 1) := by decide +kernel
theorem dX1_judgeDecl_65 : decode cX1_judgeDecl 65 = .ok (.istore_n 3, 1) := by decide +kernel
theorem dX1_judgeDecl_66 : decode cX1_judgeDecl 66 = .ok (.iconst 0, 1) := by decide +kernel
theorem dX1_judgeDecl_67 : decode cX1_judgeDecl 67 = .ok (.istore 4, 2) := by decide +kernel
theorem dX1_judgeDecl_69 : decode cX1_judgeDecl 69 = .ok (.iload 4, 2) := by decide +kernel
theorem dX1_judgeDecl_71 : decode cX1_judgeDecl 71 = .ok (.aload_n 0, 1) := by decide +kernel
theorem dX1_judgeDecl_72 : decode cX1_judgeDecl 72 = .ok (.getfield 82, 3) := by decide +kernel
theorem dX1_judgeDecl_75 : decode cX1_judgeDecl 75 = .ok (.iload_n 2, 1) := by decide +kernel
theorem dX1_judgeDecl_76 : decode cX1_judgeDecl 76 = .ok (.iaload, 1) := by decide +kernel
theorem dX1_judgeDecl_77 : decode cX1_judgeDecl 77 = .ok (.if_icmp .ge 49, 3) := by decide +kernel
theorem dX1_judgeDecl_80 : decode cX1_judgeDecl 80 = .ok (.aload_n 0, 1) := by decide +kernel
theorem dX1_judgeDecl_81 : decode cX1_judgeDecl 81 = .ok (.getfield 79, 3) := by decide +kernel
theorem dX1_judgeDecl_84 : decode cX1_judgeDecl 84 = .ok (.iload_n 2, 1) := by decide +kernel
theorem dX1_judgeDecl_85 : decode cX1_judgeDecl 85 = .ok (.iaload, 1) := by decide +kernel
theorem dX1_judgeDecl_86 : decode cX1_judgeDecl 86 = .ok (.iconst 3, 1) := by decide +kernel
theorem dX1_judgeDecl_87 : decode cX1_judgeDecl 87 = .ok (.if_icmp .ne 39, 3) := by decide +kernel
theorem dX1_judgeDecl_90 : decode cX1_judgeDecl 90 = .ok (.iload_n 3, 1) := by decide +kernel
theorem dX1_judgeDecl_91 : decode cX1_judgeDecl 91 = .ok (.ifCond .ne 23, 3) := by decide +kernel
theorem dX1_judgeDecl_94 : decode cX1_judgeDecl 94 = .ok (.aload_n 0, 1) := by decide +kernel
theorem dX1_judgeDecl_95 : decode cX1_judgeDecl 95 = .ok (.iload_n 2, 1) := by decide +kernel
theorem dX1_judgeDecl_96 : decode cX1_judgeDecl 96 = .ok (.aload_n 0, 1) := by decide +kernel
theorem dX1_judgeDecl_97 : decode cX1_judgeDecl 97 = .ok (.getfield 101, 3) := by decide +kernel
theorem dX1_judgeDecl_100 : decode cX1_judgeDecl 100 = .ok (.bipush 40, 2) := by decide +kernel
theorem dX1_judgeDecl_102 : decode cX1_judgeDecl 102 = .ok (.iload_n 2, 1) := by decide +kernel
theorem dX1_judgeDecl_103 : decode cX1_judgeDecl 103 = .ok (.imul, 1) := by decide +kernel
theorem dX1_judgeDecl_104 : decode cX1_judgeDecl 104 = .ok (.iload 4, 2) := by decide +kernel
theorem dX1_judgeDecl_106 : decode cX1_judgeDecl 106 = .ok (.iadd, 1) := by decide +kernel
theorem dX1_judgeDecl_107 : decode cX1_judgeDecl 107 = .ok (.laload, 1) := by decide +kernel
theorem dX1_judgeDecl_108 : decode cX1_judgeDecl 108 = .ok (.invokevirtual 522, 3) := by decide +kernel
theorem dX1_judgeDecl_111 : decode cX1_judgeDecl 111 = .ok (.ifCond .eq 7, 3) := by decide +kernel
theorem dX1_judgeDecl_114 : decode cX1_judgeDecl 114 = .ok (.iconst 1, 1) := by decide +kernel
theorem dX1_judgeDecl_115 : decode cX1_judgeDecl 115 = .ok (.goto 4, 3) := by decide +kernel
theorem dX1_judgeDecl_118 : decode cX1_judgeDecl 118 = .ok (.iconst 0, 1) := by decide +kernel
theorem dX1_judgeDecl_119 : decode cX1_judgeDecl 119 = .ok (.istore_n 3, 1) := by decide +kernel
theorem dX1_judgeDecl_120 : decode cX1_judgeDecl 120 = .ok (.iinc 4 1, 3) := by decide +kernel
theorem dX1_judgeDecl_123 : decode cX1_judgeDecl 123 = .ok (.goto (-54), 3) := by decide +kernel
theorem dX1_judgeDecl_126 : decode cX1_judgeDecl 126 = .ok (.iload_n 3, 1) := by decide +kernel
theorem dX1_judgeDecl_127 : decode cX1_judgeDecl 127 = .ok (.ifCond .eq 9, 3) := by decide +kernel
theorem dX1_judgeDecl_130 : decode cX1_judgeDecl 130 = .ok (.aload_n 0, 1) := by decide +kernel
theorem dX1_judgeDecl_131 : decode cX1_judgeDecl 131 = .ok (.iconst 2, 1) := by decide +kernel
theorem dX1_judgeDecl_132 : decode cX1_judgeDecl 132 = .ok (.iload_n 1, 1) := by decide +kernel
theorem dX1_judgeDecl_133 : decode cX1_judgeDecl 133 = .ok (.invokevirtual 519, 3) := by decide +kernel
theorem dX1_judgeDecl_136 : decode cX1_judgeDecl 136 = .ok (.aload_n 0, 1) := by decide +kernel
theorem dX1_judgeDecl_137 : decode cX1_judgeDecl 137 = .ok (.getfield 79, 3) := by decide +kernel
theorem dX1_judgeDecl_140 : decode cX1_judgeDecl 140 = .ok (.iload_n 2, 1) := by decide +kernel
theorem dX1_judgeDecl_141 : decode cX1_judgeDecl 141 = .ok (.iaload, 1) := by decide +kernel
theorem dX1_judgeDecl_142 : decode cX1_judgeDecl 142 = .ok (.iconst 2, 1) := by decide +kernel
theorem dX1_judgeDecl_143 : decode cX1_judgeDecl 143 = .ok (.if_icmp .ne 20, 3) := by decide +kernel
theorem dX1_judgeDecl_146 : decode cX1_judgeDecl 146 = .ok (.aload_n 0, 1) := by decide +kernel
theorem dX1_judgeDecl_147 : decode cX1_judgeDecl 147 = .ok (.iload_n 2, 1) := by decide +kernel
theorem dX1_judgeDecl_148 : decode cX1_judgeDecl 148 = .ok (.ldc2_w 526, 3) := by decide +kernel
theorem dX1_judgeDecl_151 : decode cX1_judgeDecl 151 = .ok (.invokevirtual 522, 3) := by decide +kernel
theorem dX1_judgeDecl_154 : decode cX1_judgeDecl 154 = .ok (.ifCond .eq 9, 3) := by decide +kernel
theorem dX1_judgeDecl_157 : decode cX1_judgeDecl 157 = .ok (.aload_n 0, 1) := by decide +kernel
theorem dX1_judgeDecl_158 : decode cX1_judgeDecl 158 = .ok (.iconst 3, 1) := by decide +kernel
theorem dX1_judgeDecl_159 : decode cX1_judgeDecl 159 = .ok (.iload_n 1, 1) := by decide +kernel
theorem dX1_judgeDecl_160 : decode cX1_judgeDecl 160 = .ok (.invokevirtual 519, 3) := by decide +kernel
theorem dX1_judgeDecl_163 : decode cX1_judgeDecl 163 = .ok (.return_, 1) := by decide +kernel
def m_judgeDecl_136 (σ : MEM) (x1 x2 : Int) : Option zm_O := ck (0 ≤ x2 ∧ x2 < 60) (if (σ 29 x2) = 2 then (bd (m_isDoubled σ x2 (-1)) (fun r2 σ3 => if r2 = 0 then (some (0, σ3)) else (bd (m_tellFinding σ3 3 x1) (fun _ σ5 => some (0, σ5))))) else (some (0, σ)))
theorem w_judgeDecl_136 {C : zv_Cx zm_O} {G : zm_G} (h : zv_Ok C cX1_judgeDecl RX1) (hc : zm_C C G 5 (Option.none : Option FieldType) 0 3 75) (σ : MEM) (x1 x2 : Int) (hx1 : inR x1) (hx2 : inR x2) : VV C (m_judgeDecl_136 σ x1 x2) σ [(0, .ref (zm_h G)), (1, iv x1), (2, iv x2)] [] 136 := by
  have hN : ∀ i, i < 5 → i < zv_n C := fun i q => by rw [hc.2.2.1]; exact q
  unfold m_judgeDecl_136
  refine r_aload_n h 0 dX1_judgeDecl_136 rfl rfl ?_
  refine zm_getA h hc 29 (by decide) rfl q1509 rfl dX1_judgeDecl_137 ?_
  refine r_iload_n h 2 dX1_judgeDecl_140 rfl rfl ?_
  refine zm_ldI h hc 29 29 60 (by decide) rfl rfl rfl (by decide) dX1_judgeDecl_141 (fun _ hr1 => ?_)
  refine r_iconst h dX1_judgeDecl_142 ?_
  refine r_icmp_ne h hr1 (by decide) 163 dX1_judgeDecl_143 rfl ?_ ?_
  · refine r_aload_n h 0 dX1_judgeDecl_146 rfl rfl ?_
    refine r_iload_n h 2 dX1_judgeDecl_147 rfl rfl ?_
    refine r_ldc2 (x := (-1)) h q2018 (by decide) dX1_judgeDecl_148 ?_
    refine zm_cVz h hc (n := 2) (As := [iv x2, jv (-1)]) (fun o1 e1 => w_isDoubled hc.1 _ x2 (-1) hx2 (by decide) o1 e1) q2010 q2012 qs97 q136 q2013 (by decide +kernel) ⟨by decide, by decide⟩ rfl (Nat.le_of_ble_eq_true rfl) rfl dX1_judgeDecl_151 (fun r2 σ3 hr4 => ?_)
    refine r_if_eq h hr4.r 163 dX1_judgeDecl_154 rfl ?_ ?_
    · exact zm_vret h hc rfl dX1_judgeDecl_163
    · refine r_aload_n h 0 dX1_judgeDecl_157 rfl rfl ?_
      refine r_iconst h dX1_judgeDecl_158 ?_
      refine r_iload_n h 1 dX1_judgeDecl_159 rfl rfl ?_
      refine zm_cVv h hc (n := 2) (As := [iv 3, iv x1]) (fun o1 e1 => w_tellFinding hc.1 _ 3 x1 (by decide) hx1 o1 e1) q2006 q2008 qs96 q136 q2009 (by decide +kernel) ⟨by decide, by decide⟩ rfl (Nat.le_of_ble_eq_true rfl) rfl dX1_judgeDecl_160 (fun σ5  => ?_)
      exact zm_vret h hc rfl dX1_judgeDecl_163
  · exact zm_vret h hc rfl dX1_judgeDecl_163
def m_judgeDecl_126 (σ : MEM) (x1 x2 x3 : Int) : Option zm_O := if x3 = 0 then (m_judgeDecl_136 σ x1 x2) else (bd (m_tellFinding σ 2 x1) (fun _ σ1 => m_judgeDecl_136 σ1 x1 x2))
theorem w_judgeDecl_126 {C : zv_Cx zm_O} {G : zm_G} (h : zv_Ok C cX1_judgeDecl RX1) (hc : zm_C C G 5 (Option.none : Option FieldType) 0 3 75) (σ : MEM) (x1 x2 x3 : Int) (hx1 : inR x1) (hx2 : inR x2) (hx3 : isB x3) : VV C (m_judgeDecl_126 σ x1 x2 x3) σ [(0, .ref (zm_h G)), (1, iv x1), (2, iv x2), (3, iv x3)] [] 126 := by
  have hN : ∀ i, i < 5 → i < zv_n C := fun i q => by rw [hc.2.2.1]; exact q
  unfold m_judgeDecl_126
  refine r_iload_n h 3 dX1_judgeDecl_126 rfl rfl ?_
  refine r_if_eq h hx3.r 136 dX1_judgeDecl_127 rfl ?_ ?_
  · exact r_lv [0, 1, 2] rfl (w_judgeDecl_136 h hc _ x1 x2 hx1 hx2)
  · refine r_aload_n h 0 dX1_judgeDecl_130 rfl rfl ?_
    refine r_iconst h dX1_judgeDecl_131 ?_
    refine r_iload_n h 1 dX1_judgeDecl_132 rfl rfl ?_
    refine zm_cVv h hc (n := 2) (As := [iv 2, iv x1]) (fun o1 e1 => w_tellFinding hc.1 _ 2 x1 (by decide) hx1 o1 e1) q2006 q2008 qs96 q136 q2009 (by decide +kernel) ⟨by decide, by decide⟩ rfl (Nat.le_of_ble_eq_true rfl) rfl dX1_judgeDecl_133 (fun σ1  => ?_)
    exact r_lv [0, 1, 2] rfl (w_judgeDecl_136 h hc _ x1 x2 hx1 hx2)
def m_judgeDecl_69 : Nat → MEM → Int → Int → Int → Int → Option zm_O
  | 0, _, _, _, _, _ => none
  | n + 1, σ, x1, x2, x3, x4 => ck (0 ≤ x2 ∧ x2 < 60) (if (σ 30 x2) ≤ x4 then (m_judgeDecl_126 σ x1 x2 x3) else (ck (0 ≤ x2 ∧ x2 < 60) (if (σ 29 x2) = 3 then (if x3 = 0 then (ck (0 ≤ ((40 * x2) + x4) ∧ ((40 * x2) + x4) < 2400) (bd (m_isDoubled σ x2 (σ 36 ((40 * x2) + x4))) (fun r4 σ5 => if r4 = 0 then (ck (inR (x4 + 1)) (m_judgeDecl_69 n σ5 x1 x2 0 (x4 + 1))) else (ck (inR (x4 + 1)) (m_judgeDecl_69 n σ5 x1 x2 1 (x4 + 1)))))) else (ck (inR (x4 + 1)) (m_judgeDecl_69 n σ x1 x2 1 (x4 + 1)))) else (m_judgeDecl_126 σ x1 x2 x3))))
theorem w_judgeDecl_69 {C : zv_Cx zm_O} {G : zm_G} (h : zv_Ok C cX1_judgeDecl RX1) (hc : zm_C C G 5 (Option.none : Option FieldType) 0 3 75) : ∀ (n : Nat) (σ : MEM) (x1 x2 x3 x4 : Int), inR x1 → inR x2 → isB x3 → inR x4 → VV C (m_judgeDecl_69 n σ x1 x2 x3 x4) σ [(0, .ref (zm_h G)), (1, iv x1), (2, iv x2), (3, iv x3), (4, iv x4)] [] 69 := by
  have hN : ∀ i, i < 5 → i < zv_n C := fun i q => by rw [hc.2.2.1]; exact q
  intro n
  induction n with
  | zero => intros; exact r_none
  | succ n ih =>
    intro σ x1 x2 x3 x4 hx1 hx2 hx3 hx4
    rw [m_judgeDecl_69]
    refine r_iload h 4 dX1_judgeDecl_69 rfl ?_
    refine r_aload_n h 0 dX1_judgeDecl_71 rfl rfl ?_
    refine zm_getA h hc 30 (by decide) rfl q1510 rfl dX1_judgeDecl_72 ?_
    refine r_iload_n h 2 dX1_judgeDecl_75 rfl rfl ?_
    refine zm_ldI h hc 30 30 60 (by decide) rfl rfl rfl (by decide) dX1_judgeDecl_76 (fun _ hr1 => ?_)
    refine r_icmp_ge h hx4 hr1 126 dX1_judgeDecl_77 rfl ?_ ?_
    · exact r_lv [0, 1, 2, 3] rfl (w_judgeDecl_126 h hc _ x1 x2 x3 hx1 hx2 hx3)
    · refine r_aload_n h 0 dX1_judgeDecl_80 rfl rfl ?_
      refine zm_getA h hc 29 (by decide) rfl q1509 rfl dX1_judgeDecl_81 ?_
      refine r_iload_n h 2 dX1_judgeDecl_84 rfl rfl ?_
      refine zm_ldI h hc 29 29 60 (by decide) rfl rfl rfl (by decide) dX1_judgeDecl_85 (fun _ hr2 => ?_)
      refine r_iconst h dX1_judgeDecl_86 ?_
      refine r_icmp_ne h hr2 (by decide) 126 dX1_judgeDecl_87 rfl ?_ ?_
      · refine r_iload_n h 3 dX1_judgeDecl_90 rfl rfl ?_
        refine r_if_ne h hx3.r 114 dX1_judgeDecl_91 rfl ?_ ?_
        · refine r_aload_n h 0 dX1_judgeDecl_94 rfl rfl ?_
          refine r_iload_n h 2 dX1_judgeDecl_95 rfl rfl ?_
          refine r_aload_n h 0 dX1_judgeDecl_96 rfl rfl ?_
          refine zm_getA h hc 36 (by decide) rfl q1516 rfl dX1_judgeDecl_97 ?_
          refine r_bipush h dX1_judgeDecl_100 (by decide) ?_
          refine r_iload_n h 2 dX1_judgeDecl_102 rfl rfl ?_
          refine r_imul h dX1_judgeDecl_103 ?_
          refine r_iload h 4 dX1_judgeDecl_104 rfl ?_
          refine r_iadd h dX1_judgeDecl_106 ?_
          refine zm_ldJ h hc 36 36 2400 (by decide) rfl rfl rfl (by decide) dX1_judgeDecl_107 (fun _ hr3 => ?_)
          refine zm_cVz h hc (n := 2) (As := [iv x2, jv (σ 36 ((40 * x2) + x4))]) (fun o1 e1 => w_isDoubled hc.1 _ x2 (σ 36 ((40 * x2) + x4)) hx2 hr3 o1 e1) q2010 q2012 qs97 q136 q2013 (by decide +kernel) ⟨by decide, by decide⟩ rfl (Nat.le_of_ble_eq_true rfl) rfl dX1_judgeDecl_108 (fun r4 σ5 hr6 => ?_)
          refine r_if_eq h hr6.r 118 dX1_judgeDecl_111 rfl ?_ ?_
          · refine r_iconst h dX1_judgeDecl_118 ?_
            refine r_istore_n (lv' := [(3, iv 0), (0, .ref (zm_h G)), (1, iv x1), (2, iv x2), (4, iv x4)]) h dX1_judgeDecl_119 rfl (hN _ (by decide)) rfl ?_
            refine r_iinc (lv' := [(4, iv (x4 + 1)), (3, iv 0), (0, .ref (zm_h G)), (1, iv x1), (2, iv x2)]) h 4 dX1_judgeDecl_120 rfl (hN _ (by decide)) rfl ?_
            refine r_goto h 69 dX1_judgeDecl_123 rfl ?_
            refine r_ck (fun hk7 => ?_)
            exact r_lv [2, 3, 4, 1, 0] rfl (ih _ x1 x2 0 (x4 + 1) hx1 hx2 (by decide) hk7)
          · refine r_iconst h dX1_judgeDecl_114 ?_
            refine r_goto h 119 dX1_judgeDecl_115 rfl ?_
            refine r_istore_n (lv' := [(3, iv 1), (0, .ref (zm_h G)), (1, iv x1), (2, iv x2), (4, iv x4)]) h dX1_judgeDecl_119 rfl (hN _ (by decide)) rfl ?_
            refine r_iinc (lv' := [(4, iv (x4 + 1)), (3, iv 1), (0, .ref (zm_h G)), (1, iv x1), (2, iv x2)]) h 4 dX1_judgeDecl_120 rfl (hN _ (by decide)) rfl ?_
            refine r_goto h 69 dX1_judgeDecl_123 rfl ?_
            refine r_ck (fun hk8 => ?_)
            exact r_lv [2, 3, 4, 1, 0] rfl (ih _ x1 x2 1 (x4 + 1) hx1 hx2 (by decide) hk8)
        · refine r_iconst h dX1_judgeDecl_114 ?_
          refine r_goto h 119 dX1_judgeDecl_115 rfl ?_
          refine r_istore_n (lv' := [(3, iv 1), (0, .ref (zm_h G)), (1, iv x1), (2, iv x2), (4, iv x4)]) h dX1_judgeDecl_119 rfl (hN _ (by decide)) rfl ?_
          refine r_iinc (lv' := [(4, iv (x4 + 1)), (3, iv 1), (0, .ref (zm_h G)), (1, iv x1), (2, iv x2)]) h 4 dX1_judgeDecl_120 rfl (hN _ (by decide)) rfl ?_
          refine r_goto h 69 dX1_judgeDecl_123 rfl ?_
          refine r_ck (fun hk9 => ?_)
          exact r_lv [2, 3, 4, 1, 0] rfl (ih _ x1 x2 1 (x4 + 1) hx1 hx2 (by decide) hk9)
      · exact r_lv [0, 1, 2, 3] rfl (w_judgeDecl_126 h hc _ x1 x2 x3 hx1 hx2 hx3)
def m_judgeDecl_36 (σ : MEM) (x1 x2 : Int) : Option zm_O := ck (0 ≤ x2 ∧ x2 < 60) (if (σ 29 x2) = 3 then (ck (0 ≤ x2 ∧ x2 < 60) (bd (m_isDoubled σ x2 (σ 33 x2)) (fun r3 σ4 => if r3 = 0 then (m_judgeDecl_69 zF σ4 x1 x2 0 0) else (m_judgeDecl_69 zF σ4 x1 x2 1 0)))) else (m_judgeDecl_69 zF σ x1 x2 0 0))
theorem w_judgeDecl_36 {C : zv_Cx zm_O} {G : zm_G} (h : zv_Ok C cX1_judgeDecl RX1) (hc : zm_C C G 5 (Option.none : Option FieldType) 0 3 75) (σ : MEM) (x1 x2 : Int) (hx1 : inR x1) (hx2 : inR x2) : VV C (m_judgeDecl_36 σ x1 x2) σ [(0, .ref (zm_h G)), (1, iv x1), (2, iv x2)] [] 36 := by
  have hN : ∀ i, i < 5 → i < zv_n C := fun i q => by rw [hc.2.2.1]; exact q
  unfold m_judgeDecl_36
  refine r_aload_n h 0 dX1_judgeDecl_36 rfl rfl ?_
  refine zm_getA h hc 29 (by decide) rfl q1509 rfl dX1_judgeDecl_37 ?_
  refine r_iload_n h 2 dX1_judgeDecl_40 rfl rfl ?_
  refine zm_ldI h hc 29 29 60 (by decide) rfl rfl rfl (by decide) dX1_judgeDecl_41 (fun _ hr1 => ?_)
  refine r_iconst h dX1_judgeDecl_42 ?_
  refine r_icmp_ne h hr1 (by decide) 64 dX1_judgeDecl_43 rfl ?_ ?_
  · refine r_aload_n h 0 dX1_judgeDecl_46 rfl rfl ?_
    refine r_iload_n h 2 dX1_judgeDecl_47 rfl rfl ?_
    refine r_aload_n h 0 dX1_judgeDecl_48 rfl rfl ?_
    refine zm_getA h hc 33 (by decide) rfl q1513 rfl dX1_judgeDecl_49 ?_
    refine r_iload_n h 2 dX1_judgeDecl_52 rfl rfl ?_
    refine zm_ldJ h hc 33 33 60 (by decide) rfl rfl rfl (by decide) dX1_judgeDecl_53 (fun _ hr2 => ?_)
    refine zm_cVz h hc (n := 2) (As := [iv x2, jv (σ 33 x2)]) (fun o1 e1 => w_isDoubled hc.1 _ x2 (σ 33 x2) hx2 hr2 o1 e1) q2010 q2012 qs97 q136 q2013 (by decide +kernel) ⟨by decide, by decide⟩ rfl (Nat.le_of_ble_eq_true rfl) rfl dX1_judgeDecl_54 (fun r3 σ4 hr5 => ?_)
    refine r_if_eq h hr5.r 64 dX1_judgeDecl_57 rfl ?_ ?_
    · refine r_iconst h dX1_judgeDecl_64 ?_
      refine r_istore_n (lv' := [(3, iv 0), (0, .ref (zm_h G)), (1, iv x1), (2, iv x2)]) h dX1_judgeDecl_65 rfl (hN _ (by decide)) rfl ?_
      refine r_iconst h dX1_judgeDecl_66 ?_
      refine r_istore (lv' := [(4, iv 0), (3, iv 0), (0, .ref (zm_h G)), (1, iv x1), (2, iv x2)]) h dX1_judgeDecl_67 (hN _ (by decide)) rfl ?_
      exact r_lv [2, 3, 4, 1, 0] rfl (w_judgeDecl_69 h hc zF _ x1 x2 0 0 hx1 hx2 (by decide) (by decide))
    · refine r_iconst h dX1_judgeDecl_60 ?_
      refine r_goto h 65 dX1_judgeDecl_61 rfl ?_
      refine r_istore_n (lv' := [(3, iv 1), (0, .ref (zm_h G)), (1, iv x1), (2, iv x2)]) h dX1_judgeDecl_65 rfl (hN _ (by decide)) rfl ?_
      refine r_iconst h dX1_judgeDecl_66 ?_
      refine r_istore (lv' := [(4, iv 0), (3, iv 1), (0, .ref (zm_h G)), (1, iv x1), (2, iv x2)]) h dX1_judgeDecl_67 (hN _ (by decide)) rfl ?_
      exact r_lv [2, 3, 4, 1, 0] rfl (w_judgeDecl_69 h hc zF _ x1 x2 1 0 hx1 hx2 (by decide) (by decide))
  · refine r_iconst h dX1_judgeDecl_64 ?_
    refine r_istore_n (lv' := [(3, iv 0), (0, .ref (zm_h G)), (1, iv x1), (2, iv x2)]) h dX1_judgeDecl_65 rfl (hN _ (by decide)) rfl ?_
    refine r_iconst h dX1_judgeDecl_66 ?_
    refine r_istore (lv' := [(4, iv 0), (3, iv 0), (0, .ref (zm_h G)), (1, iv x1), (2, iv x2)]) h dX1_judgeDecl_67 (hN _ (by decide)) rfl ?_
    exact r_lv [2, 3, 4, 1, 0] rfl (w_judgeDecl_69 h hc zF _ x1 x2 0 0 hx1 hx2 (by decide) (by decide))
def m_judgeDecl (σ : MEM) (a0 : Int) : Option zm_O := ck (0 ≤ ((30 * (σ (-1) 7)) + a0) ∧ ((30 * (σ (-1) 7)) + a0) < 60) (ck (0 ≤ ((30 * (σ (-1) 7)) + a0) ∧ ((30 * (σ (-1) 7)) + a0) < 60) (bd (m_declOf σ (σ 27 ((30 * (σ (-1) 7)) + a0)) (σ 28 ((30 * (σ (-1) 7)) + a0))) (fun r4 σ5 => ck (inR ((30 * (σ (-1) 7)) + a0)) (if ((30 * (σ (-1) 7)) + a0) ≤ r4 then (m_judgeDecl_36 σ5 a0 ((30 * (σ (-1) 7)) + a0)) else (bd (m_tellFinding σ5 1 a0) (fun _ σ8 => m_judgeDecl_36 σ8 a0 ((30 * (σ (-1) 7)) + a0)))))))
theorem w_judgeDecl {G : zm_G} (hD : zm_D G) (σ : MEM) (a0 : Int) (ha0 : inR a0) (o : zm_O) (hd : m_judgeDecl σ a0 = some o) : zm_Met G yX1_judgeDecl cX1_judgeDecl 5 (Option.none : Option FieldType) 0 3 75 σ [.ref (zm_h G), iv a0] o := by
  refine zm_intro hD hd (by decide) rfl (Nat.le_of_ble_eq_true rfl) rfl (fun C h hc => ?_)
  have hN : ∀ i, i < 5 → i < zv_n C := fun i q => by rw [hc.2.2.1]; exact q
  unfold m_judgeDecl
  refine r_bipush h dX1_judgeDecl_0 (by decide) ?_
  refine r_aload_n h 0 dX1_judgeDecl_2 rfl rfl ?_
  refine zm_getI h hc 7 7 (by decide) rfl rfl q1487 rfl dX1_judgeDecl_3 (fun hr1 => ?_)
  refine r_imul h dX1_judgeDecl_6 ?_
  refine r_iload_n h 1 dX1_judgeDecl_7 rfl rfl ?_
  refine r_iadd h dX1_judgeDecl_8 ?_
  refine r_istore_n (lv' := [(2, iv ((30 * (σ (-1) 7)) + a0)), (0, .ref (zm_h G)), (1, iv a0)]) h dX1_judgeDecl_9 rfl (hN _ (by decide)) rfl ?_
  refine r_aload_n h 1 dX1_judgeDecl_10 rfl rfl ?_
  refine r_aload_n h 1 dX1_judgeDecl_11 rfl rfl ?_
  refine zm_getA h hc 27 (by decide) rfl q1507 rfl dX1_judgeDecl_12 ?_
  refine r_iload_n h 0 dX1_judgeDecl_15 rfl rfl ?_
  refine zm_ldI h hc 27 27 60 (by decide) rfl rfl rfl (by decide) dX1_judgeDecl_16 (fun _ hr2 => ?_)
  refine r_aload_n h 1 dX1_judgeDecl_17 rfl rfl ?_
  refine zm_getA h hc 28 (by decide) rfl q1508 rfl dX1_judgeDecl_18 ?_
  refine r_iload_n h 0 dX1_judgeDecl_21 rfl rfl ?_
  refine zm_ldI h hc 28 28 60 (by decide) rfl rfl rfl (by decide) dX1_judgeDecl_22 (fun _ hr3 => ?_)
  refine zm_cVi h hc (n := 2) (As := [iv (σ 27 ((30 * (σ (-1) 7)) + a0)), iv (σ 28 ((30 * (σ (-1) 7)) + a0))]) (fun o1 e1 => w_declOf hc.1 _ (σ 27 ((30 * (σ (-1) 7)) + a0)) (σ 28 ((30 * (σ (-1) 7)) + a0)) hr2 hr3 o1 e1) q2002 q2004 qs95 q136 q2005 (by decide +kernel) ⟨by decide, by decide⟩ rfl (Nat.le_of_ble_eq_true rfl) rfl dX1_judgeDecl_23 (fun r4 σ5 hr6 => ?_)
  refine r_iload_n h 0 dX1_judgeDecl_26 rfl rfl ?_
  refine r_ck (fun hk7 => ?_)
  refine r_icmp_ge h hr6 hk7 36 dX1_judgeDecl_27 rfl ?_ ?_
  · exact r_lv [1, 2, 0] rfl (w_judgeDecl_36 h hc _ a0 ((30 * (σ (-1) 7)) + a0) ha0 hk7)
  · refine r_aload_n h 1 dX1_judgeDecl_30 rfl rfl ?_
    refine r_iconst h dX1_judgeDecl_31 ?_
    refine r_iload_n h 2 dX1_judgeDecl_32 rfl rfl ?_
    refine zm_cVv h hc (n := 2) (As := [iv 1, iv a0]) (fun o1 e1 => w_tellFinding hc.1 _ 1 a0 (by decide) ha0 o1 e1) q2006 q2008 qs96 q136 q2009 (by decide +kernel) ⟨by decide, by decide⟩ rfl (Nat.le_of_ble_eq_true rfl) rfl dX1_judgeDecl_33 (fun σ8  => ?_)
    exact r_lv [1, 2, 0] rfl (w_judgeDecl_36 h hc _ a0 ((30 * (σ (-1) 7)) + a0) ha0 hk7)
