set_option maxRecDepth 100000
/-! methods of the Model: decode rows, denotations m_.., walks w_.. (written by wip/gen/gen.py) -/
theorem dX1_comes_0 : decode cX1_comes 0 = .ok (.aload_n 0, 1) := by decide +kernel
theorem dX1_comes_1 : decode cX1_comes 1 = .ok (.getfield 149, 3) := by decide +kernel
theorem dX1_comes_4 : decode cX1_comes 4 = .ok (.iload_n 2, 1) := by decide +kernel
theorem dX1_comes_5 : decode cX1_comes 5 = .ok (.baload, 1) := by decide +kernel
theorem dX1_comes_6 : decode cX1_comes 6 = .ok (.ifCond .ne 43, 3) := by decide +kernel
theorem dX1_comes_9 : decode cX1_comes 9 = .ok (.aload_n 0, 1) := by decide +kernel
theorem dX1_comes_10 : decode cX1_comes 10 = .ok (.getfield 149, 3) := by decide +kernel
theorem dX1_comes_13 : decode cX1_comes 13 = .ok (.iload_n 2, 1) := by decide +kernel
theorem dX1_comes_14 : decode cX1_comes 14 = .ok (.iconst 1, 1) := by decide +kernel
theorem dX1_comes_15 : decode cX1_comes 15 = .ok (.bastore, 1) := by decide +kernel
theorem dX1_comes_16 : decode cX1_comes 16 = .ok (.aload_n 0, 1) := by decide +kernel
theorem dX1_comes_17 : decode cX1_comes 17 = .ok (.getfield 152, 3) := by decide +kernel
theorem dX1_comes_20 : decode cX1_comes 20 = .ok (.iload_n 2, 1) := by decide +kernel
theorem dX1_comes_21 : decode cX1_comes 21 = .ok (.aload_n 0, 1) := by decide +kernel
theorem dX1_comes_22 : decode cX1_comes 22 = .ok (.getfield 397, 3) := by decide +kernel
theorem dX1_comes_25 : decode cX1_comes 25 = .ok (.bastore, 1) := by decide +kernel
theorem dX1_comes_26 : decode cX1_comes 26 = .ok (.aload_n 0, 1) := by decide +kernel
theorem dX1_comes_27 : decode cX1_comes 27 = .ok (.getfield 155, 3) := by decide +kernel
theorem dX1_comes_30 : decode cX1_comes 30 = .ok (.iload_n 2, 1) := by decide +kernel
theorem dX1_comes_31 : decode cX1_comes 31 = .ok (.aload_n 0, 1) := by decide +kernel
theorem dX1_comes_32 : decode cX1_comes 32 = .ok (.getfield 390, 3) := by decide +kernel
theorem dX1_comes_35 : decode cX1_comes 35 = .ok (.lastore, 1) := by decide +kernel
theorem dX1_comes_36 : decode cX1_comes 36 = .ok (.aload_n 0, 1) := by decide +kernel
theorem dX1_comes_37 : decode cX1_comes 37 = .ok (.getfield 158, 3) := by decide +kernel
theorem dX1_comes_40 : decode cX1_comes 40 = .ok (.iload_n 2, 1) := by decide +kernel
theorem dX1_comes_41 : decode cX1_comes 41 = .ok (.aload_n 0, 1) := by decide +kernel
theorem dX1_comes_42 : decode cX1_comes 42 = .ok (.getfield 386, 3) := by decide +kernel
theorem dX1_comes_45 : decode cX1_comes 45 = .ok (.lastore, 1) := by decide +kernel
theorem dX1_comes_46 : decode cX1_comes 46 = .ok (.goto 166, 3) := by decide +kernel
theorem dX1_comes_49 : decode cX1_comes 49 = .ok (.aload_n 0, 1) := by decide +kernel
theorem dX1_comes_50 : decode cX1_comes 50 = .ok (.getfield 146, 3) := by decide +kernel
theorem dX1_comes_53 : decode cX1_comes 53 = .ok (.iload_n 2, 1) := by decide +kernel
theorem dX1_comes_54 : decode cX1_comes 54 = .ok (.iaload, 1) := by decide +kernel
theorem dX1_comes_55 : decode cX1_comes 55 = .ok (.bipush 124, 2) := by decide +kernel
theorem dX1_comes_57 : decode cX1_comes 57 = .ok (.if_icmp .ne 59, 3) := by decide +kernel
theorem dX1_comes_60 : decode cX1_comes 60 = .ok (.aload_n 0, 1) := by decide +kernel
theorem dX1_comes_61 : decode cX1_comes 61 = .ok (.getfield 152, 3) := by decide +kernel
theorem dX1_comes_64 : decode cX1_comes 64 = .ok (.iload_n 2, 1) := by decide +kernel
theorem dX1_comes_65 : decode cX1_comes 65 = .ok (.aload_n 0, 1) := by decide +kernel
theorem dX1_comes_66 : decode cX1_comes 66 = .ok (.getfield 152, 3) := by decide +kernel
theorem dX1_comes_69 : decode cX1_comes 69 = .ok (.iload_n 2, 1) := by decide +kernel
theorem dX1_comes_70 : decode cX1_comes 70 = .ok (.baload, 1) := by decide +kernel
theorem dX1_comes_71 : decode cX1_comes 71 = .ok (.ifCond .ne 10, 3) := by decide +kernel
theorem dX1_comes_74 : decode cX1_comes 74 = .ok (.aload_n 0, 1) := by decide +kernel
theorem dX1_comes_75 : decode cX1_comes 75 = .ok (.getfield 397, 3) := by decide +kernel
theorem dX1_comes_78 : decode cX1_comes 78 = .ok (.ifCond .eq 7, 3) := by decide +kernel
theorem dX1_comes_81 : decode cX1_comes 81 = .ok (.iconst 1, 1) := by decide +kernel
theorem dX1_comes_82 : decode cX1_comes 82 = .ok (.goto 4, 3) := by decide +kernel
theorem dX1_comes_85 : decode cX1_comes 85 = .ok (.iconst 0, 1) := by decide +kernel
theorem dX1_comes_86 : decode cX1_comes 86 = .ok (.bastore, 1) := by decide +kernel
theorem dX1_comes_87 : decode cX1_comes 87 = .ok (.aload_n 0, 1) := by decide +kernel
theorem dX1_comes_88 : decode cX1_comes 88 = .ok (.getfield 155, 3) := by decide +kernel
theorem dX1_comes_91 : decode cX1_comes 91 = .ok (.iload_n 2, 1) := by decide +kernel
theorem dX1_comes_92 : decode cX1_comes 92 = .ok (.dup2, 1) := by decide +kernel
theorem dX1_comes_93 : decode cX1_comes 93 = .ok (.laload, 1) := by decide +kernel
theorem dX1_comes_94 : decode cX1_comes 94 = .ok (.aload_n 0, 1) := by decide +kernel
theorem dX1_comes_95 : decode cX1_comes 95 = .ok (.getfield 390, 3) := by decide +kernel
theorem dX1_comes_98 : decode cX1_comes 98 = .ok (.lor, 1) := by decide +kernel
theorem dX1_comes_99 : decode cX1_comes 99 = .ok (.lastore, 1) := by decide +kernel
theorem dX1_comes_100 : decode cX1_comes 100 = .ok (.aload_n 0, 1) := by decide +kernel
theorem dX1_comes_101 : decode cX1_comes 101 = .ok (.getfield 158, 3) := by decide +kernel
theorem dX1_comes_104 : decode cX1_comes 104 = .ok (.iload_n 2, 1) := by decide +kernel
theorem dX1_comes_105 : decode cX1_comes 105 = .ok (.dup2, 1) := by decide +kernel
theorem dX1_comes_106 : decode cX1_comes 106 = .ok (.laload, 1) := by decide +kernel
theorem dX1_comes_107 : decode cX1_comes 107 = .ok (.aload_n 0, 1) := by decide +kernel
theorem dX1_comes_108 : decode cX1_comes 108 = .ok (.getfield 386, 3) := by decide +kernel
theorem dX1_comes_111 : decode cX1_comes 111 = .ok (.lor, 1) := by decide +kernel
theorem dX1_comes_112 : decode cX1_comes 112 = .ok (.lastore, 1) := by decide +kernel
theorem dX1_comes_113 : decode cX1_comes 113 = .ok (.goto 99, 3) := by decide +kernel
theorem dX1_comes_116 : decode cX1_comes 116 = .ok (.aload_n 0, 1) := by decide +kernel
theorem dX1_comes_117 : decode cX1_comes 117 = .ok (.iload_n 1, 1) := by decide +kernel
theorem dX1_comes_118 : decode cX1_comes 118 = .ok (.aload_n 0, 1) := by decide +kernel
theorem dX1_comes_119 : decode cX1_comes 119 = .ok (.getfield 158, 3) := by decide +kernel
theorem dX1_comes_122 : decode cX1_comes 122 = .ok (.iload_n 2, 1) := by decide +kernel
theorem dX1_comes_123 : decode cX1_comes 123 = .ok (.laload, 1) := by decide +kernel
theorem dX1_comes_124 : decode cX1_comes 124 = .ok (.aload_n 0, 1) := by decide +kernel
theorem dX1_comes_125 : decode cX1_comes 125 = .ok (.getfield 390, 3) := by decide +kernel
theorem dX1_comes_128 : decode cX1_comes 128 = .ok (.invokevirtual 393, 3) := by decide +kernel
theorem dX1_comes_131 : decode cX1_comes 131 = .ok (.aload_n 0, 1) := by decide +kernel
theorem dX1_comes_132 : decode cX1_comes 132 = .ok (.getfield 155, 3) := by decide +kernel
theorem dX1_comes_135 : decode cX1_comes 135 = .ok (.iload_n 2, 1) := by decide +kernel
theorem dX1_comes_136 : decode cX1_comes 136 = .ok (.dup2, 1) := by decide +kernel
theorem dX1_comes_137 : decode cX1_comes 137 = .ok (.laload, 1) := by decide +kernel
theorem dX1_comes_138 : decode cX1_comes 138 = .ok (.aload_n 0, 1) := by decide +kernel
theorem dX1_comes_139 : decode cX1_comes 139 = .ok (.getfield 152, 3) := by decide +kernel
theorem dX1_comes_142 : decode cX1_comes 142 = .ok (.iload_n 2, 1) := by decide +kernel
theorem dX1_comes_143 : decode cX1_comes 143 = .ok (.baload, 1) := by decide +kernel
theorem dX1_comes_144 : decode cX1_comes 144 = .ok (.ifCond .eq 10, 3) := by decide +kernel
theorem dX1_comes_147 : decode cX1_comes 147 = .ok (.aload_n 0, 1) := by decide +kernel
theorem dX1_comes_148 : decode cX1_comes 148 = .ok (.getfield 390, 3) := by decide +kernel
theorem dX1_comes_151 : decode cX1_comes 151 = .ok (.goto 4, 3) := by decide +kernel
theorem dX1_comes_154 : decode cX1_comes 154 = .ok (.lconst 0, 1) := by decide +kernel
theorem dX1_comes_155 : decode cX1_comes 155 = .ok (.lor, 1) := by decide +kernel
theorem dX1_comes_156 : decode cX1_comes 156 = .ok (.lastore, 1) := by decide +kernel
theorem dX1_comes_157 : decode cX1_comes 157 = .ok (.aload_n 0, 1) := by decide +kernel
theorem dX1_comes_158 : decode cX1_comes 158 = .ok (.getfield 158, 3) := by decide +kernel
theorem dX1_comes_161 : decode cX1_comes 161 = .ok (.iload_n 2, 1) := by decide +kernel
theorem dX1_comes_162 : decode cX1_comes 162 = .ok (.aload_n 0, 1) := by decide +kernel
theorem dX1_comes_163 : decode cX1_comes 163 = .ok (.getfield 386, 3) := by decide +kernel
theorem dX1_comes_166 : decode cX1_comes 166 = .ok (.aload_n 0, 1) := by decide +kernel
theorem dX1_comes_167 : decode cX1_comes 167 = .ok (.getfield 397, 3) := by decide +kernel
theorem dX1_comes_170 : decode cX1_comes 170 = .ok (.ifCond .eq 12, 3) := by decide +kernel
theorem dX1_comes_173 : decode cX1_comes 173 = .ok (.aload_n 0, 1) := by decide +kernel
theorem dX1_comes_174 : decode cX1_comes 174 = .ok (.getfield 158, 3) := by decide +kernel
theorem dX1_comes_177 : decode cX1_comes 177 = .ok (.iload_n 2, 1) := by decide +kernel
theorem dX1_comes_178 : decode cX1_comes 178 = .ok (.laload, 1) := by decide +kernel
theorem dX1_comes_179 : decode cX1_comes 179 = .ok (.goto 4, 3) := by decide +kernel
theorem dX1_comes_182 : decode cX1_comes 182 = .ok (.lconst 0, 1) := by decide +kernel
theorem dX1_comes_183 : decode cX1_comes 183 = .ok (.lor, 1) := by decide +kernel
theorem dX1_comes_184 : decode cX1_comes 184 = .ok (.lastore, 1) := by decide +kernel
theorem dX1_comes_185 : decode cX1_comes 185 = .ok (.aload_n 0, 1) := by decide +kernel
theorem dX1_comes_186 : decode cX1_comes 186 = .ok (.getfield 152, 3) := by decide +kernel
theorem dX1_comes_189 : decode cX1_comes 189 = .ok (.iload_n 2, 1) := by decide +kernel
theorem dX1_comes_190 : decode cX1_comes 190 = .ok (.aload_n 0, 1) := by decide +kernel
theorem dX1_comes_191 : decode cX1_comes 191 = .ok (.getfield 152, 3) := by decide +kernel
theorem dX1_comes_194 : decode cX1_comes 194 = .ok (.iload_n 2, 1) := by decide +kernel
theorem dX1_comes_195 : decode cX1_comes 195 = .ok (.baload, 1) := by decide +kernel
theorem dX1_comes_196 : decode cX1_comes 196 = .ok (.ifCond .eq 14, 3) := by decide +kernel
theorem dX1_comes_199 : decode cX1_comes 199 = .ok (.aload_n 0, 1) := by decide +kernel
theorem dX1_comes_200 : decode cX1_comes 200 = .ok (.getfield 397, 3) := by decide +kernel
theorem dX1_comes_203 : decode cX1_comes 203 = .ok (.ifCond .eq 7, 3) := by decide +kernel
theorem dX1_comes_206 : decode cX1_comes 206 = .ok (.iconst 1, 1) := by decide +kernel
theorem dX1_comes_207 : decode cX1_comes 207 = .ok (.goto 4, 3) := by decide +kernel
theorem dX1_comes_210 : decode cX1_comes 210 = .ok (.iconst 0, 1) := by decide +kernel
theorem dX1_comes_211 : decode cX1_comes 211 = .ok (.bastore, 1) := by decide +kernel
theorem dX1_comes_212 : decode cX1_comes 212 = .ok (.return_, 1) := by decide +kernel
def m_comes_183 (σ : MEM) (x2 s1 s2 s3 : Int) : Option zm_O := ck (0 ≤ s1 ∧ s1 < 8) (nu (mup σ 58 s1 (j_or s2 s3)) (fun σ1 => ck (0 ≤ x2 ∧ x2 < 8) (if (σ1 56 x2) = 0 then (ck (0 ≤ x2 ∧ x2 < 8) (nu (mup σ1 56 x2 0) (fun σ3 => some (0, σ3)))) else (if (σ1 (-1) 59) = 0 then (ck (0 ≤ x2 ∧ x2 < 8) (nu (mup σ1 56 x2 0) (fun σ5 => some (0, σ5)))) else (ck (0 ≤ x2 ∧ x2 < 8) (nu (mup σ1 56 x2 1) (fun σ6 => some (0, σ6))))))))
theorem w_comes_183 {C : zv_Cx zm_O} {G : zm_G} (h : zv_Ok C cX1_comes RX1) (hc : zm_C C G 3 (Option.none : Option FieldType) 0 1 26) (σ : MEM) (x2 s1 s2 s3 : Int) (hx2 : inR x2) (hs1 : inR s1) (hs2 : inL s2) (hs3 : inL s3) : VV C (m_comes_183 σ x2 s1 s2 s3) σ [(0, .ref (zm_h G)), (2, iv x2)] [jv s3, jv s2, iv s1, .ref (zm_al G 58)] 183 := by
  have hN : ∀ i, i < 3 → i < zv_n C := fun i q => by rw [hc.2.2.1]; exact q
  unfold m_comes_183
  refine r_lor h dX1_comes_183 ?_
  refine zm_stJ h hc 58 58 8 (by decide) rfl rfl rfl (by decide) (inL_t _) dX1_comes_184 (fun _ σ1 _ => ?_)
  refine r_aload_n h 0 dX1_comes_185 rfl rfl ?_
  refine zm_getA h hc 56 (by decide) rfl q1535 rfl dX1_comes_186 ?_
  refine r_iload_n h 1 dX1_comes_189 rfl rfl ?_
  refine r_aload_n h 0 dX1_comes_190 rfl rfl ?_
  refine zm_getA h hc 56 (by decide) rfl q1535 rfl dX1_comes_191 ?_
  refine r_iload_n h 1 dX1_comes_194 rfl rfl ?_
  refine zm_ldZ h hc 56 56 8 (by decide) rfl rfl rfl (by decide) dX1_comes_195 (fun _ hr2 => ?_)
  refine r_if_eq h hr2.r 210 dX1_comes_196 rfl ?_ ?_
  · refine r_iconst h dX1_comes_210 ?_
    refine zm_stZ h hc 56 56 8 (by decide) rfl rfl rfl (by decide) (by decide) dX1_comes_211 (fun _ σ3 _ => ?_)
    exact zm_vret h hc rfl dX1_comes_212
  · refine r_aload_n h 0 dX1_comes_199 rfl rfl ?_
    refine zm_getZ h hc 59 59 (by decide) rfl rfl q1538 rfl dX1_comes_200 (fun hr4 => ?_)
    refine r_if_eq h hr4.r 210 dX1_comes_203 rfl ?_ ?_
    · refine r_iconst h dX1_comes_210 ?_
      refine zm_stZ h hc 56 56 8 (by decide) rfl rfl rfl (by decide) (by decide) dX1_comes_211 (fun _ σ5 _ => ?_)
      exact zm_vret h hc rfl dX1_comes_212
    · refine r_iconst h dX1_comes_206 ?_
      refine r_goto h 211 dX1_comes_207 rfl ?_
      refine zm_stZ h hc 56 56 8 (by decide) rfl rfl rfl (by decide) (by decide) dX1_comes_211 (fun _ σ6 _ => ?_)
      exact zm_vret h hc rfl dX1_comes_212
def m_comes_155 (σ : MEM) (x2 s1 s2 s3 : Int) : Option zm_O := ck (0 ≤ s1 ∧ s1 < 8) (nu (mup σ 57 s1 (j_or s2 s3)) (fun σ1 => if (σ1 (-1) 59) = 0 then (m_comes_183 σ1 x2 x2 (σ1 (-1) 61) 0) else (ck (0 ≤ x2 ∧ x2 < 8) (m_comes_183 σ1 x2 x2 (σ1 (-1) 61) (σ1 58 x2)))))
theorem w_comes_155 {C : zv_Cx zm_O} {G : zm_G} (h : zv_Ok C cX1_comes RX1) (hc : zm_C C G 3 (Option.none : Option FieldType) 0 1 26) (σ : MEM) (x2 s1 s2 s3 : Int) (hx2 : inR x2) (hs1 : inR s1) (hs2 : inL s2) (hs3 : inL s3) : VV C (m_comes_155 σ x2 s1 s2 s3) σ [(0, .ref (zm_h G)), (2, iv x2)] [jv s3, jv s2, iv s1, .ref (zm_al G 57)] 155 := by
  have hN : ∀ i, i < 3 → i < zv_n C := fun i q => by rw [hc.2.2.1]; exact q
  unfold m_comes_155
  refine r_lor h dX1_comes_155 ?_
  refine zm_stJ h hc 57 57 8 (by decide) rfl rfl rfl (by decide) (inL_t _) dX1_comes_156 (fun _ σ1 _ => ?_)
  refine r_aload_n h 0 dX1_comes_157 rfl rfl ?_
  refine zm_getA h hc 58 (by decide) rfl q1537 rfl dX1_comes_158 ?_
  refine r_iload_n h 1 dX1_comes_161 rfl rfl ?_
  refine r_aload_n h 0 dX1_comes_162 rfl rfl ?_
  refine zm_getJ h hc 61 61 (by decide) rfl rfl q1540 rfl dX1_comes_163 (fun hr2 => ?_)
  refine r_aload_n h 0 dX1_comes_166 rfl rfl ?_
  refine zm_getZ h hc 59 59 (by decide) rfl rfl q1538 rfl dX1_comes_167 (fun hr3 => ?_)
  refine r_if_eq h hr3.r 182 dX1_comes_170 rfl ?_ ?_
  · refine r_lconst (x := 0) h dX1_comes_182 (by decide) ?_
    exact r_lv [0, 1] rfl (w_comes_183 h hc _ x2 x2 (σ1 (-1) 61) 0 hx2 hx2 hr2 (by decide))
  · refine r_aload_n h 0 dX1_comes_173 rfl rfl ?_
    refine zm_getA h hc 58 (by decide) rfl q1537 rfl dX1_comes_174 ?_
    refine r_iload_n h 1 dX1_comes_177 rfl rfl ?_
    refine zm_ldJ h hc 58 58 8 (by decide) rfl rfl rfl (by decide) dX1_comes_178 (fun _ hr4 => ?_)
    refine r_goto h 183 dX1_comes_179 rfl ?_
    exact r_lv [0, 1] rfl (w_comes_183 h hc _ x2 x2 (σ1 (-1) 61) (σ1 58 x2) hx2 hx2 hr2 hr4)
def m_comes_86 (σ : MEM) (x2 s1 s2 : Int) : Option zm_O := ck (0 ≤ s1 ∧ s1 < 8) (nu (mup σ 56 s1 s2) (fun σ1 => ck (0 ≤ x2 ∧ x2 < 8) (ck (0 ≤ x2 ∧ x2 < 8) (nu (mup σ1 57 x2 (j_or (σ1 57 x2) (σ1 (-1) 60))) (fun σ4 => ck (0 ≤ x2 ∧ x2 < 8) (ck (0 ≤ x2 ∧ x2 < 8) (nu (mup σ4 58 x2 (j_or (σ4 58 x2) (σ4 (-1) 61))) (fun σ7 => some (0, σ7)))))))))
theorem w_comes_86 {C : zv_Cx zm_O} {G : zm_G} (h : zv_Ok C cX1_comes RX1) (hc : zm_C C G 3 (Option.none : Option FieldType) 0 1 26) (σ : MEM) (x2 s1 s2 : Int) (hx2 : inR x2) (hs1 : inR s1) (hs2 : isB s2) : VV C (m_comes_86 σ x2 s1 s2) σ [(0, .ref (zm_h G)), (2, iv x2)] [iv s2, iv s1, .ref (zm_al G 56)] 86 := by
  have hN : ∀ i, i < 3 → i < zv_n C := fun i q => by rw [hc.2.2.1]; exact q
  unfold m_comes_86
  refine zm_stZ h hc 56 56 8 (by decide) rfl rfl rfl (by decide) hs2 dX1_comes_86 (fun _ σ1 _ => ?_)
  refine r_aload_n h 0 dX1_comes_87 rfl rfl ?_
  refine zm_getA h hc 57 (by decide) rfl q1536 rfl dX1_comes_88 ?_
  refine r_iload_n h 1 dX1_comes_91 rfl rfl ?_
  refine r_dup2 h dX1_comes_92 rfl rfl ?_
  refine zm_ldJ h hc 57 57 8 (by decide) rfl rfl rfl (by decide) dX1_comes_93 (fun _ hr2 => ?_)
  refine r_aload_n h 0 dX1_comes_94 rfl rfl ?_
  refine zm_getJ h hc 60 60 (by decide) rfl rfl q1539 rfl dX1_comes_95 (fun hr3 => ?_)
  refine r_lor h dX1_comes_98 ?_
  refine zm_stJ h hc 57 57 8 (by decide) rfl rfl rfl (by decide) (inL_t _) dX1_comes_99 (fun _ σ4 _ => ?_)
  refine r_aload_n h 0 dX1_comes_100 rfl rfl ?_
  refine zm_getA h hc 58 (by decide) rfl q1537 rfl dX1_comes_101 ?_
  refine r_iload_n h 1 dX1_comes_104 rfl rfl ?_
  refine r_dup2 h dX1_comes_105 rfl rfl ?_
  refine zm_ldJ h hc 58 58 8 (by decide) rfl rfl rfl (by decide) dX1_comes_106 (fun _ hr5 => ?_)
  refine r_aload_n h 0 dX1_comes_107 rfl rfl ?_
  refine zm_getJ h hc 61 61 (by decide) rfl rfl q1540 rfl dX1_comes_108 (fun hr6 => ?_)
  refine r_lor h dX1_comes_111 ?_
  refine zm_stJ h hc 58 58 8 (by decide) rfl rfl rfl (by decide) (inL_t _) dX1_comes_112 (fun _ σ7 _ => ?_)
  refine r_goto h 212 dX1_comes_113 rfl ?_
  exact zm_vret h hc rfl dX1_comes_212
def m_comes_81 (σ : MEM) (x2 s1 : Int) : Option zm_O := m_comes_86 σ x2 s1 1
theorem w_comes_81 {C : zv_Cx zm_O} {G : zm_G} (h : zv_Ok C cX1_comes RX1) (hc : zm_C C G 3 (Option.none : Option FieldType) 0 1 26) (σ : MEM) (x2 s1 : Int) (hx2 : inR x2) (hs1 : inR s1) : VV C (m_comes_81 σ x2 s1) σ [(0, .ref (zm_h G)), (2, iv x2)] [iv s1, .ref (zm_al G 56)] 81 := by
  have hN : ∀ i, i < 3 → i < zv_n C := fun i q => by rw [hc.2.2.1]; exact q
  unfold m_comes_81
  refine r_iconst h dX1_comes_81 ?_
  refine r_goto h 86 dX1_comes_82 rfl ?_
  exact r_lv [0, 1] rfl (w_comes_86 h hc _ x2 s1 1 hx2 hs1 (by decide))
def m_comes (σ : MEM) (a0 a1 : Int) : Option zm_O := ck (0 ≤ a1 ∧ a1 < 8) (if (σ 55 a1) = 0 then (ck (0 ≤ a1 ∧ a1 < 8) (nu (mup σ 55 a1 1) (fun σ2 => ck (0 ≤ a1 ∧ a1 < 8) (nu (mup σ2 56 a1 (σ2 (-1) 59)) (fun σ4 => ck (0 ≤ a1 ∧ a1 < 8) (nu (mup σ4 57 a1 (σ4 (-1) 60)) (fun σ6 => ck (0 ≤ a1 ∧ a1 < 8) (nu (mup σ6 58 a1 (σ6 (-1) 61)) (fun σ8 => some (0, σ8)))))))))) else (ck (0 ≤ a1 ∧ a1 < 8) (if (σ 54 a1) = 124 then (ck (0 ≤ a1 ∧ a1 < 8) (if (σ 56 a1) = 0 then (if (σ (-1) 59) = 0 then (m_comes_86 σ a1 a1 0) else (m_comes_81 σ a1 a1)) else (m_comes_81 σ a1 a1))) else (ck (0 ≤ a1 ∧ a1 < 8) (bd (m_joinFollows σ a0 (σ 58 a1) (σ (-1) 60)) (fun _ σ14 => ck (0 ≤ a1 ∧ a1 < 8) (ck (0 ≤ a1 ∧ a1 < 8) (if (σ14 56 a1) = 0 then (m_comes_155 σ14 a1 a1 (σ14 57 a1) 0) else (m_comes_155 σ14 a1 a1 (σ14 57 a1) (σ14 (-1) 60))))))))))
theorem w_comes {G : zm_G} (hD : zm_D G) (σ : MEM) (a0 a1 : Int) (ha0 : inR a0) (ha1 : inR a1) (o : zm_O) (hd : m_comes σ a0 a1 = some o) : zm_Met G yX1_comes cX1_comes 3 (Option.none : Option FieldType) 0 1 26 σ [.ref (zm_h G), iv a0, iv a1] o := by
  refine zm_intro hD hd (by decide) rfl (Nat.le_of_ble_eq_true rfl) rfl (fun C h hc => ?_)
  have hN : ∀ i, i < 3 → i < zv_n C := fun i q => by rw [hc.2.2.1]; exact q
  unfold m_comes
  refine r_aload_n h 0 dX1_comes_0 rfl rfl ?_
  refine zm_getA h hc 55 (by decide) rfl q1534 rfl dX1_comes_1 ?_
  refine r_iload_n h 2 dX1_comes_4 rfl rfl ?_
  refine zm_ldZ h hc 55 55 8 (by decide) rfl rfl rfl (by decide) dX1_comes_5 (fun _ hr1 => ?_)
  refine r_if_ne h hr1.r 49 dX1_comes_6 rfl ?_ ?_
  · refine r_aload_n h 0 dX1_comes_9 rfl rfl ?_
    refine zm_getA h hc 55 (by decide) rfl q1534 rfl dX1_comes_10 ?_
    refine r_iload_n h 2 dX1_comes_13 rfl rfl ?_
    refine r_iconst h dX1_comes_14 ?_
    refine zm_stZ h hc 55 55 8 (by decide) rfl rfl rfl (by decide) (by decide) dX1_comes_15 (fun _ σ2 _ => ?_)
    refine r_aload_n h 0 dX1_comes_16 rfl rfl ?_
    refine zm_getA h hc 56 (by decide) rfl q1535 rfl dX1_comes_17 ?_
    refine r_iload_n h 2 dX1_comes_20 rfl rfl ?_
    refine r_aload_n h 0 dX1_comes_21 rfl rfl ?_
    refine zm_getZ h hc 59 59 (by decide) rfl rfl q1538 rfl dX1_comes_22 (fun hr3 => ?_)
    refine zm_stZ h hc 56 56 8 (by decide) rfl rfl rfl (by decide) hr3 dX1_comes_25 (fun _ σ4 _ => ?_)
    refine r_aload_n h 0 dX1_comes_26 rfl rfl ?_
    refine zm_getA h hc 57 (by decide) rfl q1536 rfl dX1_comes_27 ?_
    refine r_iload_n h 2 dX1_comes_30 rfl rfl ?_
    refine r_aload_n h 0 dX1_comes_31 rfl rfl ?_
    refine zm_getJ h hc 60 60 (by decide) rfl rfl q1539 rfl dX1_comes_32 (fun hr5 => ?_)
    refine zm_stJ h hc 57 57 8 (by decide) rfl rfl rfl (by decide) hr5 dX1_comes_35 (fun _ σ6 _ => ?_)
    refine r_aload_n h 0 dX1_comes_36 rfl rfl ?_
    refine zm_getA h hc 58 (by decide) rfl q1537 rfl dX1_comes_37 ?_
    refine r_iload_n h 2 dX1_comes_40 rfl rfl ?_
    refine r_aload_n h 0 dX1_comes_41 rfl rfl ?_
    refine zm_getJ h hc 61 61 (by decide) rfl rfl q1540 rfl dX1_comes_42 (fun hr7 => ?_)
    refine zm_stJ h hc 58 58 8 (by decide) rfl rfl rfl (by decide) hr7 dX1_comes_45 (fun _ σ8 _ => ?_)
    refine r_goto h 212 dX1_comes_46 rfl ?_
    exact zm_vret h hc rfl dX1_comes_212
  · refine r_aload_n h 0 dX1_comes_49 rfl rfl ?_
    refine zm_getA h hc 54 (by decide) rfl q1533 rfl dX1_comes_50 ?_
    refine r_iload_n h 2 dX1_comes_53 rfl rfl ?_
    refine zm_ldI h hc 54 54 8 (by decide) rfl rfl rfl (by decide) dX1_comes_54 (fun _ hr9 => ?_)
    refine r_bipush h dX1_comes_55 (by decide) ?_
    refine r_icmp_ne h hr9 (by decide) 116 dX1_comes_57 rfl ?_ ?_
    · refine r_aload_n h 0 dX1_comes_60 rfl rfl ?_
      refine zm_getA h hc 56 (by decide) rfl q1535 rfl dX1_comes_61 ?_
      refine r_iload_n h 2 dX1_comes_64 rfl rfl ?_
      refine r_aload_n h 0 dX1_comes_65 rfl rfl ?_
      refine zm_getA h hc 56 (by decide) rfl q1535 rfl dX1_comes_66 ?_
      refine r_iload_n h 2 dX1_comes_69 rfl rfl ?_
      refine zm_ldZ h hc 56 56 8 (by decide) rfl rfl rfl (by decide) dX1_comes_70 (fun _ hr10 => ?_)
      refine r_if_ne h hr10.r 81 dX1_comes_71 rfl ?_ ?_
      · refine r_aload_n h 0 dX1_comes_74 rfl rfl ?_
        refine zm_getZ h hc 59 59 (by decide) rfl rfl q1538 rfl dX1_comes_75 (fun hr11 => ?_)
        refine r_if_eq h hr11.r 85 dX1_comes_78 rfl ?_ ?_
        · refine r_iconst h dX1_comes_85 ?_
          exact r_lv [0, 2] rfl (w_comes_86 h hc _ a1 a1 0 ha1 ha1 (by decide))
        · exact r_lv [0, 2] rfl (w_comes_81 h hc _ a1 a1 ha1 ha1)
      · exact r_lv [0, 2] rfl (w_comes_81 h hc _ a1 a1 ha1 ha1)
    · refine r_aload_n h 0 dX1_comes_116 rfl rfl ?_
      refine r_iload_n h 1 dX1_comes_117 rfl rfl ?_
      refine r_aload_n h 0 dX1_comes_118 rfl rfl ?_
      refine zm_getA h hc 58 (by decide) rfl q1537 rfl dX1_comes_119 ?_
      refine r_iload_n h 2 dX1_comes_122 rfl rfl ?_
      refine zm_ldJ h hc 58 58 8 (by decide) rfl rfl rfl (by decide) dX1_comes_123 (fun _ hr12 => ?_)
      refine r_aload_n h 0 dX1_comes_124 rfl rfl ?_
      refine zm_getJ h hc 60 60 (by decide) rfl rfl q1539 rfl dX1_comes_125 (fun hr13 => ?_)
      refine zm_cVv h hc (n := 3) (As := [iv a0, jv (σ 58 a1), jv (σ (-1) 60)]) (fun o1 e1 => w_joinFollows hc.1 _ a0 (σ 58 a1) (σ (-1) 60) ha0 hr12 hr13 o1 e1) q1903 q1905 qs74 q136 q1906 (by decide +kernel) ⟨by decide, by decide⟩ rfl (Nat.le_of_ble_eq_true rfl) rfl dX1_comes_128 (fun σ14  => ?_)
      refine r_aload_n h 0 dX1_comes_131 rfl rfl ?_
      refine zm_getA h hc 57 (by decide) rfl q1536 rfl dX1_comes_132 ?_
      refine r_iload_n h 2 dX1_comes_135 rfl rfl ?_
      refine r_dup2 h dX1_comes_136 rfl rfl ?_
      refine zm_ldJ h hc 57 57 8 (by decide) rfl rfl rfl (by decide) dX1_comes_137 (fun _ hr15 => ?_)
      refine r_aload_n h 0 dX1_comes_138 rfl rfl ?_
      refine zm_getA h hc 56 (by decide) rfl q1535 rfl dX1_comes_139 ?_
      refine r_iload_n h 2 dX1_comes_142 rfl rfl ?_
      refine zm_ldZ h hc 56 56 8 (by decide) rfl rfl rfl (by decide) dX1_comes_143 (fun _ hr16 => ?_)
      refine r_if_eq h hr16.r 154 dX1_comes_144 rfl ?_ ?_
      · refine r_lconst (x := 0) h dX1_comes_154 (by decide) ?_
        exact r_lv [0, 2] rfl (w_comes_155 h hc _ a1 a1 (σ14 57 a1) 0 ha1 ha1 hr15 (by decide))
      · refine r_aload_n h 0 dX1_comes_147 rfl rfl ?_
        refine zm_getJ h hc 60 60 (by decide) rfl rfl q1539 rfl dX1_comes_148 (fun hr17 => ?_)
        refine r_goto h 155 dX1_comes_151 rfl ?_
        exact r_lv [0, 2] rfl (w_comes_155 h hc _ a1 a1 (σ14 57 a1) (σ14 (-1) 60) ha1 ha1 hr15 hr17)
theorem dX1_group_0 : decode cX1_group 0 = .ok (.aload_n 0, 1) := by decide +kernel
theorem dX1_group_1 : decode cX1_group 1 = .ok (.getfield 79, 3) := by decide +kernel
theorem dX1_group_4 : decode cX1_group 4 = .ok (.iload_n 1, 1) := by decide +kernel
theorem dX1_group_5 : decode cX1_group 5 = .ok (.iconst 3, 1) := by decide +kernel
theorem dX1_group_6 : decode cX1_group 6 = .ok (.iastore, 1) := by decide +kernel
theorem dX1_group_7 : decode cX1_group 7 = .ok (.iconst 0, 1) := by decide +kernel
theorem dX1_group_8 : decode cX1_group 8 = .ok (.istore_n 2, 1) := by decide +kernel
theorem dX1_group_9 : decode cX1_group 9 = .ok (.aload_n 0, 1) := by decide +kernel
theorem dX1_group_10 : decode cX1_group 10 = .ok (.iconst 0, 1) := by decide +kernel
theorem dX1_group_11 : decode cX1_group 11 = .ok (.invokevirtual 400, 3) := by decide +kernel
theorem dX1_group_14 : decode cX1_group 14 = .ok (.iconst 1, 1) := by decide +kernel
theorem dX1_group_15 : decode cX1_group 15 = .ok (.istore_n 3, 1) := by decide +kernel
theorem dX1_group_16 : decode cX1_group 16 = .ok (.aload_n 0, 1) := by decide +kernel
theorem dX1_group_17 : decode cX1_group 17 = .ok (.invokevirtual 289, 3) := by decide +kernel
theorem dX1_group_20 : decode cX1_group 20 = .ok (.ifCond .eq 268, 3) := by decide +kernel
theorem dX1_group_23 : decode cX1_group 23 = .ok (.iload_n 2, 1) := by decide +kernel
theorem dX1_group_24 : decode cX1_group 24 = .ok (.ifCond .lt 264, 3) := by decide +kernel
theorem dX1_group_27 : decode cX1_group 27 = .ok (.iload_n 3, 1) := by decide +kernel
theorem dX1_group_28 : decode cX1_group 28 = .ok (.ifCond .eq 57, 3) := by decide +kernel
theorem dX1_group_31 : decode cX1_group 31 = .ok (.aload_n 0, 1) := by decide +kernel
theorem dX1_group_32 : decode cX1_group 32 = .ok (.aload_n 0, 1) := by decide +kernel
theorem dX1_group_33 : decode cX1_group 33 = .ok (.getfield 276, 3) := by decide +kernel
theorem dX1_group_36 : decode cX1_group 36 = .ok (.invokevirtual 279, 3) := by decide +kernel
theorem dX1_group_39 : decode cX1_group 39 = .ok (.bipush 40, 2) := by decide +kernel
theorem dX1_group_41 : decode cX1_group 41 = .ok (.if_icmp .ne 44, 3) := by decide +kernel
theorem dX1_group_44 : decode cX1_group 44 = .ok (.iload_n 2, 1) := by decide +kernel
theorem dX1_group_45 : decode cX1_group 45 = .ok (.iconst 5, 1) := by decide +kernel
theorem dX1_group_46 : decode cX1_group 46 = .ok (.if_icmp .ne 14, 3) := by decide +kernel
theorem dX1_group_49 : decode cX1_group 49 = .ok (.aload_n 0, 1) := by decide +kernel
theorem dX1_group_50 : decode cX1_group 50 = .ok (.bipush (-3), 2) := by decide +kernel
theorem dX1_group_52 : decode cX1_group 52 = .ok (.aload_n 0, 1) := by decide +kernel
theorem dX1_group_53 : decode cX1_group 53 = .ok (.getfield 276, 3) := by decide +kernel
theorem dX1_group_56 : decode cX1_group 56 = .ok (.invokevirtual 293, 3) := by decide +kernel
theorem dX1_group_59 : decode cX1_group 59 = .ok (.return_, 1) := by decide +kernel
theorem dX1_group_60 : decode cX1_group 60 = .ok (.aload_n 0, 1) := by decide +kernel
theorem dX1_group_61 : decode cX1_group 61 = .ok (.dup, 1) := by decide +kernel
theorem dX1_group_62 : decode cX1_group 62 = .ok (.getfield 276, 3) := by decide +kernel
theorem dX1_group_65 : decode cX1_group 65 = .ok (.iconst 1, 1) := by decide +kernel
theorem dX1_group_66 : decode cX1_group 66 = .ok (.iadd, 1) := by decide +kernel
theorem dX1_group_67 : decode cX1_group 67 = .ok (.putfield 276, 3) := by decide +kernel
theorem dX1_group_70 : decode cX1_group 70 = .ok (.aload_n 0, 1) := by decide +kernel
theorem dX1_group_71 : decode cX1_group 71 = .ok (.invokevirtual 300, 3) := by decide +kernel
theorem dX1_group_74 : decode cX1_group 74 = .ok (.iinc 2 1, 3) := by decide +kernel
theorem dX1_group_77 : decode cX1_group 77 = .ok (.aload_n 0, 1) := by decide +kernel
theorem dX1_group_78 : decode cX1_group 78 = .ok (.iload_n 2, 1) := by decide +kernel
theorem dX1_group_79 : decode cX1_group 79 = .ok (.invokevirtual 400, 3) := by decide +kernel
theorem dX1_group_82 : decode cX1_group 82 = .ok (.goto (-66), 3) := by decide +kernel
theorem dX1_group_85 : decode cX1_group 85 = .ok (.iload_n 3, 1) := by decide +kernel
theorem dX1_group_86 : decode cX1_group 86 = .ok (.ifCond .eq 47, 3) := by decide +kernel
theorem dX1_group_89 : decode cX1_group 89 = .ok (.aload_n 0, 1) := by decide +kernel
theorem dX1_group_90 : decode cX1_group 90 = .ok (.iload_n 1, 1) := by decide +kernel
theorem dX1_group_91 : decode cX1_group 91 = .ok (.invokevirtual 383, 3) := by decide +kernel
theorem dX1_group_94 : decode cX1_group 94 = .ok (.istore 4, 2) := by decide +kernel
theorem dX1_group_96 : decode cX1_group 96 = .ok (.aload_n 0, 1) := by decide +kernel
theorem dX1_group_97 : decode cX1_group 97 = .ok (.iconst 0, 1) := by decide +kernel
theorem dX1_group_98 : decode cX1_group 98 = .ok (.putfield 397, 3) := by decide +kernel
theorem dX1_group_101 : decode cX1_group 101 = .ok (.aload_n 0, 1) := by decide +kernel
theorem dX1_group_102 : decode cX1_group 102 = .ok (.lconst 1, 1) := by decide +kernel
theorem dX1_group_103 : decode cX1_group 103 = .ok (.iload 4, 2) := by decide +kernel
theorem dX1_group_105 : decode cX1_group 105 = .ok (.lshl, 1) := by decide +kernel
theorem dX1_group_106 : decode cX1_group 106 = .ok (.putfield 390, 3) := by decide +kernel
theorem dX1_group_109 : decode cX1_group 109 = .ok (.aload_n 0, 1) := by decide +kernel
theorem dX1_group_110 : decode cX1_group 110 = .ok (.lconst 1, 1) := by decide +kernel
theorem dX1_group_111 : decode cX1_group 111 = .ok (.iload 4, 2) := by decide +kernel
theorem dX1_group_113 : decode cX1_group 113 = .ok (.lshl, 1) := by decide +kernel
theorem dX1_group_114 : decode cX1_group 114 = .ok (.putfield 386, 3) := by decide +kernel
theorem dX1_group_117 : decode cX1_group 117 = .ok (.aload_n 0, 1) := by decide +kernel
theorem dX1_group_118 : decode cX1_group 118 = .ok (.iload_n 1, 1) := by decide +kernel
theorem dX1_group_119 : decode cX1_group 119 = .ok (.invokevirtual 403, 3) := by decide +kernel
theorem dX1_group_122 : decode cX1_group 122 = .ok (.aload_n 0, 1) := by decide +kernel
theorem dX1_group_123 : decode cX1_group 123 = .ok (.iload_n 1, 1) := by decide +kernel
theorem dX1_group_124 : decode cX1_group 124 = .ok (.iload_n 2, 1) := by decide +kernel
theorem dX1_group_125 : decode cX1_group 125 = .ok (.invokevirtual 406, 3) := by decide +kernel
theorem dX1_group_128 : decode cX1_group 128 = .ok (.iconst 0, 1) := by decide +kernel
theorem dX1_group_129 : decode cX1_group 129 = .ok (.istore_n 3, 1) := by decide +kernel
theorem dX1_group_130 : decode cX1_group 130 = .ok (.goto (-114), 3) := by decide +kernel
theorem dX1_group_133 : decode cX1_group 133 = .ok (.aload_n 0, 1) := by decide +kernel
theorem dX1_group_134 : decode cX1_group 134 = .ok (.invokevirtual 300, 3) := by decide +kernel
theorem dX1_group_137 : decode cX1_group 137 = .ok (.aload_n 0, 1) := by decide +kernel
theorem dX1_group_138 : decode cX1_group 138 = .ok (.aload_n 0, 1) := by decide +kernel
theorem dX1_group_139 : decode cX1_group 139 = .ok (.getfield 276, 3) := by decide +kernel
theorem dX1_group_142 : decode cX1_group 142 = .ok (.invokevirtual 279, 3) := by decide +kernel
theorem dX1_group_145 : decode cX1_group 145 = .ok (.istore 4, 2) := by decide +kernel
theorem dX1_group_147 : decode cX1_group 147 = .ok (.iload 4, 2) := by decide +kernel
theorem dX1_group_149 : decode cX1_group 149 = .ok (.bipush 41, 2) := by decide +kernel
theorem dX1_group_151 : decode cX1_group 151 = .ok (.if_icmp .ne 64, 3) := by decide +kernel
theorem dX1_group_154 : decode cX1_group 154 = .ok (.aload_n 0, 1) := by decide +kernel
theorem dX1_group_155 : decode cX1_group 155 = .ok (.dup, 1) := by decide +kernel
theorem dX1_group_156 : decode cX1_group 156 = .ok (.getfield 276, 3) := by decide +kernel
theorem dX1_group_159 : decode cX1_group 159 = .ok (.iconst 1, 1) := by decide +kernel
theorem dX1_group_160 : decode cX1_group 160 = .ok (.iadd, 1) := by decide +kernel
theorem dX1_group_161 : decode cX1_group 161 = .ok (.putfield 276, 3) := by decide +kernel
theorem dX1_group_164 : decode cX1_group 164 = .ok (.aload_n 0, 1) := by decide +kernel
theorem dX1_group_165 : decode cX1_group 165 = .ok (.aload_n 0, 1) := by decide +kernel
theorem dX1_group_166 : decode cX1_group 166 = .ok (.getfield 152, 3) := by decide +kernel
theorem dX1_group_169 : decode cX1_group 169 = .ok (.iload_n 2, 1) := by decide +kernel
theorem dX1_group_170 : decode cX1_group 170 = .ok (.baload, 1) := by decide +kernel
theorem dX1_group_171 : decode cX1_group 171 = .ok (.putfield 397, 3) := by decide +kernel
theorem dX1_group_174 : decode cX1_group 174 = .ok (.aload_n 0, 1) := by decide +kernel
theorem dX1_group_175 : decode cX1_group 175 = .ok (.aload_n 0, 1) := by decide +kernel
theorem dX1_group_176 : decode cX1_group 176 = .ok (.getfield 155, 3) := by decide +kernel
theorem dX1_group_179 : decode cX1_group 179 = .ok (.iload_n 2, 1) := by decide +kernel
theorem dX1_group_180 : decode cX1_group 180 = .ok (.laload, 1) := by decide +kernel
theorem dX1_group_181 : decode cX1_group 181 = .ok (.putfield 390, 3) := by decide +kernel
theorem dX1_group_184 : decode cX1_group 184 = .ok (.aload_n 0, 1) := by decide +kernel
theorem dX1_group_185 : decode cX1_group 185 = .ok (.aload_n 0, 1) := by decide +kernel
theorem dX1_group_186 : decode cX1_group 186 = .ok (.getfield 158, 3) := by decide +kernel
theorem dX1_group_189 : decode cX1_group 189 = .ok (.iload_n 2, 1) := by decide +kernel
theorem dX1_group_190 : decode cX1_group 190 = .ok (.laload, 1) := by decide +kernel
theorem dX1_group_191 : decode cX1_group 191 = .ok (.putfield 386, 3) := by decide +kernel
theorem dX1_group_194 : decode cX1_group 194 = .ok (.iinc 2 (-1), 3) := by decide +kernel
theorem dX1_group_197 : decode cX1_group 197 = .ok (.aload_n 0, 1) := by decide +kernel
theorem dX1_group_198 : decode cX1_group 198 = .ok (.iload_n 1, 1) := by decide +kernel
theorem dX1_group_199 : decode cX1_group 199 = .ok (.invokevirtual 403, 3) := by decide +kernel
theorem dX1_group_202 : decode cX1_group 202 = .ok (.iload_n 2, 1) := by decide +kernel
theorem dX1_group_203 : decode cX1_group 203 = .ok (.ifCond .lt 82, 3) := by decide +kernel
theorem dX1_group_206 : decode cX1_group 206 = .ok (.aload_n 0, 1) := by decide +kernel
theorem dX1_group_207 : decode cX1_group 207 = .ok (.iload_n 1, 1) := by decide +kernel
theorem dX1_group_208 : decode cX1_group 208 = .ok (.iload_n 2, 1) := by decide +kernel
theorem dX1_group_209 : decode cX1_group 209 = .ok (.invokevirtual 406, 3) := by decide +kernel
theorem dX1_group_212 : decode cX1_group 212 = .ok (.goto 73, 3) := by decide +kernel
theorem dX1_group_215 : decode cX1_group 215 = .ok (.iload 4, 2) := by decide +kernel
theorem dX1_group_217 : decode cX1_group 217 = .ok (.bipush 124, 2) := by decide +kernel
theorem dX1_group_219 : decode cX1_group 219 = .ok (.if_icmp .eq 10, 3) := by decide +kernel
theorem dX1_group_222 : decode cX1_group 222 = .ok (.iload 4, 2) := by decide +kernel
theorem dX1_group_224 : decode cX1_group 224 = .ok (.bipush 44, 2) := by decide +kernel
theorem dX1_group_226 : decode cX1_group 226 = .ok (.if_icmp .ne 50, 3) := by decide +kernel
theorem dX1_group_229 : decode cX1_group 229 = .ok (.aload_n 0, 1) := by decide +kernel
theorem dX1_group_230 : decode cX1_group 230 = .ok (.getfield 146, 3) := by decide +kernel
theorem dX1_group_233 : decode cX1_group 233 = .ok (.iload_n 2, 1) := by decide +kernel
theorem dX1_group_234 : decode cX1_group 234 = .ok (.iaload, 1) := by decide +kernel
theorem dX1_group_235 : decode cX1_group 235 = .ok (.ifCond .eq 14, 3) := by decide +kernel
theorem dX1_group_238 : decode cX1_group 238 = .ok (.aload_n 0, 1) := by decide +kernel
theorem dX1_group_239 : decode cX1_group 239 = .ok (.getfield 146, 3) := by decide +kernel
theorem dX1_group_242 : decode cX1_group 242 = .ok (.iload_n 2, 1) := by decide +kernel
theorem dX1_group_243 : decode cX1_group 243 = .ok (.iaload, 1) := by decide +kernel
theorem dX1_group_244 : decode cX1_group 244 = .ok (.iload 4, 2) := by decide +kernel
theorem dX1_group_246 : decode cX1_group 246 = .ok (.if_icmp .ne 30, 3) := by decide +kernel
theorem dX1_group_249 : decode cX1_group 249 = .ok (.aload_n 0, 1) := by decide +kernel
theorem dX1_group_250 : decode cX1_group 250 = .ok (.getfield 146, 3) := by decide +kernel
theorem dX1_group_253 : decode cX1_group 253 = .ok (.iload_n 2, 1) := by decide +kernel
theorem dX1_group_254 : decode cX1_group 254 = .ok (.iload 4, 2) := by decide +kernel
theorem dX1_group_256 : decode cX1_group 256 = .ok (.iastore, 1) := by decide +kernel
theorem dX1_group_257 : decode cX1_group 257 = .ok (.aload_n 0, 1) := by decide +kernel
theorem dX1_group_258 : decode cX1_group 258 = .ok (.dup, 1) := by decide +kernel
theorem dX1_group_259 : decode cX1_group 259 = .ok (.getfield 276, 3) := by decide +kernel
theorem dX1_group_262 : decode cX1_group 262 = .ok (.iconst 1, 1) := by decide +kernel
theorem dX1_group_263 : decode cX1_group 263 = .ok (.iadd, 1) := by decide +kernel
theorem dX1_group_264 : decode cX1_group 264 = .ok (.putfield 276, 3) := by decide +kernel
theorem dX1_group_267 : decode cX1_group 267 = .ok (.aload_n 0, 1) := by decide +kernel
theorem dX1_group_268 : decode cX1_group 268 = .ok (.invokevirtual 300, 3) := by decide +kernel
theorem dX1_group_271 : decode cX1_group 271 = .ok (.iconst 1, 1) := by decide +kernel
theorem dX1_group_272 : decode cX1_group 272 = .ok (.istore_n 3, 1) := by decide +kernel
theorem dX1_group_273 : decode cX1_group 273 = .ok (.goto 12, 3) := by decide +kernel
theorem dX1_group_276 : decode cX1_group 276 = .ok (.aload_n 0, 1) := by decide +kernel
theorem dX1_group_277 : decode cX1_group 277 = .ok (.iconst (-1), 1) := by decide +kernel
theorem dX1_group_278 : decode cX1_group 278 = .ok (.aload_n 0, 1) := by decide +kernel
theorem dX1_group_279 : decode cX1_group 279 = .ok (.getfield 276, 3) := by decide +kernel
theorem dX1_group_282 : decode cX1_group 282 = .ok (.invokevirtual 293, 3) := by decide +kernel
theorem dX1_group_285 : decode cX1_group 285 = .ok (.goto (-269), 3) := by decide +kernel
theorem dX1_group_288 : decode cX1_group 288 = .ok (.aload_n 0, 1) := by decide +kernel
theorem dX1_group_289 : decode cX1_group 289 = .ok (.getfield 91, 3) := by decide +kernel
theorem dX1_group_292 : decode cX1_group 292 = .ok (.iload_n 1, 1) := by decide +kernel
theorem dX1_group_293 : decode cX1_group 293 = .ok (.aload_n 0, 1) := by decide +kernel
theorem dX1_group_294 : decode cX1_group 294 = .ok (.getfield 390, 3) := by decide +kernel
theorem dX1_group_297 : decode cX1_group 297 = .ok (.lastore, 1) := by decide +kernel
theorem dX1_group_298 : decode cX1_group 298 = .ok (.aload_n 0, 1) := by decide +kernel
theorem dX1_group_299 : decode cX1_group 299 = .ok (.getfield 95, 3) := by decide +kernel
theorem dX1_group_302 : decode cX1_group 302 = .ok (.iload_n 1, 1) := by decide +kernel
theorem dX1_group_303 : decode cX1_group 303 = .ok (.aload_n 0, 1) := by decide +kernel
theorem dX1_group_304 : decode cX1_group 304 = .ok (.getfield 386, 3) := by decide +kernel
theorem dX1_group_307 : decode cX1_group 307 = .ok (.lastore, 1) := by decide +kernel
theorem dX1_group_308 : decode cX1_group 308 = .ok (.aload_n 0, 1) := by decide +kernel
theorem dX1_group_309 : decode cX1_group 309 = .ok (.getfield 98, 3) := by decide +kernel
theorem dX1_group_312 : decode cX1_group 312 = .ok (.iload_n 1, 1) := by decide +kernel
theorem dX1_group_313 : decode cX1_group 313 = .ok (.aload_n 0, 1) := by decide +kernel
theorem dX1_group_314 : decode cX1_group 314 = .ok (.getfield 397, 3) := by decide +kernel
theorem dX1_group_317 : decode cX1_group 317 = .ok (.bastore, 1) := by decide +kernel
theorem dX1_group_318 : decode cX1_group 318 = .ok (.return_, 1) := by decide +kernel
def m_group_288 (σ : MEM) (x1 : Int) : Option zm_O := ck (0 ≤ x1 ∧ x1 < 60) (nu (mup σ 33 x1 (σ (-1) 60)) (fun σ2 => ck (0 ≤ x1 ∧ x1 < 60) (nu (mup σ2 34 x1 (σ2 (-1) 61)) (fun σ4 => ck (0 ≤ x1 ∧ x1 < 60) (nu (mup σ4 35 x1 (σ4 (-1) 59)) (fun σ6 => some (0, σ6)))))))
theorem w_group_288 {C : zv_Cx zm_O} {G : zm_G} (h : zv_Ok C cX1_group RX1) (hc : zm_C C G 5 (Option.none : Option FieldType) 0 5 109) (σ : MEM) (x1 : Int) (hx1 : inR x1) : VV C (m_group_288 σ x1) σ [(0, .ref (zm_h G)), (1, iv x1)] [] 288 := by
  have hN : ∀ i, i < 5 → i < zv_n C := fun i q => by rw [hc.2.2.1]; exact q
  unfold m_group_288
  refine r_aload_n h 0 dX1_group_288 rfl rfl ?_
  refine zm_getA h hc 33 (by decide) rfl q1513 rfl dX1_group_289 ?_
  refine r_iload_n h 1 dX1_group_292 rfl rfl ?_
  refine r_aload_n h 0 dX1_group_293 rfl rfl ?_
  refine zm_getJ h hc 60 60 (by decide) rfl rfl q1539 rfl dX1_group_294 (fun hr1 => ?_)
  refine zm_stJ h hc 33 33 60 (by decide) rfl rfl rfl (by decide) hr1 dX1_group_297 (fun _ σ2 _ => ?_)
  refine r_aload_n h 0 dX1_group_298 rfl rfl ?_
  refine zm_getA h hc 34 (by decide) rfl q1514 rfl dX1_group_299 ?_
  refine r_iload_n h 1 dX1_group_302 rfl rfl ?_
  refine r_aload_n h 0 dX1_group_303 rfl rfl ?_
  refine zm_getJ h hc 61 61 (by decide) rfl rfl q1540 rfl dX1_group_304 (fun hr3 => ?_)
  refine zm_stJ h hc 34 34 60 (by decide) rfl rfl rfl (by decide) hr3 dX1_group_307 (fun _ σ4 _ => ?_)
  refine r_aload_n h 0 dX1_group_308 rfl rfl ?_
  refine zm_getA h hc 35 (by decide) rfl q1515 rfl dX1_group_309 ?_
  refine r_iload_n h 1 dX1_group_312 rfl rfl ?_
  refine r_aload_n h 0 dX1_group_313 rfl rfl ?_
  refine zm_getZ h hc 59 59 (by decide) rfl rfl q1538 rfl dX1_group_314 (fun hr5 => ?_)
  refine zm_stZ h hc 35 35 60 (by decide) rfl rfl rfl (by decide) hr5 dX1_group_317 (fun _ σ6 _ => ?_)
  exact zm_vret h hc rfl dX1_group_318
def m_group_276 (lp16 : MEM → Int → Int → Int → Option zm_O) (σ : MEM) (x1 x2 x3 : Int) : Option zm_O := bd (m_fail σ (-1) (σ (-1) 4)) (fun _ σ2 => lp16 σ2 x1 x2 x3)
theorem w_group_276 {C : zv_Cx zm_O} {G : zm_G} (h : zv_Ok C cX1_group RX1) (hc : zm_C C G 5 (Option.none : Option FieldType) 0 5 109) (lp16 : MEM → Int → Int → Int → Option zm_O) (hlp16 : ∀ (σ : MEM) (x1 x2 x3 : Int), inR x1 → inR x2 → isB x3 → VV C (lp16 σ x1 x2 x3) σ [(0, .ref (zm_h G)), (1, iv x1), (2, iv x2), (3, iv x3)] [] 16) (σ : MEM) (x1 x2 x3 : Int) (hx1 : inR x1) (hx2 : inR x2) (hx3 : isB x3) : VV C (m_group_276 lp16 σ x1 x2 x3) σ [(0, .ref (zm_h G)), (1, iv x1), (2, iv x2), (3, iv x3)] [] 276 := by
  have hN : ∀ i, i < 5 → i < zv_n C := fun i q => by rw [hc.2.2.1]; exact q
  unfold m_group_276
  refine r_aload_n h 0 dX1_group_276 rfl rfl ?_
  refine r_iconst h dX1_group_277 ?_
  refine r_aload_n h 0 dX1_group_278 rfl rfl ?_
  refine zm_getI h hc 4 4 (by decide) rfl rfl q1484 rfl dX1_group_279 (fun hr1 => ?_)
  refine zm_cVv h hc (n := 2) (As := [iv (-1), iv (σ (-1) 4)]) (fun o1 e1 => w_fail hc.1 _ (-1) (σ (-1) 4) (by decide) hr1 o1 e1) q1805 q1807 qs57 q136 q1808 (by decide +kernel) ⟨by decide, by decide⟩ rfl (Nat.le_of_ble_eq_true rfl) rfl dX1_group_282 (fun σ2  => ?_)
  refine r_goto h 16 dX1_group_285 rfl ?_
  exact r_lv [0, 1, 2, 3] rfl (hlp16 _ x1 x2 x3 hx1 hx2 hx3)
def m_group_249 (lp16 : MEM → Int → Int → Int → Option zm_O) (σ : MEM) (x1 x2 x4 : Int) : Option zm_O := ck (0 ≤ x2 ∧ x2 < 8) (nu (mup σ 54 x2 x4) (fun σ1 => ck (inR ((σ1 (-1) 4) + 1)) (nu (mup σ1 (-1) 4 ((σ1 (-1) 4) + 1)) (fun σ4 => bd (m_maybeS σ4) (fun _ σ5 => lp16 σ5 x1 x2 1)))))
theorem w_group_249 {C : zv_Cx zm_O} {G : zm_G} (h : zv_Ok C cX1_group RX1) (hc : zm_C C G 5 (Option.none : Option FieldType) 0 5 109) (lp16 : MEM → Int → Int → Int → Option zm_O) (hlp16 : ∀ (σ : MEM) (x1 x2 x3 : Int), inR x1 → inR x2 → isB x3 → VV C (lp16 σ x1 x2 x3) σ [(0, .ref (zm_h G)), (1, iv x1), (2, iv x2), (3, iv x3)] [] 16) (σ : MEM) (x1 x2 x4 : Int) (hx1 : inR x1) (hx2 : inR x2) (hx4 : inR x4) : VV C (m_group_249 lp16 σ x1 x2 x4) σ [(0, .ref (zm_h G)), (1, iv x1), (2, iv x2), (4, iv x4)] [] 249 := by
  have hN : ∀ i, i < 5 → i < zv_n C := fun i q => by rw [hc.2.2.1]; exact q
  unfold m_group_249
  refine r_aload_n h 0 dX1_group_249 rfl rfl ?_
  refine zm_getA h hc 54 (by decide) rfl q1533 rfl dX1_group_250 ?_
  refine r_iload_n h 2 dX1_group_253 rfl rfl ?_
  refine r_iload h 3 dX1_group_254 rfl ?_
  refine zm_stI h hc 54 54 8 (by decide) rfl rfl rfl (by decide) hx4 dX1_group_256 (fun _ σ1 _ => ?_)
  refine r_aload_n h 0 dX1_group_257 rfl rfl ?_
  refine r_dup h dX1_group_258 rfl ?_
  refine zm_getI h hc 4 4 (by decide) rfl rfl q1484 rfl dX1_group_259 (fun hr2 => ?_)
  refine r_iconst h dX1_group_262 ?_
  refine r_iadd h dX1_group_263 ?_
  refine r_ck (fun hk3 => ?_)
  refine zm_putI h hc 4 4 (by decide) rfl rfl q1484 ⟨rfl, rfl, by decide +kernel⟩ hk3 dX1_group_264 (fun σ4 _ => ?_)
  refine r_aload_n h 0 dX1_group_267 rfl rfl ?_
  refine zm_cVv h hc (n := 0) (As := []) (fun o1 e1 => w_maybeS hc.1 _ o1 e1) q1813 q1815 qs59 q136 q1816 (by decide +kernel) ⟨by decide, by decide⟩ rfl (Nat.le_of_ble_eq_true rfl) rfl dX1_group_268 (fun σ5  => ?_)
  refine r_iconst h dX1_group_271 ?_
  refine r_istore_n (lv' := [(3, iv 1), (0, .ref (zm_h G)), (1, iv x1), (2, iv x2), (4, iv x4)]) h dX1_group_272 rfl (hN _ (by decide)) rfl ?_
  refine r_goto h 285 dX1_group_273 rfl ?_
  refine r_goto h 16 dX1_group_285 rfl ?_
  exact r_lv [1, 2, 3, 0] rfl (hlp16 _ x1 x2 1 hx1 hx2 (by decide))
def m_group_229 (lp16 : MEM → Int → Int → Int → Option zm_O) (σ : MEM) (x1 x2 x3 x4 : Int) : Option zm_O := ck (0 ≤ x2 ∧ x2 < 8) (if (σ 54 x2) = 0 then (m_group_249 lp16 σ x1 x2 x4) else (ck (0 ≤ x2 ∧ x2 < 8) (if (σ 54 x2) = x4 then (m_group_249 lp16 σ x1 x2 x4) else (m_group_276 lp16 σ x1 x2 x3))))
theorem w_group_229 {C : zv_Cx zm_O} {G : zm_G} (h : zv_Ok C cX1_group RX1) (hc : zm_C C G 5 (Option.none : Option FieldType) 0 5 109) (lp16 : MEM → Int → Int → Int → Option zm_O) (hlp16 : ∀ (σ : MEM) (x1 x2 x3 : Int), inR x1 → inR x2 → isB x3 → VV C (lp16 σ x1 x2 x3) σ [(0, .ref (zm_h G)), (1, iv x1), (2, iv x2), (3, iv x3)] [] 16) (σ : MEM) (x1 x2 x3 x4 : Int) (hx1 : inR x1) (hx2 : inR x2) (hx3 : isB x3) (hx4 : inR x4) : VV C (m_group_229 lp16 σ x1 x2 x3 x4) σ [(0, .ref (zm_h G)), (1, iv x1), (2, iv x2), (3, iv x3), (4, iv x4)] [] 229 := by
  have hN : ∀ i, i < 5 → i < zv_n C := fun i q => by rw [hc.2.2.1]; exact q
  unfold m_group_229
  refine r_aload_n h 0 dX1_group_229 rfl rfl ?_
  refine zm_getA h hc 54 (by decide) rfl q1533 rfl dX1_group_230 ?_
  refine r_iload_n h 2 dX1_group_233 rfl rfl ?_
  refine zm_ldI h hc 54 54 8 (by decide) rfl rfl rfl (by decide) dX1_group_234 (fun _ hr1 => ?_)
  refine r_if_eq h hr1 249 dX1_group_235 rfl ?_ ?_
  · exact r_lv [0, 1, 2, 4] rfl (w_group_249 h hc lp16 hlp16 _ x1 x2 x4 hx1 hx2 hx4)
  · refine r_aload_n h 0 dX1_group_238 rfl rfl ?_
    refine zm_getA h hc 54 (by decide) rfl q1533 rfl dX1_group_239 ?_
    refine r_iload_n h 2 dX1_group_242 rfl rfl ?_
    refine zm_ldI h hc 54 54 8 (by decide) rfl rfl rfl (by decide) dX1_group_243 (fun _ hr2 => ?_)
    refine r_iload h 4 dX1_group_244 rfl ?_
    refine r_icmp_ne h hr2 hx4 276 dX1_group_246 rfl ?_ ?_
    · exact r_lv [0, 1, 2, 4] rfl (w_group_249 h hc lp16 hlp16 _ x1 x2 x4 hx1 hx2 hx4)
    · exact r_lv [0, 1, 2, 3] rfl (w_group_276 h hc lp16 hlp16 _ x1 x2 x3 hx1 hx2 hx3)
def m_group_85 (lp16 : MEM → Int → Int → Int → Option zm_O) (σ : MEM) (x1 x2 x3 : Int) : Option zm_O := if x3 = 0 then (bd (m_maybeS σ) (fun _ σ1 => bd (m_octet σ1 (σ1 (-1) 4)) (fun r3 σ4 => if r3 = 41 then (ck (inR ((σ4 (-1) 4) + 1)) (nu (mup σ4 (-1) 4 ((σ4 (-1) 4) + 1)) (fun σ8 => ck (0 ≤ x2 ∧ x2 < 8) (nu (mup σ8 (-1) 59 (σ8 56 x2)) (fun σ10 => ck (0 ≤ x2 ∧ x2 < 8) (nu (mup σ10 (-1) 60 (σ10 57 x2)) (fun σ12 => ck (0 ≤ x2 ∧ x2 < 8) (nu (mup σ12 (-1) 61 (σ12 58 x2)) (fun σ14 => bd (m_mark σ14 x1) (fun _ σ15 => ck (inR (x2 + (-1))) (if (x2 + (-1)) < 0 then (lp16 σ15 x1 (x2 + (-1)) x3) else (bd (m_comes σ15 x1 (x2 + (-1))) (fun _ σ17 => lp16 σ17 x1 (x2 + (-1)) x3))))))))))))) else (if r3 = 124 then (m_group_229 lp16 σ4 x1 x2 x3 r3) else (if r3 = 44 then (m_group_229 lp16 σ4 x1 x2 x3 r3) else (m_group_276 lp16 σ4 x1 x2 x3)))))) else (bd (m_specName σ x1) (fun r18 σ19 => nu (mup σ19 (-1) 59 0) (fun σ21 => nu (mup σ21 (-1) 60 (j_shl 1 r18)) (fun σ22 => nu (mup σ22 (-1) 61 (j_shl 1 r18)) (fun σ23 => bd (m_mark σ23 x1) (fun _ σ24 => bd (m_comes σ24 x1 x2) (fun _ σ25 => lp16 σ25 x1 x2 0)))))))
theorem w_group_85 {C : zv_Cx zm_O} {G : zm_G} (h : zv_Ok C cX1_group RX1) (hc : zm_C C G 5 (Option.none : Option FieldType) 0 5 109) (lp16 : MEM → Int → Int → Int → Option zm_O) (hlp16 : ∀ (σ : MEM) (x1 x2 x3 : Int), inR x1 → inR x2 → isB x3 → VV C (lp16 σ x1 x2 x3) σ [(0, .ref (zm_h G)), (1, iv x1), (2, iv x2), (3, iv x3)] [] 16) (σ : MEM) (x1 x2 x3 : Int) (hx1 : inR x1) (hx2 : inR x2) (hx3 : isB x3) : VV C (m_group_85 lp16 σ x1 x2 x3) σ [(0, .ref (zm_h G)), (1, iv x1), (2, iv x2), (3, iv x3)] [] 85 := by
  have hN : ∀ i, i < 5 → i < zv_n C := fun i q => by rw [hc.2.2.1]; exact q
  unfold m_group_85
  refine r_iload_n h 3 dX1_group_85 rfl rfl ?_
  refine r_if_eq h hx3.r 133 dX1_group_86 rfl ?_ ?_
  · refine r_aload_n h 0 dX1_group_133 rfl rfl ?_
    refine zm_cVv h hc (n := 0) (As := []) (fun o1 e1 => w_maybeS hc.1 _ o1 e1) q1813 q1815 qs59 q136 q1816 (by decide +kernel) ⟨by decide, by decide⟩ rfl (Nat.le_of_ble_eq_true rfl) rfl dX1_group_134 (fun σ1  => ?_)
    refine r_aload_n h 0 dX1_group_137 rfl rfl ?_
    refine r_aload_n h 0 dX1_group_138 rfl rfl ?_
    refine zm_getI h hc 4 4 (by decide) rfl rfl q1484 rfl dX1_group_139 (fun hr2 => ?_)
    refine zm_cVi h hc (n := 1) (As := [iv (σ1 (-1) 4)]) (fun o1 e1 => w_octet hc.1 _ (σ1 (-1) 4) hr2 o1 e1) q1817 q1819 qs60 q136 q1820 (by decide +kernel) ⟨by decide, by decide⟩ rfl (Nat.le_of_ble_eq_true rfl) rfl dX1_group_142 (fun r3 σ4 hr5 => ?_)
    refine r_istore (lv' := [(4, iv r3), (0, .ref (zm_h G)), (1, iv x1), (2, iv x2), (3, iv x3)]) h dX1_group_145 (hN _ (by decide)) rfl ?_
    refine r_iload h 0 dX1_group_147 rfl ?_
    refine r_bipush h dX1_group_149 (by decide) ?_
    refine r_icmp_ne h hr5 (by decide) 215 dX1_group_151 rfl ?_ ?_
    · refine r_aload_n h 1 dX1_group_154 rfl rfl ?_
      refine r_dup h dX1_group_155 rfl ?_
      refine zm_getI h hc 4 4 (by decide) rfl rfl q1484 rfl dX1_group_156 (fun hr6 => ?_)
      refine r_iconst h dX1_group_159 ?_
      refine r_iadd h dX1_group_160 ?_
      refine r_ck (fun hk7 => ?_)
      refine zm_putI h hc 4 4 (by decide) rfl rfl q1484 ⟨rfl, rfl, by decide +kernel⟩ hk7 dX1_group_161 (fun σ8 _ => ?_)
      refine r_aload_n h 1 dX1_group_164 rfl rfl ?_
      refine r_aload_n h 1 dX1_group_165 rfl rfl ?_
      refine zm_getA h hc 56 (by decide) rfl q1535 rfl dX1_group_166 ?_
      refine r_iload_n h 3 dX1_group_169 rfl rfl ?_
      refine zm_ldZ h hc 56 56 8 (by decide) rfl rfl rfl (by decide) dX1_group_170 (fun _ hr9 => ?_)
      refine zm_putZ h hc 59 59 (by decide) rfl rfl q1538 ⟨rfl, rfl, by decide +kernel⟩ hr9 dX1_group_171 (fun σ10 _ => ?_)
      refine r_aload_n h 1 dX1_group_174 rfl rfl ?_
      refine r_aload_n h 1 dX1_group_175 rfl rfl ?_
      refine zm_getA h hc 57 (by decide) rfl q1536 rfl dX1_group_176 ?_
      refine r_iload_n h 3 dX1_group_179 rfl rfl ?_
      refine zm_ldJ h hc 57 57 8 (by decide) rfl rfl rfl (by decide) dX1_group_180 (fun _ hr11 => ?_)
      refine zm_putJ h hc 60 60 (by decide) rfl rfl q1539 ⟨rfl, rfl, by decide +kernel⟩ hr11 dX1_group_181 (fun σ12 _ => ?_)
      refine r_aload_n h 1 dX1_group_184 rfl rfl ?_
      refine r_aload_n h 1 dX1_group_185 rfl rfl ?_
      refine zm_getA h hc 58 (by decide) rfl q1537 rfl dX1_group_186 ?_
      refine r_iload_n h 3 dX1_group_189 rfl rfl ?_
      refine zm_ldJ h hc 58 58 8 (by decide) rfl rfl rfl (by decide) dX1_group_190 (fun _ hr13 => ?_)
      refine zm_putJ h hc 61 61 (by decide) rfl rfl q1540 ⟨rfl, rfl, by decide +kernel⟩ hr13 dX1_group_191 (fun σ14 _ => ?_)
      refine r_iinc (lv' := [(2, iv (x2 + (-1))), (4, iv r3), (0, .ref (zm_h G)), (1, iv x1), (3, iv x3)]) h 3 dX1_group_194 rfl (hN _ (by decide)) rfl ?_
      refine r_aload_n h 2 dX1_group_197 rfl rfl ?_
      refine r_iload_n h 3 dX1_group_198 rfl rfl ?_
      refine zm_cVv h hc (n := 1) (As := [iv x1]) (fun o1 e1 => w_mark hc.1 _ x1 hx1 o1 e1) q1899 q1901 qs73 q136 q1902 (by decide +kernel) ⟨by decide, by decide⟩ rfl (Nat.le_of_ble_eq_true rfl) rfl dX1_group_199 (fun σ15  => ?_)
      refine r_iload_n h 0 dX1_group_202 rfl rfl ?_
      refine r_ck (fun hk16 => ?_)
      refine r_if_lt h hk16 285 dX1_group_203 rfl ?_ ?_
      · refine r_goto h 16 dX1_group_285 rfl ?_
        exact r_lv [2, 3, 0, 4] rfl (hlp16 _ x1 (x2 + (-1)) x3 hx1 hk16 hx3)
      · refine r_aload_n h 2 dX1_group_206 rfl rfl ?_
        refine r_iload_n h 3 dX1_group_207 rfl rfl ?_
        refine r_iload_n h 0 dX1_group_208 rfl rfl ?_
        refine zm_cVv h hc (n := 2) (As := [iv x1, iv (x2 + (-1))]) (fun o1 e1 => w_comes hc.1 _ x1 (x2 + (-1)) hx1 hk16 o1 e1) q1907 q1909 qs75 q136 q1910 (by decide +kernel) ⟨by decide, by decide⟩ rfl (Nat.le_of_ble_eq_true rfl) rfl dX1_group_209 (fun σ17  => ?_)
        refine r_goto h 285 dX1_group_212 rfl ?_
        refine r_goto h 16 dX1_group_285 rfl ?_
        exact r_lv [2, 3, 0, 4] rfl (hlp16 _ x1 (x2 + (-1)) x3 hx1 hk16 hx3)
    · refine r_iload h 0 dX1_group_215 rfl ?_
      refine r_bipush h dX1_group_217 (by decide) ?_
      refine r_icmp_eq h hr5 (by decide) 229 dX1_group_219 rfl ?_ ?_
      · exact r_lv [1, 2, 3, 4, 0] rfl (w_group_229 h hc lp16 hlp16 _ x1 x2 x3 r3 hx1 hx2 hx3 hr5)
      · refine r_iload h 0 dX1_group_222 rfl ?_
        refine r_bipush h dX1_group_224 (by decide) ?_
        refine r_icmp_ne h hr5 (by decide) 276 dX1_group_226 rfl ?_ ?_
        · exact r_lv [1, 2, 3, 4, 0] rfl (w_group_229 h hc lp16 hlp16 _ x1 x2 x3 r3 hx1 hx2 hx3 hr5)
        · exact r_lv [1, 2, 3, 4] rfl (w_group_276 h hc lp16 hlp16 _ x1 x2 x3 hx1 hx2 hx3)
  · refine r_aload_n h 0 dX1_group_89 rfl rfl ?_
    refine r_iload_n h 1 dX1_group_90 rfl rfl ?_
    refine zm_cVi h hc (n := 1) (As := [iv x1]) (fun o1 e1 => w_specName hc.1 _ x1 hx1 o1 e1) q1887 q1889 qs70 q136 q1890 (by decide +kernel) ⟨by decide, by decide⟩ rfl (Nat.le_of_ble_eq_true rfl) rfl dX1_group_91 (fun r18 σ19 hr20 => ?_)
    refine r_istore (lv' := [(4, iv r18), (0, .ref (zm_h G)), (1, iv x1), (2, iv x2), (3, iv x3)]) h dX1_group_94 (hN _ (by decide)) rfl ?_
    refine r_aload_n h 1 dX1_group_96 rfl rfl ?_
    refine r_iconst h dX1_group_97 ?_
    refine zm_putZ h hc 59 59 (by decide) rfl rfl q1538 ⟨rfl, rfl, by decide +kernel⟩ (by decide) dX1_group_98 (fun σ21 _ => ?_)
    refine r_aload_n h 1 dX1_group_101 rfl rfl ?_
    refine r_lconst (x := 1) h dX1_group_102 (by decide) ?_
    refine r_iload h 0 dX1_group_103 rfl ?_
    refine r_lshl h dX1_group_105 ?_
    refine zm_putJ h hc 60 60 (by decide) rfl rfl q1539 ⟨rfl, rfl, by decide +kernel⟩ (inL_t _) dX1_group_106 (fun σ22 _ => ?_)
    refine r_aload_n h 1 dX1_group_109 rfl rfl ?_
    refine r_lconst (x := 1) h dX1_group_110 (by decide) ?_
    refine r_iload h 0 dX1_group_111 rfl ?_
    refine r_lshl h dX1_group_113 ?_
    refine zm_putJ h hc 61 61 (by decide) rfl rfl q1540 ⟨rfl, rfl, by decide +kernel⟩ (inL_t _) dX1_group_114 (fun σ23 _ => ?_)
    refine r_aload_n h 1 dX1_group_117 rfl rfl ?_
    refine r_iload_n h 2 dX1_group_118 rfl rfl ?_
    refine zm_cVv h hc (n := 1) (As := [iv x1]) (fun o1 e1 => w_mark hc.1 _ x1 hx1 o1 e1) q1899 q1901 qs73 q136 q1902 (by decide +kernel) ⟨by decide, by decide⟩ rfl (Nat.le_of_ble_eq_true rfl) rfl dX1_group_119 (fun σ24  => ?_)
    refine r_aload_n h 1 dX1_group_122 rfl rfl ?_
    refine r_iload_n h 2 dX1_group_123 rfl rfl ?_
    refine r_iload_n h 3 dX1_group_124 rfl rfl ?_
    refine zm_cVv h hc (n := 2) (As := [iv x1, iv x2]) (fun o1 e1 => w_comes hc.1 _ x1 x2 hx1 hx2 o1 e1) q1907 q1909 qs75 q136 q1910 (by decide +kernel) ⟨by decide, by decide⟩ rfl (Nat.le_of_ble_eq_true rfl) rfl dX1_group_125 (fun σ25  => ?_)
    refine r_iconst h dX1_group_128 ?_
    refine r_istore_n (lv' := [(3, iv 0), (4, iv r18), (0, .ref (zm_h G)), (1, iv x1), (2, iv x2)]) h dX1_group_129 rfl (hN _ (by decide)) rfl ?_
    refine r_goto h 16 dX1_group_130 rfl ?_
    exact r_lv [2, 3, 4, 0] rfl (hlp16 _ x1 x2 0 hx1 hx2 (by decide))
def m_group_16 : Nat → MEM → Int → Int → Int → Option zm_O
  | 0, _, _, _, _ => none
  | n + 1, σ, x1, x2, x3 => bd (m_isGood σ) (fun r1 σ2 => if r1 = 0 then (m_group_288 σ2 x1) else (if x2 < 0 then (m_group_288 σ2 x1) else (if x3 = 0 then (m_group_85 (m_group_16 n) σ2 x1 x2 x3) else (bd (m_octet σ2 (σ2 (-1) 4)) (fun r5 σ6 => if r5 = 40 then (if x2 = 5 then (bd (m_fail σ6 (-3) (σ6 (-1) 4)) (fun _ σ9 => some (0, σ9))) else (ck (inR ((σ6 (-1) 4) + 1)) (nu (mup σ6 (-1) 4 ((σ6 (-1) 4) + 1)) (fun σ12 => bd (m_maybeS σ12) (fun _ σ13 => ck (inR (x2 + 1)) (bd (m_openGroup σ13 (x2 + 1)) (fun _ σ15 => m_group_16 n σ15 x1 (x2 + 1) x3))))))) else (m_group_85 (m_group_16 n) σ6 x1 x2 x3))))))
theorem w_group_16 {C : zv_Cx zm_O} {G : zm_G} (h : zv_Ok C cX1_group RX1) (hc : zm_C C G 5 (Option.none : Option FieldType) 0 5 109) : ∀ (n : Nat) (σ : MEM) (x1 x2 x3 : Int), inR x1 → inR x2 → isB x3 → VV C (m_group_16 n σ x1 x2 x3) σ [(0, .ref (zm_h G)), (1, iv x1), (2, iv x2), (3, iv x3)] [] 16 := by
  have hN : ∀ i, i < 5 → i < zv_n C := fun i q => by rw [hc.2.2.1]; exact q
  intro n
  induction n with
  | zero => intros; exact r_none
  | succ n ih =>
    intro σ x1 x2 x3 hx1 hx2 hx3
    rw [m_group_16]
    refine r_aload_n h 0 dX1_group_16 rfl rfl ?_
    refine zm_cVz h hc (n := 0) (As := []) (fun o1 e1 => w_isGood hc.1 _ o1 e1) q1801 q1803 qs56 q136 q1804 (by decide +kernel) ⟨by decide, by decide⟩ rfl (Nat.le_of_ble_eq_true rfl) rfl dX1_group_17 (fun r1 σ2 hr3 => ?_)
    refine r_if_eq h hr3.r 288 dX1_group_20 rfl ?_ ?_
    · exact r_lv [0, 1] rfl (w_group_288 h hc _ x1 hx1)
    · refine r_iload_n h 2 dX1_group_23 rfl rfl ?_
      refine r_if_lt h hx2 288 dX1_group_24 rfl ?_ ?_
      · exact r_lv [0, 1] rfl (w_group_288 h hc _ x1 hx1)
      · refine r_iload_n h 3 dX1_group_27 rfl rfl ?_
        refine r_if_eq h hx3.r 85 dX1_group_28 rfl ?_ ?_
        · exact r_lv [0, 1, 2, 3] rfl (w_group_85 h hc (m_group_16 n) ih _ x1 x2 x3 hx1 hx2 hx3)
        · refine r_aload_n h 0 dX1_group_31 rfl rfl ?_
          refine r_aload_n h 0 dX1_group_32 rfl rfl ?_
          refine zm_getI h hc 4 4 (by decide) rfl rfl q1484 rfl dX1_group_33 (fun hr4 => ?_)
          refine zm_cVi h hc (n := 1) (As := [iv (σ2 (-1) 4)]) (fun o1 e1 => w_octet hc.1 _ (σ2 (-1) 4) hr4 o1 e1) q1817 q1819 qs60 q136 q1820 (by decide +kernel) ⟨by decide, by decide⟩ rfl (Nat.le_of_ble_eq_true rfl) rfl dX1_group_36 (fun r5 σ6 hr7 => ?_)
          refine r_bipush h dX1_group_39 (by decide) ?_
          refine r_icmp_ne h hr7 (by decide) 85 dX1_group_41 rfl ?_ ?_
          · refine r_iload_n h 2 dX1_group_44 rfl rfl ?_
            refine r_iconst h dX1_group_45 ?_
            refine r_icmp_ne h hx2 (by decide) 60 dX1_group_46 rfl ?_ ?_
            · refine r_aload_n h 0 dX1_group_49 rfl rfl ?_
              refine r_bipush h dX1_group_50 (by decide) ?_
              refine r_aload_n h 0 dX1_group_52 rfl rfl ?_
              refine zm_getI h hc 4 4 (by decide) rfl rfl q1484 rfl dX1_group_53 (fun hr8 => ?_)
              refine zm_cVv h hc (n := 2) (As := [iv (-3), iv (σ6 (-1) 4)]) (fun o1 e1 => w_fail hc.1 _ (-3) (σ6 (-1) 4) (by decide) hr8 o1 e1) q1805 q1807 qs57 q136 q1808 (by decide +kernel) ⟨by decide, by decide⟩ rfl (Nat.le_of_ble_eq_true rfl) rfl dX1_group_56 (fun σ9  => ?_)
              exact zm_vret h hc rfl dX1_group_59
            · refine r_aload_n h 0 dX1_group_60 rfl rfl ?_
              refine r_dup h dX1_group_61 rfl ?_
              refine zm_getI h hc 4 4 (by decide) rfl rfl q1484 rfl dX1_group_62 (fun hr10 => ?_)
              refine r_iconst h dX1_group_65 ?_
              refine r_iadd h dX1_group_66 ?_
              refine r_ck (fun hk11 => ?_)
              refine zm_putI h hc 4 4 (by decide) rfl rfl q1484 ⟨rfl, rfl, by decide +kernel⟩ hk11 dX1_group_67 (fun σ12 _ => ?_)
              refine r_aload_n h 0 dX1_group_70 rfl rfl ?_
              refine zm_cVv h hc (n := 0) (As := []) (fun o1 e1 => w_maybeS hc.1 _ o1 e1) q1813 q1815 qs59 q136 q1816 (by decide +kernel) ⟨by decide, by decide⟩ rfl (Nat.le_of_ble_eq_true rfl) rfl dX1_group_71 (fun σ13  => ?_)
              refine r_iinc (lv' := [(2, iv (x2 + 1)), (0, .ref (zm_h G)), (1, iv x1), (3, iv x3)]) h 2 dX1_group_74 rfl (hN _ (by decide)) rfl ?_
              refine r_aload_n h 1 dX1_group_77 rfl rfl ?_
              refine r_iload_n h 0 dX1_group_78 rfl rfl ?_
              refine r_ck (fun hk14 => ?_)
              refine zm_cVv h hc (n := 1) (As := [iv (x2 + 1)]) (fun o1 e1 => w_openGroup hc.1 _ (x2 + 1) hk14 o1 e1) q1895 q1897 qs72 q136 q1898 (by decide +kernel) ⟨by decide, by decide⟩ rfl (Nat.le_of_ble_eq_true rfl) rfl dX1_group_79 (fun σ15  => ?_)
              refine r_goto h 16 dX1_group_82 rfl ?_
              exact r_lv [1, 2, 0, 3] rfl (ih _ x1 (x2 + 1) x3 hx1 hk14 hx3)
          · exact r_lv [0, 1, 2, 3] rfl (w_group_85 h hc (m_group_16 n) ih _ x1 x2 x3 hx1 hx2 hx3)
def m_group (σ : MEM) (a0 : Int) : Option zm_O := ck (0 ≤ a0 ∧ a0 < 60) (nu (mup σ 29 a0 3) (fun σ1 => bd (m_openGroup σ1 0) (fun _ σ2 => m_group_16 zF σ2 a0 0 1)))
theorem w_group {G : zm_G} (hD : zm_D G) (σ : MEM) (a0 : Int) (ha0 : inR a0) (o : zm_O) (hd : m_group σ a0 = some o) : zm_Met G yX1_group cX1_group 5 (Option.none : Option FieldType) 0 5 109 σ [.ref (zm_h G), iv a0] o := by
  refine zm_intro hD hd (by decide) rfl (Nat.le_of_ble_eq_true rfl) rfl (fun C h hc => ?_)
  have hN : ∀ i, i < 5 → i < zv_n C := fun i q => by rw [hc.2.2.1]; exact q
  unfold m_group
  refine r_aload_n h 0 dX1_group_0 rfl rfl ?_
  refine zm_getA h hc 29 (by decide) rfl q1509 rfl dX1_group_1 ?_
  refine r_iload_n h 1 dX1_group_4 rfl rfl ?_
  refine r_iconst h dX1_group_5 ?_
  refine zm_stI h hc 29 29 60 (by decide) rfl rfl rfl (by decide) (by decide) dX1_group_6 (fun _ σ1 _ => ?_)
  refine r_iconst h dX1_group_7 ?_
  refine r_istore_n (lv' := [(2, iv 0), (0, .ref (zm_h G)), (1, iv a0)]) h dX1_group_8 rfl (hN _ (by decide)) rfl ?_
  refine r_aload_n h 1 dX1_group_9 rfl rfl ?_
  refine r_iconst h dX1_group_10 ?_
  refine zm_cVv h hc (n := 1) (As := [iv 0]) (fun o1 e1 => w_openGroup hc.1 _ 0 (by decide) o1 e1) q1895 q1897 qs72 q136 q1898 (by decide +kernel) ⟨by decide, by decide⟩ rfl (Nat.le_of_ble_eq_true rfl) rfl dX1_group_11 (fun σ2  => ?_)
  refine r_iconst h dX1_group_14 ?_
  refine r_istore_n (lv' := [(3, iv 1), (2, iv 0), (0, .ref (zm_h G)), (1, iv a0)]) h dX1_group_15 rfl (hN _ (by decide)) rfl ?_
  exact r_lv [2, 3, 1, 0] rfl (w_group_16 h hc zF _ a0 0 1 ha0 (by decide) (by decide))
theorem dX1_declaration_0 : decode cX1_declaration 0 = .ok (.aload_n 0, 1) := by decide +kernel
theorem dX1_declaration_1 : decode cX1_declaration 1 = .ok (.getfield 70, 3) := by decide +kernel
theorem dX1_declaration_4 : decode cX1_declaration 4 = .ok (.aload_n 0, 1) := by decide +kernel
theorem dX1_declaration_5 : decode cX1_declaration 5 = .ok (.getfield 328, 3) := by decide +kernel
theorem dX1_declaration_8 : decode cX1_declaration 8 = .ok (.iaload, 1) := by decide +kernel
theorem dX1_declaration_9 : decode cX1_declaration 9 = .ok (.bipush 30, 2) := by decide +kernel
theorem dX1_declaration_11 : decode cX1_declaration 11 = .ok (.if_icmp .ne 14, 3) := by decide +kernel
theorem dX1_declaration_14 : decode cX1_declaration 14 = .ok (.aload_n 0, 1) := by decide +kernel
theorem dX1_declaration_15 : decode cX1_declaration 15 = .ok (.bipush (-3), 2) := by decide +kernel
theorem dX1_declaration_17 : decode cX1_declaration 17 = .ok (.aload_n 0, 1) := by decide +kernel
theorem dX1_declaration_18 : decode cX1_declaration 18 = .ok (.getfield 276, 3) := by decide +kernel
theorem dX1_declaration_21 : decode cX1_declaration 21 = .ok (.invokevirtual 293, 3) := by decide +kernel
theorem dX1_declaration_24 : decode cX1_declaration 24 = .ok (.return_, 1) := by decide +kernel
theorem dX1_declaration_25 : decode cX1_declaration 25 = .ok (.aload_n 0, 1) := by decide +kernel
theorem dX1_declaration_26 : decode cX1_declaration 26 = .ok (.dup, 1) := by decide +kernel
theorem dX1_declaration_27 : decode cX1_declaration 27 = .ok (.getfield 276, 3) := by decide +kernel
theorem dX1_declaration_30 : decode cX1_declaration 30 = .ok (.bipush 9, 2) := by decide +kernel
theorem dX1_declaration_32 : decode cX1_declaration 32 = .ok (.iadd, 1) := by decide +kernel
theorem dX1_declaration_33 : decode cX1_declaration 33 = .ok (.putfield 276, 3) := by decide +kernel
theorem dX1_declaration_36 : decode cX1_declaration 36 = .ok (.aload_n 0, 1) := by decide +kernel
theorem dX1_declaration_37 : decode cX1_declaration 37 = .ok (.invokevirtual 348, 3) := by decide +kernel
theorem dX1_declaration_40 : decode cX1_declaration 40 = .ok (.aload_n 0, 1) := by decide +kernel
theorem dX1_declaration_41 : decode cX1_declaration 41 = .ok (.invokevirtual 351, 3) := by decide +kernel
theorem dX1_declaration_44 : decode cX1_declaration 44 = .ok (.istore_n 1, 1) := by decide +kernel
theorem dX1_declaration_45 : decode cX1_declaration 45 = .ok (.bipush 30, 2) := by decide +kernel
theorem dX1_declaration_47 : decode cX1_declaration 47 = .ok (.aload_n 0, 1) := by decide +kernel
theorem dX1_declaration_48 : decode cX1_declaration 48 = .ok (.getfield 328, 3) := by decide +kernel
theorem dX1_declaration_51 : decode cX1_declaration 51 = .ok (.imul, 1) := by decide +kernel
theorem dX1_declaration_52 : decode cX1_declaration 52 = .ok (.aload_n 0, 1) := by decide +kernel
theorem dX1_declaration_53 : decode cX1_declaration 53 = .ok (.getfield 70, 3) := by decide +kernel
theorem dX1_declaration_56 : decode cX1_declaration 56 = .ok (.aload_n 0, 1) := by decide +kernel
theorem dX1_declaration_57 : decode cX1_declaration 57 = .ok (.getfield 328, 3) := by decide +kernel
theorem dX1_declaration_60 : decode cX1_declaration 60 = .ok (.iaload, 1) := by decide +kernel
theorem dX1_declaration_61 : decode cX1_declaration 61 = .ok (.iadd, 1) := by decide +kernel
theorem dX1_declaration_62 : decode cX1_declaration 62 = .ok (.istore_n 2, 1) := by decide +kernel
theorem dX1_declaration_63 : decode cX1_declaration 63 = .ok (.aload_n 0, 1) := by decide +kernel
theorem dX1_declaration_64 : decode cX1_declaration 64 = .ok (.getfield 73, 3) := by decide +kernel
theorem dX1_declaration_67 : decode cX1_declaration 67 = .ok (.iload_n 2, 1) := by decide +kernel
theorem dX1_declaration_68 : decode cX1_declaration 68 = .ok (.sipush 6000, 3) := by decide +kernel
theorem dX1_declaration_71 : decode cX1_declaration 71 = .ok (.aload_n 0, 1) := by decide +kernel
theorem dX1_declaration_72 : decode cX1_declaration 72 = .ok (.getfield 328, 3) := by decide +kernel
theorem dX1_declaration_75 : decode cX1_declaration 75 = .ok (.imul, 1) := by decide +kernel
theorem dX1_declaration_76 : decode cX1_declaration 76 = .ok (.iload_n 1, 1) := by decide +kernel
theorem dX1_declaration_77 : decode cX1_declaration 77 = .ok (.iadd, 1) := by decide +kernel
theorem dX1_declaration_78 : decode cX1_declaration 78 = .ok (.iastore, 1) := by decide +kernel
theorem dX1_declaration_79 : decode cX1_declaration 79 = .ok (.aload_n 0, 1) := by decide +kernel
theorem dX1_declaration_80 : decode cX1_declaration 80 = .ok (.getfield 76, 3) := by decide +kernel
theorem dX1_declaration_83 : decode cX1_declaration 83 = .ok (.iload_n 2, 1) := by decide +kernel
theorem dX1_declaration_84 : decode cX1_declaration 84 = .ok (.aload_n 0, 1) := by decide +kernel
theorem dX1_declaration_85 : decode cX1_declaration 85 = .ok (.getfield 306, 3) := by decide +kernel
theorem dX1_declaration_88 : decode cX1_declaration 88 = .ok (.iastore, 1) := by decide +kernel
theorem dX1_declaration_89 : decode cX1_declaration 89 = .ok (.aload_n 0, 1) := by decide +kernel
theorem dX1_declaration_90 : decode cX1_declaration 90 = .ok (.getfield 82, 3) := by decide +kernel
theorem dX1_declaration_93 : decode cX1_declaration 93 = .ok (.iload_n 2, 1) := by decide +kernel
theorem dX1_declaration_94 : decode cX1_declaration 94 = .ok (.iconst 0, 1) := by decide +kernel
theorem dX1_declaration_95 : decode cX1_declaration 95 = .ok (.iastore, 1) := by decide +kernel
theorem dX1_declaration_96 : decode cX1_declaration 96 = .ok (.aload_n 0, 1) := by decide +kernel
theorem dX1_declaration_97 : decode cX1_declaration 97 = .ok (.invokevirtual 348, 3) := by decide +kernel
theorem dX1_declaration_100 : decode cX1_declaration 100 = .ok (.aload_n 0, 1) := by decide +kernel
theorem dX1_declaration_101 : decode cX1_declaration 101 = .ok (.invokevirtual 289, 3) := by decide +kernel
theorem dX1_declaration_104 : decode cX1_declaration 104 = .ok (.ifCond .eq 34, 3) := by decide +kernel
theorem dX1_declaration_107 : decode cX1_declaration 107 = .ok (.aload_n 0, 1) := by decide +kernel
theorem dX1_declaration_108 : decode cX1_declaration 108 = .ok (.ldc2_w 370, 3) := by decide +kernel
theorem dX1_declaration_111 : decode cX1_declaration 111 = .ok (.iconst 5, 1) := by decide +kernel
theorem dX1_declaration_112 : decode cX1_declaration 112 = .ok (.invokevirtual 285, 3) := by decide +kernel
theorem dX1_declaration_115 : decode cX1_declaration 115 = .ok (.ifCond .eq 23, 3) := by decide +kernel
theorem dX1_declaration_118 : decode cX1_declaration 118 = .ok (.aload_n 0, 1) := by decide +kernel
theorem dX1_declaration_119 : decode cX1_declaration 119 = .ok (.dup, 1) := by decide +kernel
theorem dX1_declaration_120 : decode cX1_declaration 120 = .ok (.getfield 276, 3) := by decide +kernel
theorem dX1_declaration_123 : decode cX1_declaration 123 = .ok (.iconst 5, 1) := by decide +kernel
theorem dX1_declaration_124 : decode cX1_declaration 124 = .ok (.iadd, 1) := by decide +kernel
theorem dX1_declaration_125 : decode cX1_declaration 125 = .ok (.putfield 276, 3) := by decide +kernel
theorem dX1_declaration_128 : decode cX1_declaration 128 = .ok (.aload_n 0, 1) := by decide +kernel
theorem dX1_declaration_129 : decode cX1_declaration 129 = .ok (.getfield 79, 3) := by decide +kernel
theorem dX1_declaration_132 : decode cX1_declaration 132 = .ok (.iload_n 2, 1) := by decide +kernel
theorem dX1_declaration_133 : decode cX1_declaration 133 = .ok (.iconst 0, 1) := by decide +kernel
theorem dX1_declaration_134 : decode cX1_declaration 134 = .ok (.iastore, 1) := by decide +kernel
theorem dX1_declaration_135 : decode cX1_declaration 135 = .ok (.goto 93, 3) := by decide +kernel
theorem dX1_declaration_138 : decode cX1_declaration 138 = .ok (.aload_n 0, 1) := by decide +kernel
theorem dX1_declaration_139 : decode cX1_declaration 139 = .ok (.invokevirtual 289, 3) := by decide +kernel
theorem dX1_declaration_142 : decode cX1_declaration 142 = .ok (.ifCond .eq 34, 3) := by decide +kernel
theorem dX1_declaration_145 : decode cX1_declaration 145 = .ok (.aload_n 0, 1) := by decide +kernel
theorem dX1_declaration_146 : decode cX1_declaration 146 = .ok (.ldc2_w 372, 3) := by decide +kernel
theorem dX1_declaration_149 : decode cX1_declaration 149 = .ok (.iconst 3, 1) := by decide +kernel
theorem dX1_declaration_150 : decode cX1_declaration 150 = .ok (.invokevirtual 285, 3) := by decide +kernel
theorem dX1_declaration_153 : decode cX1_declaration 153 = .ok (.ifCond .eq 23, 3) := by decide +kernel
theorem dX1_declaration_156 : decode cX1_declaration 156 = .ok (.aload_n 0, 1) := by decide +kernel
theorem dX1_declaration_157 : decode cX1_declaration 157 = .ok (.dup, 1) := by decide +kernel
theorem dX1_declaration_158 : decode cX1_declaration 158 = .ok (.getfield 276, 3) := by decide +kernel
theorem dX1_declaration_161 : decode cX1_declaration 161 = .ok (.iconst 3, 1) := by decide +kernel
theorem dX1_declaration_162 : decode cX1_declaration 162 = .ok (.iadd, 1) := by decide +kernel
theorem dX1_declaration_163 : decode cX1_declaration 163 = .ok (.putfield 276, 3) := by decide +kernel
theorem dX1_declaration_166 : decode cX1_declaration 166 = .ok (.aload_n 0, 1) := by decide +kernel
theorem dX1_declaration_167 : decode cX1_declaration 167 = .ok (.getfield 79, 3) := by decide +kernel
theorem dX1_declaration_170 : decode cX1_declaration 170 = .ok (.iload_n 2, 1) := by decide +kernel
theorem dX1_declaration_171 : decode cX1_declaration 171 = .ok (.iconst 1, 1) := by decide +kernel
theorem dX1_declaration_172 : decode cX1_declaration 172 = .ok (.iastore, 1) := by decide +kernel
theorem dX1_declaration_173 : decode cX1_declaration 173 = .ok (.goto 55, 3) := by decide +kernel
theorem dX1_declaration_176 : decode cX1_declaration 176 = .ok (.aload_n 0, 1) := by decide +kernel
theorem dX1_declaration_177 : decode cX1_declaration 177 = .ok (.bipush 40, 2) := by decide +kernel
theorem dX1_declaration_179 : decode cX1_declaration 179 = .ok (.invokevirtual 340, 3) := by decide +kernel
theorem dX1_declaration_182 : decode cX1_declaration 182 = .ok (.ifCond .eq 46, 3) := by decide +kernel
theorem dX1_declaration_185 : decode cX1_declaration 185 = .ok (.aload_n 0, 1) := by decide +kernel
theorem dX1_declaration_186 : decode cX1_declaration 186 = .ok (.invokevirtual 300, 3) := by decide +kernel
theorem dX1_declaration_189 : decode cX1_declaration 189 = .ok (.aload_n 0, 1) := by decide +kernel
theorem dX1_declaration_190 : decode cX1_declaration 190 = .ok (.invokevirtual 289, 3) := by decide +kernel
theorem dX1_declaration_193 : decode cX1_declaration 193 = .ok (.ifCond .eq 23, 3) := by decide +kernel
theorem dX1_declaration_196 : decode cX1_declaration 196 = .ok (.aload_n 0, 1) := by decide +kernel
theorem dX1_declaration_197 : decode cX1_declaration 197 = .ok (.ldc2_w 374, 3) := by decide +kernel
theorem dX1_declaration_200 : decode cX1_declaration 200 = .ok (.bipush 7, 2) := by decide +kernel
theorem dX1_declaration_202 : decode cX1_declaration 202 = .ok (.invokevirtual 285, 3) := by decide +kernel
theorem dX1_declaration_205 : decode cX1_declaration 205 = .ok (.ifCond .eq 11, 3) := by decide +kernel
theorem dX1_declaration_208 : decode cX1_declaration 208 = .ok (.aload_n 0, 1) := by decide +kernel
theorem dX1_declaration_209 : decode cX1_declaration 209 = .ok (.iload_n 2, 1) := by decide +kernel
theorem dX1_declaration_210 : decode cX1_declaration 210 = .ok (.invokevirtual 376, 3) := by decide +kernel
theorem dX1_declaration_213 : decode cX1_declaration 213 = .ok (.goto 15, 3) := by decide +kernel
theorem dX1_declaration_216 : decode cX1_declaration 216 = .ok (.aload_n 0, 1) := by decide +kernel
theorem dX1_declaration_217 : decode cX1_declaration 217 = .ok (.invokevirtual 289, 3) := by decide +kernel
theorem dX1_declaration_220 : decode cX1_declaration 220 = .ok (.ifCond .eq 8, 3) := by decide +kernel
theorem dX1_declaration_223 : decode cX1_declaration 223 = .ok (.aload_n 0, 1) := by decide +kernel
theorem dX1_declaration_224 : decode cX1_declaration 224 = .ok (.iload_n 2, 1) := by decide +kernel
theorem dX1_declaration_225 : decode cX1_declaration 225 = .ok (.invokevirtual 380, 3) := by decide +kernel
theorem dX1_declaration_228 : decode cX1_declaration 228 = .ok (.aload_n 0, 1) := by decide +kernel
theorem dX1_declaration_229 : decode cX1_declaration 229 = .ok (.invokevirtual 300, 3) := by decide +kernel
theorem dX1_declaration_232 : decode cX1_declaration 232 = .ok (.aload_n 0, 1) := by decide +kernel
theorem dX1_declaration_233 : decode cX1_declaration 233 = .ok (.bipush 62, 2) := by decide +kernel
theorem dX1_declaration_235 : decode cX1_declaration 235 = .ok (.invokevirtual 340, 3) := by decide +kernel
theorem dX1_declaration_238 : decode cX1_declaration 238 = .ok (.ifCond .eq 63, 3) := by decide +kernel
theorem dX1_declaration_241 : decode cX1_declaration 241 = .ok (.aload_n 0, 1) := by decide +kernel
theorem dX1_declaration_242 : decode cX1_declaration 242 = .ok (.getfield 140, 3) := by decide +kernel
theorem dX1_declaration_245 : decode cX1_declaration 245 = .ok (.sipush 850, 3) := by decide +kernel
theorem dX1_declaration_248 : decode cX1_declaration 248 = .ok (.aload_n 0, 1) := by decide +kernel
theorem dX1_declaration_249 : decode cX1_declaration 249 = .ok (.getfield 328, 3) := by decide +kernel
theorem dX1_declaration_252 : decode cX1_declaration 252 = .ok (.imul, 1) := by decide +kernel
theorem dX1_declaration_253 : decode cX1_declaration 253 = .ok (.aload_n 0, 1) := by decide +kernel
theorem dX1_declaration_254 : decode cX1_declaration 254 = .ok (.getfield 143, 3) := by decide +kernel
theorem dX1_declaration_257 : decode cX1_declaration 257 = .ok (.aload_n 0, 1) := by decide +kernel
theorem dX1_declaration_258 : decode cX1_declaration 258 = .ok (.getfield 328, 3) := by decide +kernel
theorem dX1_declaration_261 : decode cX1_declaration 261 = .ok (.iaload, 1) := by decide +kernel
theorem dX1_declaration_262 : decode cX1_declaration 262 = .ok (.iadd, 1) := by decide +kernel
theorem dX1_declaration_263 : decode cX1_declaration 263 = .ok (.iconst 2, 1) := by decide +kernel
theorem dX1_declaration_264 : decode cX1_declaration 264 = .ok (.aload_n 0, 1) := by decide +kernel
theorem dX1_declaration_265 : decode cX1_declaration 265 = .ok (.getfield 70, 3) := by decide +kernel
theorem dX1_declaration_268 : decode cX1_declaration 268 = .ok (.aload_n 0, 1) := by decide +kernel
theorem dX1_declaration_269 : decode cX1_declaration 269 = .ok (.getfield 328, 3) := by decide +kernel
theorem dX1_declaration_272 : decode cX1_declaration 272 = .ok (.iaload, 1) := by decide +kernel
theorem dX1_declaration_273 : decode cX1_declaration 273 = .ok (.imul, 1) := by decide +kernel
theorem dX1_declaration_274 : decode cX1_declaration 274 = .ok (.iastore, 1) := by decide +kernel
theorem dX1_declaration_275 : decode cX1_declaration 275 = .ok (.aload_n 0, 1) := by decide +kernel
theorem dX1_declaration_276 : decode cX1_declaration 276 = .ok (.getfield 143, 3) := by decide +kernel
theorem dX1_declaration_279 : decode cX1_declaration 279 = .ok (.aload_n 0, 1) := by decide +kernel
theorem dX1_declaration_280 : decode cX1_declaration 280 = .ok (.getfield 328, 3) := by decide +kernel
theorem dX1_declaration_283 : decode cX1_declaration 283 = .ok (.dup2, 1) := by decide +kernel
theorem dX1_declaration_284 : decode cX1_declaration 284 = .ok (.iaload, 1) := by decide +kernel
theorem dX1_declaration_285 : decode cX1_declaration 285 = .ok (.iconst 1, 1) := by decide +kernel
theorem dX1_declaration_286 : decode cX1_declaration 286 = .ok (.iadd, 1) := by decide +kernel
theorem dX1_declaration_287 : decode cX1_declaration 287 = .ok (.iastore, 1) := by decide +kernel
theorem dX1_declaration_288 : decode cX1_declaration 288 = .ok (.aload_n 0, 1) := by decide +kernel
theorem dX1_declaration_289 : decode cX1_declaration 289 = .ok (.getfield 70, 3) := by decide +kernel
theorem dX1_declaration_292 : decode cX1_declaration 292 = .ok (.aload_n 0, 1) := by decide +kernel
theorem dX1_declaration_293 : decode cX1_declaration 293 = .ok (.getfield 328, 3) := by decide +kernel
theorem dX1_declaration_296 : decode cX1_declaration 296 = .ok (.dup2, 1) := by decide +kernel
theorem dX1_declaration_297 : decode cX1_declaration 297 = .ok (.iaload, 1) := by decide +kernel
theorem dX1_declaration_298 : decode cX1_declaration 298 = .ok (.iconst 1, 1) := by decide +kernel
theorem dX1_declaration_299 : decode cX1_declaration 299 = .ok (.iadd, 1) := by decide +kernel
theorem dX1_declaration_300 : decode cX1_declaration 300 = .ok (.iastore, 1) := by decide +kernel
theorem dX1_declaration_301 : decode cX1_declaration 301 = .ok (.return_, 1) := by decide +kernel
def m_declaration_228 (σ : MEM) : Option zm_O := bd (m_maybeS σ) (fun _ σ1 => bd (m_passes σ1 62) (fun r2 σ3 => if r2 = 0 then (some (0, σ3)) else (ck (0 ≤ (σ3 (-1) 8) ∧ (σ3 (-1) 8) < 2) (ck (0 ≤ (σ3 (-1) 8) ∧ (σ3 (-1) 8) < 2) (ck (inR (2 * (σ3 26 (σ3 (-1) 8)))) (ck (0 ≤ ((850 * (σ3 (-1) 8)) + (σ3 50 (σ3 (-1) 8))) ∧ ((850 * (σ3 (-1) 8)) + (σ3 50 (σ3 (-1) 8))) < 1700) (nu (mup σ3 49 ((850 * (σ3 (-1) 8)) + (σ3 50 (σ3 (-1) 8))) (2 * (σ3 26 (σ3 (-1) 8)))) (fun σ11 => ck (0 ≤ (σ11 (-1) 8) ∧ (σ11 (-1) 8) < 2) (ck (inR ((σ11 50 (σ11 (-1) 8)) + 1)) (ck (0 ≤ (σ11 (-1) 8) ∧ (σ11 (-1) 8) < 2) (nu (mup σ11 50 (σ11 (-1) 8) ((σ11 50 (σ11 (-1) 8)) + 1)) (fun σ15 => ck (0 ≤ (σ15 (-1) 8) ∧ (σ15 (-1) 8) < 2) (ck (inR ((σ15 26 (σ15 (-1) 8)) + 1)) (ck (0 ≤ (σ15 (-1) 8) ∧ (σ15 (-1) 8) < 2) (nu (mup σ15 26 (σ15 (-1) 8) ((σ15 26 (σ15 (-1) 8)) + 1)) (fun σ19 => some (0, σ19)))))))))))))))))
theorem w_declaration_228 {C : zv_Cx zm_O} {G : zm_G} (h : zv_Ok C cX1_declaration RX1) (hc : zm_C C G 3 (Option.none : Option FieldType) 0 6 133) (σ : MEM) : VV C (m_declaration_228 σ ) σ [(0, .ref (zm_h G))] [] 228 := by
  have hN : ∀ i, i < 3 → i < zv_n C := fun i q => by rw [hc.2.2.1]; exact q
  unfold m_declaration_228
  refine r_aload_n h 0 dX1_declaration_228 rfl rfl ?_
  refine zm_cVv h hc (n := 0) (As := []) (fun o1 e1 => w_maybeS hc.1 _ o1 e1) q1813 q1815 qs59 q136 q1816 (by decide +kernel) ⟨by decide, by decide⟩ rfl (Nat.le_of_ble_eq_true rfl) rfl dX1_declaration_229 (fun σ1  => ?_)
  refine r_aload_n h 0 dX1_declaration_232 rfl rfl ?_
  refine r_bipush h dX1_declaration_233 (by decide) ?_
  refine zm_cVz h hc (n := 1) (As := [iv 62]) (fun o1 e1 => w_passes hc.1 _ 62 (by decide) o1 e1) q1840 q1842 qs63 q136 q1843 (by decide +kernel) ⟨by decide, by decide⟩ rfl (Nat.le_of_ble_eq_true rfl) rfl dX1_declaration_235 (fun r2 σ3 hr4 => ?_)
  refine r_if_eq h hr4.r 301 dX1_declaration_238 rfl ?_ ?_
  · exact zm_vret h hc rfl dX1_declaration_301
  · refine r_aload_n h 0 dX1_declaration_241 rfl rfl ?_
    refine zm_getA h hc 49 (by decide) rfl q1529 rfl dX1_declaration_242 ?_
    refine r_sipush h dX1_declaration_245 (by decide) ?_
    refine r_aload_n h 0 dX1_declaration_248 rfl rfl ?_
    refine zm_getI h hc 8 8 (by decide) rfl rfl q1488 rfl dX1_declaration_249 (fun hr5 => ?_)
    refine r_imul h dX1_declaration_252 ?_
    refine r_aload_n h 0 dX1_declaration_253 rfl rfl ?_
    refine zm_getA h hc 50 (by decide) rfl q1530 rfl dX1_declaration_254 ?_
    refine r_aload_n h 0 dX1_declaration_257 rfl rfl ?_
    refine zm_getI h hc 8 8 (by decide) rfl rfl q1488 rfl dX1_declaration_258 (fun hr6 => ?_)
    refine zm_ldI h hc 50 50 2 (by decide) rfl rfl rfl (by decide) dX1_declaration_261 (fun _ hr7 => ?_)
    refine r_iadd h dX1_declaration_262 ?_
    refine r_iconst h dX1_declaration_263 ?_
    refine r_aload_n h 0 dX1_declaration_264 rfl rfl ?_
    refine zm_getA h hc 26 (by decide) rfl q1506 rfl dX1_declaration_265 ?_
    refine r_aload_n h 0 dX1_declaration_268 rfl rfl ?_
    refine zm_getI h hc 8 8 (by decide) rfl rfl q1488 rfl dX1_declaration_269 (fun hr8 => ?_)
    refine zm_ldI h hc 26 26 2 (by decide) rfl rfl rfl (by decide) dX1_declaration_272 (fun _ hr9 => ?_)
    refine r_imul h dX1_declaration_273 ?_
    refine r_ck (fun hk10 => ?_)
    refine zm_stI h hc 49 49 1700 (by decide) rfl rfl rfl (by decide) hk10 dX1_declaration_274 (fun _ σ11 _ => ?_)
    refine r_aload_n h 0 dX1_declaration_275 rfl rfl ?_
    refine zm_getA h hc 50 (by decide) rfl q1530 rfl dX1_declaration_276 ?_
    refine r_aload_n h 0 dX1_declaration_279 rfl rfl ?_
    refine zm_getI h hc 8 8 (by decide) rfl rfl q1488 rfl dX1_declaration_280 (fun hr12 => ?_)
    refine r_dup2 h dX1_declaration_283 rfl rfl ?_
    refine zm_ldI h hc 50 50 2 (by decide) rfl rfl rfl (by decide) dX1_declaration_284 (fun _ hr13 => ?_)
    refine r_iconst h dX1_declaration_285 ?_
    refine r_iadd h dX1_declaration_286 ?_
    refine r_ck (fun hk14 => ?_)
    refine zm_stI h hc 50 50 2 (by decide) rfl rfl rfl (by decide) hk14 dX1_declaration_287 (fun _ σ15 _ => ?_)
    refine r_aload_n h 0 dX1_declaration_288 rfl rfl ?_
    refine zm_getA h hc 26 (by decide) rfl q1506 rfl dX1_declaration_289 ?_
    refine r_aload_n h 0 dX1_declaration_292 rfl rfl ?_
    refine zm_getI h hc 8 8 (by decide) rfl rfl q1488 rfl dX1_declaration_293 (fun hr16 => ?_)
    refine r_dup2 h dX1_declaration_296 rfl rfl ?_
    refine zm_ldI h hc 26 26 2 (by decide) rfl rfl rfl (by decide) dX1_declaration_297 (fun _ hr17 => ?_)
    refine r_iconst h dX1_declaration_298 ?_
    refine r_iadd h dX1_declaration_299 ?_
    refine r_ck (fun hk18 => ?_)
    refine zm_stI h hc 26 26 2 (by decide) rfl rfl rfl (by decide) hk18 dX1_declaration_300 (fun _ σ19 _ => ?_)
    exact zm_vret h hc rfl dX1_declaration_301
def m_declaration_216 (σ : MEM) (x2 : Int) : Option zm_O := bd (m_isGood σ) (fun r1 σ2 => if r1 = 0 then (m_declaration_228 σ2) else (bd (m_group σ2 x2) (fun _ σ4 => m_declaration_228 σ4)))
theorem w_declaration_216 {C : zv_Cx zm_O} {G : zm_G} (h : zv_Ok C cX1_declaration RX1) (hc : zm_C C G 3 (Option.none : Option FieldType) 0 6 133) (σ : MEM) (x2 : Int) (hx2 : inR x2) : VV C (m_declaration_216 σ x2) σ [(0, .ref (zm_h G)), (2, iv x2)] [] 216 := by
  have hN : ∀ i, i < 3 → i < zv_n C := fun i q => by rw [hc.2.2.1]; exact q
  unfold m_declaration_216
  refine r_aload_n h 0 dX1_declaration_216 rfl rfl ?_
  refine zm_cVz h hc (n := 0) (As := []) (fun o1 e1 => w_isGood hc.1 _ o1 e1) q1801 q1803 qs56 q136 q1804 (by decide +kernel) ⟨by decide, by decide⟩ rfl (Nat.le_of_ble_eq_true rfl) rfl dX1_declaration_217 (fun r1 σ2 hr3 => ?_)
  refine r_if_eq h hr3.r 228 dX1_declaration_220 rfl ?_ ?_
  · exact r_lv [0] rfl (w_declaration_228 h hc _)
  · refine r_aload_n h 0 dX1_declaration_223 rfl rfl ?_
    refine r_iload_n h 1 dX1_declaration_224 rfl rfl ?_
    refine zm_cVv h hc (n := 1) (As := [iv x2]) (fun o1 e1 => w_group hc.1 _ x2 hx2 o1 e1) q1891 q1893 qs71 q136 q1894 (by decide +kernel) ⟨by decide, by decide⟩ rfl (Nat.le_of_ble_eq_true rfl) rfl dX1_declaration_225 (fun σ4  => ?_)
    exact r_lv [0] rfl (w_declaration_228 h hc _)
def m_declaration_176 (σ : MEM) (x2 : Int) : Option zm_O := bd (m_passes σ 40) (fun r1 σ2 => if r1 = 0 then (m_declaration_228 σ2) else (bd (m_maybeS σ2) (fun _ σ4 => bd (m_isGood σ4) (fun r5 σ6 => if r5 = 0 then (m_declaration_216 σ6 x2) else (bd (m_stands σ6 9939874023035969 7) (fun r8 σ9 => if r8 = 0 then (m_declaration_216 σ9 x2) else (bd (m_mixed σ9 x2) (fun _ σ11 => m_declaration_228 σ11))))))))
theorem w_declaration_176 {C : zv_Cx zm_O} {G : zm_G} (h : zv_Ok C cX1_declaration RX1) (hc : zm_C C G 3 (Option.none : Option FieldType) 0 6 133) (σ : MEM) (x2 : Int) (hx2 : inR x2) : VV C (m_declaration_176 σ x2) σ [(0, .ref (zm_h G)), (2, iv x2)] [] 176 := by
  have hN : ∀ i, i < 3 → i < zv_n C := fun i q => by rw [hc.2.2.1]; exact q
  unfold m_declaration_176
  refine r_aload_n h 0 dX1_declaration_176 rfl rfl ?_
  refine r_bipush h dX1_declaration_177 (by decide) ?_
  refine zm_cVz h hc (n := 1) (As := [iv 40]) (fun o1 e1 => w_passes hc.1 _ 40 (by decide) o1 e1) q1840 q1842 qs63 q136 q1843 (by decide +kernel) ⟨by decide, by decide⟩ rfl (Nat.le_of_ble_eq_true rfl) rfl dX1_declaration_179 (fun r1 σ2 hr3 => ?_)
  refine r_if_eq h hr3.r 228 dX1_declaration_182 rfl ?_ ?_
  · exact r_lv [0] rfl (w_declaration_228 h hc _)
  · refine r_aload_n h 0 dX1_declaration_185 rfl rfl ?_
    refine zm_cVv h hc (n := 0) (As := []) (fun o1 e1 => w_maybeS hc.1 _ o1 e1) q1813 q1815 qs59 q136 q1816 (by decide +kernel) ⟨by decide, by decide⟩ rfl (Nat.le_of_ble_eq_true rfl) rfl dX1_declaration_186 (fun σ4  => ?_)
    refine r_aload_n h 0 dX1_declaration_189 rfl rfl ?_
    refine zm_cVz h hc (n := 0) (As := []) (fun o1 e1 => w_isGood hc.1 _ o1 e1) q1801 q1803 qs56 q136 q1804 (by decide +kernel) ⟨by decide, by decide⟩ rfl (Nat.le_of_ble_eq_true rfl) rfl dX1_declaration_190 (fun r5 σ6 hr7 => ?_)
    refine r_if_eq h hr7.r 216 dX1_declaration_193 rfl ?_ ?_
    · exact r_lv [0, 1] rfl (w_declaration_216 h hc _ x2 hx2)
    · refine r_aload_n h 0 dX1_declaration_196 rfl rfl ?_
      refine r_ldc2 (x := 9939874023035969) h q1882 (by decide) dX1_declaration_197 ?_
      refine r_bipush h dX1_declaration_200 (by decide) ?_
      refine zm_cVz h hc (n := 2) (As := [jv 9939874023035969, iv 7]) (fun o1 e1 => w_stands hc.1 _ 9939874023035969 7 (by decide) (by decide) o1 e1) q1825 q1827 qs61 q136 q1828 (by decide +kernel) ⟨by decide, by decide⟩ rfl (Nat.le_of_ble_eq_true rfl) rfl dX1_declaration_202 (fun r8 σ9 hr10 => ?_)
      refine r_if_eq h hr10.r 216 dX1_declaration_205 rfl ?_ ?_
      · exact r_lv [0, 1] rfl (w_declaration_216 h hc _ x2 hx2)
      · refine r_aload_n h 0 dX1_declaration_208 rfl rfl ?_
        refine r_iload_n h 1 dX1_declaration_209 rfl rfl ?_
        refine zm_cVv h hc (n := 1) (As := [iv x2]) (fun o1 e1 => w_mixed hc.1 _ x2 hx2 o1 e1) q1883 q1885 qs69 q136 q1886 (by decide +kernel) ⟨by decide, by decide⟩ rfl (Nat.le_of_ble_eq_true rfl) rfl dX1_declaration_210 (fun σ11  => ?_)
        refine r_goto h 228 dX1_declaration_213 rfl ?_
        exact r_lv [0] rfl (w_declaration_228 h hc _)
def m_declaration_138 (σ : MEM) (x2 : Int) : Option zm_O := bd (m_isGood σ) (fun r1 σ2 => if r1 = 0 then (m_declaration_176 σ2 x2) else (bd (m_stands σ2 4279897 3) (fun r4 σ5 => if r4 = 0 then (m_declaration_176 σ5 x2) else (ck (inR ((σ5 (-1) 4) + 3)) (nu (mup σ5 (-1) 4 ((σ5 (-1) 4) + 3)) (fun σ9 => ck (0 ≤ x2 ∧ x2 < 60) (nu (mup σ9 29 x2 1) (fun σ10 => m_declaration_228 σ10))))))))
theorem w_declaration_138 {C : zv_Cx zm_O} {G : zm_G} (h : zv_Ok C cX1_declaration RX1) (hc : zm_C C G 3 (Option.none : Option FieldType) 0 6 133) (σ : MEM) (x2 : Int) (hx2 : inR x2) : VV C (m_declaration_138 σ x2) σ [(0, .ref (zm_h G)), (2, iv x2)] [] 138 := by
  have hN : ∀ i, i < 3 → i < zv_n C := fun i q => by rw [hc.2.2.1]; exact q
  unfold m_declaration_138
  refine r_aload_n h 0 dX1_declaration_138 rfl rfl ?_
  refine zm_cVz h hc (n := 0) (As := []) (fun o1 e1 => w_isGood hc.1 _ o1 e1) q1801 q1803 qs56 q136 q1804 (by decide +kernel) ⟨by decide, by decide⟩ rfl (Nat.le_of_ble_eq_true rfl) rfl dX1_declaration_139 (fun r1 σ2 hr3 => ?_)
  refine r_if_eq h hr3.r 176 dX1_declaration_142 rfl ?_ ?_
  · exact r_lv [0, 1] rfl (w_declaration_176 h hc _ x2 hx2)
  · refine r_aload_n h 0 dX1_declaration_145 rfl rfl ?_
    refine r_ldc2 (x := 4279897) h q1881 (by decide) dX1_declaration_146 ?_
    refine r_iconst h dX1_declaration_149 ?_
    refine zm_cVz h hc (n := 2) (As := [jv 4279897, iv 3]) (fun o1 e1 => w_stands hc.1 _ 4279897 3 (by decide) (by decide) o1 e1) q1825 q1827 qs61 q136 q1828 (by decide +kernel) ⟨by decide, by decide⟩ rfl (Nat.le_of_ble_eq_true rfl) rfl dX1_declaration_150 (fun r4 σ5 hr6 => ?_)
    refine r_if_eq h hr6.r 176 dX1_declaration_153 rfl ?_ ?_
    · exact r_lv [0, 1] rfl (w_declaration_176 h hc _ x2 hx2)
    · refine r_aload_n h 0 dX1_declaration_156 rfl rfl ?_
      refine r_dup h dX1_declaration_157 rfl ?_
      refine zm_getI h hc 4 4 (by decide) rfl rfl q1484 rfl dX1_declaration_158 (fun hr7 => ?_)
      refine r_iconst h dX1_declaration_161 ?_
      refine r_iadd h dX1_declaration_162 ?_
      refine r_ck (fun hk8 => ?_)
      refine zm_putI h hc 4 4 (by decide) rfl rfl q1484 ⟨rfl, rfl, by decide +kernel⟩ hk8 dX1_declaration_163 (fun σ9 _ => ?_)
      refine r_aload_n h 0 dX1_declaration_166 rfl rfl ?_
      refine zm_getA h hc 29 (by decide) rfl q1509 rfl dX1_declaration_167 ?_
      refine r_iload_n h 1 dX1_declaration_170 rfl rfl ?_
      refine r_iconst h dX1_declaration_171 ?_
      refine zm_stI h hc 29 29 60 (by decide) rfl rfl rfl (by decide) (by decide) dX1_declaration_172 (fun _ σ10 _ => ?_)
      refine r_goto h 228 dX1_declaration_173 rfl ?_
      exact r_lv [0] rfl (w_declaration_228 h hc _)
def m_declaration (σ : MEM) : Option zm_O := ck (0 ≤ (σ (-1) 8) ∧ (σ (-1) 8) < 2) (if (σ 26 (σ (-1) 8)) = 30 then (bd (m_fail σ (-3) (σ (-1) 4)) (fun _ σ4 => some (0, σ4))) else (ck (inR ((σ (-1) 4) + 9)) (nu (mup σ (-1) 4 ((σ (-1) 4) + 9)) (fun σ7 => bd (m_mustS σ7) (fun _ σ8 => bd (m_takeName σ8) (fun r9 σ10 => ck (0 ≤ (σ10 (-1) 8) ∧ (σ10 (-1) 8) < 2) (ck (inR ((6000 * (σ10 (-1) 8)) + r9)) (ck (0 ≤ ((30 * (σ10 (-1) 8)) + (σ10 26 (σ10 (-1) 8))) ∧ ((30 * (σ10 (-1) 8)) + (σ10 26 (σ10 (-1) 8))) < 60) (nu (mup σ10 27 ((30 * (σ10 (-1) 8)) + (σ10 26 (σ10 (-1) 8))) ((6000 * (σ10 (-1) 8)) + r9)) (fun σ17 => ck (0 ≤ ((30 * (σ10 (-1) 8)) + (σ10 26 (σ10 (-1) 8))) ∧ ((30 * (σ10 (-1) 8)) + (σ10 26 (σ10 (-1) 8))) < 60) (nu (mup σ17 28 ((30 * (σ10 (-1) 8)) + (σ10 26 (σ10 (-1) 8))) (σ17 (-1) 51)) (fun σ19 => ck (0 ≤ ((30 * (σ10 (-1) 8)) + (σ10 26 (σ10 (-1) 8))) ∧ ((30 * (σ10 (-1) 8)) + (σ10 26 (σ10 (-1) 8))) < 60) (nu (mup σ19 30 ((30 * (σ10 (-1) 8)) + (σ10 26 (σ10 (-1) 8))) 0) (fun σ20 => bd (m_mustS σ20) (fun _ σ21 => bd (m_isGood σ21) (fun r22 σ23 => if r22 = 0 then (ck (inR ((30 * (σ10 (-1) 8)) + (σ10 26 (σ10 (-1) 8)))) (m_declaration_138 σ23 ((30 * (σ10 (-1) 8)) + (σ10 26 (σ10 (-1) 8))))) else (bd (m_stands σ23 297649853529 5) (fun r26 σ27 => if r26 = 0 then (ck (inR ((30 * (σ10 (-1) 8)) + (σ10 26 (σ10 (-1) 8)))) (m_declaration_138 σ27 ((30 * (σ10 (-1) 8)) + (σ10 26 (σ10 (-1) 8))))) else (ck (inR ((σ27 (-1) 4) + 5)) (nu (mup σ27 (-1) 4 ((σ27 (-1) 4) + 5)) (fun σ32 => ck (0 ≤ ((30 * (σ10 (-1) 8)) + (σ10 26 (σ10 (-1) 8))) ∧ ((30 * (σ10 (-1) 8)) + (σ10 26 (σ10 (-1) 8))) < 60) (nu (mup σ32 29 ((30 * (σ10 (-1) 8)) + (σ10 26 (σ10 (-1) 8))) 0) (fun σ33 => m_declaration_228 σ33)))))))))))))))))))))))
theorem w_declaration {G : zm_G} (hD : zm_D G) (σ : MEM) (o : zm_O) (hd : m_declaration σ  = some o) : zm_Met G yX1_declaration cX1_declaration 3 (Option.none : Option FieldType) 0 6 133 σ [.ref (zm_h G)] o := by
  refine zm_intro hD hd (by decide) rfl (Nat.le_of_ble_eq_true rfl) rfl (fun C h hc => ?_)
  have hN : ∀ i, i < 3 → i < zv_n C := fun i q => by rw [hc.2.2.1]; exact q
  unfold m_declaration
  refine r_aload_n h 0 dX1_declaration_0 rfl rfl ?_
  refine zm_getA h hc 26 (by decide) rfl q1506 rfl dX1_declaration_1 ?_
  refine r_aload_n h 0 dX1_declaration_4 rfl rfl ?_
  refine zm_getI h hc 8 8 (by decide) rfl rfl q1488 rfl dX1_declaration_5 (fun hr1 => ?_)
  refine zm_ldI h hc 26 26 2 (by decide) rfl rfl rfl (by decide) dX1_declaration_8 (fun _ hr2 => ?_)
  refine r_bipush h dX1_declaration_9 (by decide) ?_
  refine r_icmp_ne h hr2 (by decide) 25 dX1_declaration_11 rfl ?_ ?_
  · refine r_aload_n h 0 dX1_declaration_14 rfl rfl ?_
    refine r_bipush h dX1_declaration_15 (by decide) ?_
    refine r_aload_n h 0 dX1_declaration_17 rfl rfl ?_
    refine zm_getI h hc 4 4 (by decide) rfl rfl q1484 rfl dX1_declaration_18 (fun hr3 => ?_)
    refine zm_cVv h hc (n := 2) (As := [iv (-3), iv (σ (-1) 4)]) (fun o1 e1 => w_fail hc.1 _ (-3) (σ (-1) 4) (by decide) hr3 o1 e1) q1805 q1807 qs57 q136 q1808 (by decide +kernel) ⟨by decide, by decide⟩ rfl (Nat.le_of_ble_eq_true rfl) rfl dX1_declaration_21 (fun σ4  => ?_)
    exact zm_vret h hc rfl dX1_declaration_24
  · refine r_aload_n h 0 dX1_declaration_25 rfl rfl ?_
    refine r_dup h dX1_declaration_26 rfl ?_
    refine zm_getI h hc 4 4 (by decide) rfl rfl q1484 rfl dX1_declaration_27 (fun hr5 => ?_)
    refine r_bipush h dX1_declaration_30 (by decide) ?_
    refine r_iadd h dX1_declaration_32 ?_
    refine r_ck (fun hk6 => ?_)
    refine zm_putI h hc 4 4 (by decide) rfl rfl q1484 ⟨rfl, rfl, by decide +kernel⟩ hk6 dX1_declaration_33 (fun σ7 _ => ?_)
    refine r_aload_n h 0 dX1_declaration_36 rfl rfl ?_
    refine zm_cVv h hc (n := 0) (As := []) (fun o1 e1 => w_mustS hc.1 _ o1 e1) q1854 q1856 qs66 q136 q1857 (by decide +kernel) ⟨by decide, by decide⟩ rfl (Nat.le_of_ble_eq_true rfl) rfl dX1_declaration_37 (fun σ8  => ?_)
    refine r_aload_n h 0 dX1_declaration_40 rfl rfl ?_
    refine zm_cVi h hc (n := 0) (As := []) (fun o1 e1 => w_takeName hc.1 _ o1 e1) q1858 q1860 qs67 q136 q1861 (by decide +kernel) ⟨by decide, by decide⟩ rfl (Nat.le_of_ble_eq_true rfl) rfl dX1_declaration_41 (fun r9 σ10 hr11 => ?_)
    refine r_istore_n (lv' := [(1, iv r9), (0, .ref (zm_h G))]) h dX1_declaration_44 rfl (hN _ (by decide)) rfl ?_
    refine r_bipush h dX1_declaration_45 (by decide) ?_
    refine r_aload_n h 1 dX1_declaration_47 rfl rfl ?_
    refine zm_getI h hc 8 8 (by decide) rfl rfl q1488 rfl dX1_declaration_48 (fun hr12 => ?_)
    refine r_imul h dX1_declaration_51 ?_
    refine r_aload_n h 1 dX1_declaration_52 rfl rfl ?_
    refine zm_getA h hc 26 (by decide) rfl q1506 rfl dX1_declaration_53 ?_
    refine r_aload_n h 1 dX1_declaration_56 rfl rfl ?_
    refine zm_getI h hc 8 8 (by decide) rfl rfl q1488 rfl dX1_declaration_57 (fun hr13 => ?_)
    refine zm_ldI h hc 26 26 2 (by decide) rfl rfl rfl (by decide) dX1_declaration_60 (fun _ hr14 => ?_)
    refine r_iadd h dX1_declaration_61 ?_
    refine r_istore_n (lv' := [(2, iv ((30 * (σ10 (-1) 8)) + (σ10 26 (σ10 (-1) 8)))), (1, iv r9), (0, .ref (zm_h G))]) h dX1_declaration_62 rfl (hN _ (by decide)) rfl ?_
    refine r_aload_n h 2 dX1_declaration_63 rfl rfl ?_
    refine zm_getA h hc 27 (by decide) rfl q1507 rfl dX1_declaration_64 ?_
    refine r_iload_n h 0 dX1_declaration_67 rfl rfl ?_
    refine r_sipush h dX1_declaration_68 (by decide) ?_
    refine r_aload_n h 2 dX1_declaration_71 rfl rfl ?_
    refine zm_getI h hc 8 8 (by decide) rfl rfl q1488 rfl dX1_declaration_72 (fun hr15 => ?_)
    refine r_imul h dX1_declaration_75 ?_
    refine r_iload_n h 1 dX1_declaration_76 rfl rfl ?_
    refine r_iadd h dX1_declaration_77 ?_
    refine r_ck (fun hk16 => ?_)
    refine zm_stI h hc 27 27 60 (by decide) rfl rfl rfl (by decide) hk16 dX1_declaration_78 (fun _ σ17 _ => ?_)
    refine r_aload_n h 2 dX1_declaration_79 rfl rfl ?_
    refine zm_getA h hc 28 (by decide) rfl q1508 rfl dX1_declaration_80 ?_
    refine r_iload_n h 0 dX1_declaration_83 rfl rfl ?_
    refine r_aload_n h 2 dX1_declaration_84 rfl rfl ?_
    refine zm_getI h hc 51 51 (by decide) rfl rfl q1531 rfl dX1_declaration_85 (fun hr18 => ?_)
    refine zm_stI h hc 28 28 60 (by decide) rfl rfl rfl (by decide) hr18 dX1_declaration_88 (fun _ σ19 _ => ?_)
    refine r_aload_n h 2 dX1_declaration_89 rfl rfl ?_
    refine zm_getA h hc 30 (by decide) rfl q1510 rfl dX1_declaration_90 ?_
    refine r_iload_n h 0 dX1_declaration_93 rfl rfl ?_
    refine r_iconst h dX1_declaration_94 ?_
    refine zm_stI h hc 30 30 60 (by decide) rfl rfl rfl (by decide) (by decide) dX1_declaration_95 (fun _ σ20 _ => ?_)
    refine r_aload_n h 2 dX1_declaration_96 rfl rfl ?_
    refine zm_cVv h hc (n := 0) (As := []) (fun o1 e1 => w_mustS hc.1 _ o1 e1) q1854 q1856 qs66 q136 q1857 (by decide +kernel) ⟨by decide, by decide⟩ rfl (Nat.le_of_ble_eq_true rfl) rfl dX1_declaration_97 (fun σ21  => ?_)
    refine r_aload_n h 2 dX1_declaration_100 rfl rfl ?_
    refine zm_cVz h hc (n := 0) (As := []) (fun o1 e1 => w_isGood hc.1 _ o1 e1) q1801 q1803 qs56 q136 q1804 (by decide +kernel) ⟨by decide, by decide⟩ rfl (Nat.le_of_ble_eq_true rfl) rfl dX1_declaration_101 (fun r22 σ23 hr24 => ?_)
    refine r_if_eq h hr24.r 138 dX1_declaration_104 rfl ?_ ?_
    · refine r_ck (fun hk25 => ?_)
      exact r_lv [2, 0] rfl (w_declaration_138 h hc _ ((30 * (σ10 (-1) 8)) + (σ10 26 (σ10 (-1) 8))) hk25)
    · refine r_aload_n h 2 dX1_declaration_107 rfl rfl ?_
      refine r_ldc2 (x := 297649853529) h q1880 (by decide) dX1_declaration_108 ?_
      refine r_iconst h dX1_declaration_111 ?_
      refine zm_cVz h hc (n := 2) (As := [jv 297649853529, iv 5]) (fun o1 e1 => w_stands hc.1 _ 297649853529 5 (by decide) (by decide) o1 e1) q1825 q1827 qs61 q136 q1828 (by decide +kernel) ⟨by decide, by decide⟩ rfl (Nat.le_of_ble_eq_true rfl) rfl dX1_declaration_112 (fun r26 σ27 hr28 => ?_)
      refine r_if_eq h hr28.r 138 dX1_declaration_115 rfl ?_ ?_
      · refine r_ck (fun hk29 => ?_)
        exact r_lv [2, 0] rfl (w_declaration_138 h hc _ ((30 * (σ10 (-1) 8)) + (σ10 26 (σ10 (-1) 8))) hk29)
      · refine r_aload_n h 2 dX1_declaration_118 rfl rfl ?_
        refine r_dup h dX1_declaration_119 rfl ?_
        refine zm_getI h hc 4 4 (by decide) rfl rfl q1484 rfl dX1_declaration_120 (fun hr30 => ?_)
        refine r_iconst h dX1_declaration_123 ?_
        refine r_iadd h dX1_declaration_124 ?_
        refine r_ck (fun hk31 => ?_)
        refine zm_putI h hc 4 4 (by decide) rfl rfl q1484 ⟨rfl, rfl, by decide +kernel⟩ hk31 dX1_declaration_125 (fun σ32 _ => ?_)
        refine r_aload_n h 2 dX1_declaration_128 rfl rfl ?_
        refine zm_getA h hc 29 (by decide) rfl q1509 rfl dX1_declaration_129 ?_
        refine r_iload_n h 0 dX1_declaration_132 rfl rfl ?_
        refine r_iconst h dX1_declaration_133 ?_
        refine zm_stI h hc 29 29 60 (by decide) rfl rfl rfl (by decide) (by decide) dX1_declaration_134 (fun _ σ33 _ => ?_)
        refine r_goto h 228 dX1_declaration_135 rfl ?_
        exact r_lv [2] rfl (w_declaration_228 h hc _)
theorem dX1_isSame_0 : decode cX1_isSame 0 = .ok (.iload_n 2, 1) := by decide +kernel
theorem dX1_isSame_1 : decode cX1_isSame 1 = .ok (.iload 4, 2) := by decide +kernel
theorem dX1_isSame_3 : decode cX1_isSame 3 = .ok (.if_icmp .ne 7, 3) := by decide +kernel
theorem dX1_isSame_6 : decode cX1_isSame 6 = .ok (.iconst 1, 1) := by decide +kernel
theorem dX1_isSame_7 : decode cX1_isSame 7 = .ok (.goto 4, 3) := by decide +kernel
theorem dX1_isSame_10 : decode cX1_isSame 10 = .ok (.iconst 0, 1) := by decide +kernel
theorem dX1_isSame_11 : decode cX1_isSame 11 = .ok (.istore 5, 2) := by decide +kernel
theorem dX1_isSame_13 : decode cX1_isSame 13 = .ok (.iconst 0, 1) := by decide +kernel
theorem dX1_isSame_14 : decode cX1_isSame 14 = .ok (.istore 6, 2) := by decide +kernel
theorem dX1_isSame_16 : decode cX1_isSame 16 = .ok (.iload 6, 2) := by decide +kernel
theorem dX1_isSame_18 : decode cX1_isSame 18 = .ok (.iload_n 2, 1) := by decide +kernel
theorem dX1_isSame_19 : decode cX1_isSame 19 = .ok (.if_icmp .ge 42, 3) := by decide +kernel
theorem dX1_isSame_22 : decode cX1_isSame 22 = .ok (.iload 5, 2) := by decide +kernel
theorem dX1_isSame_24 : decode cX1_isSame 24 = .ok (.ifCond .eq 37, 3) := by decide +kernel
theorem dX1_isSame_27 : decode cX1_isSame 27 = .ok (.aload_n 0, 1) := by decide +kernel
theorem dX1_isSame_28 : decode cX1_isSame 28 = .ok (.getfield 24, 3) := by decide +kernel
theorem dX1_isSame_31 : decode cX1_isSame 31 = .ok (.iload_n 1, 1) := by decide +kernel
theorem dX1_isSame_32 : decode cX1_isSame 32 = .ok (.iload 6, 2) := by decide +kernel
theorem dX1_isSame_34 : decode cX1_isSame 34 = .ok (.iadd, 1) := by decide +kernel
theorem dX1_isSame_35 : decode cX1_isSame 35 = .ok (.baload, 1) := by decide +kernel
theorem dX1_isSame_36 : decode cX1_isSame 36 = .ok (.aload_n 0, 1) := by decide +kernel
theorem dX1_isSame_37 : decode cX1_isSame 37 = .ok (.getfield 24, 3) := by decide +kernel
theorem dX1_isSame_40 : decode cX1_isSame 40 = .ok (.iload_n 3, 1) := by decide +kernel
theorem dX1_isSame_41 : decode cX1_isSame 41 = .ok (.iload 6, 2) := by decide +kernel
theorem dX1_isSame_43 : decode cX1_isSame 43 = .ok (.iadd, 1) := by decide +kernel
theorem dX1_isSame_44 : decode cX1_isSame 44 = .ok (.baload, 1) := by decide +kernel
theorem dX1_isSame_45 : decode cX1_isSame 45 = .ok (.if_icmp .ne 7, 3) := by decide +kernel
theorem dX1_isSame_48 : decode cX1_isSame 48 = .ok (.iconst 1, 1) := by decide +kernel
theorem dX1_isSame_49 : decode cX1_isSame 49 = .ok (.goto 4, 3) := by decide +kernel
theorem dX1_isSame_52 : decode cX1_isSame 52 = .ok (.iconst 0, 1) := by decide +kernel
theorem dX1_isSame_53 : decode cX1_isSame 53 = .ok (.istore 5, 2) := by decide +kernel
theorem dX1_isSame_55 : decode cX1_isSame 55 = .ok (.iinc 6 1, 3) := by decide +kernel
theorem dX1_isSame_58 : decode cX1_isSame 58 = .ok (.goto (-42), 3) := by decide +kernel
theorem dX1_isSame_61 : decode cX1_isSame 61 = .ok (.iload 5, 2) := by decide +kernel
theorem dX1_isSame_63 : decode cX1_isSame 63 = .ok (.ireturn, 1) := by decide +kernel
def m_isSame_16 : Nat → MEM → Int → Int → Int → Int → Int → Option zm_O
  | 0, _, _, _, _, _, _ => none
  | n + 1, σ, x1, x2, x3, x5, x6 => if x2 ≤ x6 then (some (x5, σ)) else (if x5 = 0 then (some (x5, σ)) else (ck (0 ≤ (x1 + x6) ∧ (x1 + x6) < 12000) (ck (0 ≤ (x3 + x6) ∧ (x3 + x6) < 12000) (if (σ 11 (x1 + x6)) = (σ 11 (x3 + x6)) then (ck (inR (x6 + 1)) (m_isSame_16 n σ x1 x2 x3 1 (x6 + 1))) else (ck (inR (x6 + 1)) (m_isSame_16 n σ x1 x2 x3 0 (x6 + 1)))))))
theorem w_isSame_16 {C : zv_Cx zm_O} {G : zm_G} (h : zv_Ok C cX1_isSame RX1) (hc : zm_C C G 7 (Option.some FieldType.boolean) 3 0 0) : ∀ (n : Nat) (σ : MEM) (x1 x2 x3 x5 x6 : Int), inR x1 → inR x2 → inR x3 → isB x5 → inR x6 → VV C (m_isSame_16 n σ x1 x2 x3 x5 x6) σ [(0, .ref (zm_h G)), (1, iv x1), (2, iv x2), (3, iv x3), (5, iv x5), (6, iv x6)] [] 16 := by
  have hN : ∀ i, i < 7 → i < zv_n C := fun i q => by rw [hc.2.2.1]; exact q
  intro n
  induction n with
  | zero => intros; exact r_none
  | succ n ih =>
    intro σ x1 x2 x3 x5 x6 hx1 hx2 hx3 hx5 hx6
    rw [m_isSame_16]
    refine r_iload h 5 dX1_isSame_16 rfl ?_
    refine r_iload_n h 2 dX1_isSame_18 rfl rfl ?_
    refine r_icmp_ge h hx6 hx2 61 dX1_isSame_19 rfl ?_ ?_
    · refine r_iload h 4 dX1_isSame_61 rfl ?_
      exact zm_zret h hc rfl hx5 dX1_isSame_63
    · refine r_iload h 4 dX1_isSame_22 rfl ?_
      refine r_if_eq h hx5.r 61 dX1_isSame_24 rfl ?_ ?_
      · refine r_iload h 4 dX1_isSame_61 rfl ?_
        exact zm_zret h hc rfl hx5 dX1_isSame_63
      · refine r_aload_n h 0 dX1_isSame_27 rfl rfl ?_
        refine zm_getA h hc 11 (by decide) rfl q1491 rfl dX1_isSame_28 ?_
        refine r_iload_n h 1 dX1_isSame_31 rfl rfl ?_
        refine r_iload h 5 dX1_isSame_32 rfl ?_
        refine r_iadd h dX1_isSame_34 ?_
        refine zm_ldB h hc 11 11 12000 (by decide) rfl rfl rfl (by decide) dX1_isSame_35 (fun _ hr1 => ?_)
        refine r_aload_n h 0 dX1_isSame_36 rfl rfl ?_
        refine zm_getA h hc 11 (by decide) rfl q1491 rfl dX1_isSame_37 ?_
        refine r_iload_n h 3 dX1_isSame_40 rfl rfl ?_
        refine r_iload h 5 dX1_isSame_41 rfl ?_
        refine r_iadd h dX1_isSame_43 ?_
        refine zm_ldB h hc 11 11 12000 (by decide) rfl rfl rfl (by decide) dX1_isSame_44 (fun _ hr2 => ?_)
        refine r_icmp_ne h hr1.r hr2.r 52 dX1_isSame_45 rfl ?_ ?_
        · refine r_iconst h dX1_isSame_48 ?_
          refine r_goto h 53 dX1_isSame_49 rfl ?_
          refine r_istore (lv' := [(5, iv 1), (0, .ref (zm_h G)), (1, iv x1), (2, iv x2), (3, iv x3), (6, iv x6)]) h dX1_isSame_53 (hN _ (by decide)) rfl ?_
          refine r_iinc (lv' := [(6, iv (x6 + 1)), (5, iv 1), (0, .ref (zm_h G)), (1, iv x1), (2, iv x2), (3, iv x3)]) h 5 dX1_isSame_55 rfl (hN _ (by decide)) rfl ?_
          refine r_goto h 16 dX1_isSame_58 rfl ?_
          refine r_ck (fun hk3 => ?_)
          exact r_lv [2, 3, 4, 5, 1, 0] rfl (ih _ x1 x2 x3 1 (x6 + 1) hx1 hx2 hx3 (by decide) hk3)
        · refine r_iconst h dX1_isSame_52 ?_
          refine r_istore (lv' := [(5, iv 0), (0, .ref (zm_h G)), (1, iv x1), (2, iv x2), (3, iv x3), (6, iv x6)]) h dX1_isSame_53 (hN _ (by decide)) rfl ?_
          refine r_iinc (lv' := [(6, iv (x6 + 1)), (5, iv 0), (0, .ref (zm_h G)), (1, iv x1), (2, iv x2), (3, iv x3)]) h 5 dX1_isSame_55 rfl (hN _ (by decide)) rfl ?_
          refine r_goto h 16 dX1_isSame_58 rfl ?_
          refine r_ck (fun hk4 => ?_)
          exact r_lv [2, 3, 4, 5, 1, 0] rfl (ih _ x1 x2 x3 0 (x6 + 1) hx1 hx2 hx3 (by decide) hk4)
def m_isSame (σ : MEM) (a0 a1 a2 a3 : Int) : Option zm_O := if a1 = a3 then (m_isSame_16 zF σ a0 a1 a2 1 0) else (m_isSame_16 zF σ a0 a1 a2 0 0)
theorem w_isSame {G : zm_G} (hD : zm_D G) (σ : MEM) (a0 a1 a2 a3 : Int) (ha0 : inR a0) (ha1 : inR a1) (ha2 : inR a2) (ha3 : inR a3) (o : zm_O) (hd : m_isSame σ a0 a1 a2 a3 = some o) : zm_Met G yX1_isSame cX1_isSame 7 (Option.some FieldType.boolean) 3 0 0 σ [.ref (zm_h G), iv a0, iv a1, iv a2, iv a3] o := by
  refine zm_intro hD hd (by decide) rfl (Nat.le_of_ble_eq_true rfl) rfl (fun C h hc => ?_)
  have hN : ∀ i, i < 7 → i < zv_n C := fun i q => by rw [hc.2.2.1]; exact q
  unfold m_isSame
  refine r_iload_n h 2 dX1_isSame_0 rfl rfl ?_
  refine r_iload h 4 dX1_isSame_1 rfl ?_
  refine r_icmp_ne h ha1 ha3 10 dX1_isSame_3 rfl ?_ ?_
  · refine r_iconst h dX1_isSame_6 ?_
    refine r_goto h 11 dX1_isSame_7 rfl ?_
    refine r_istore (lv' := [(5, iv 1), (0, .ref (zm_h G)), (1, iv a0), (2, iv a1), (3, iv a2), (4, iv a3)]) h dX1_isSame_11 (hN _ (by decide)) rfl ?_
    refine r_iconst h dX1_isSame_13 ?_
    refine r_istore (lv' := [(6, iv 0), (5, iv 1), (0, .ref (zm_h G)), (1, iv a0), (2, iv a1), (3, iv a2), (4, iv a3)]) h dX1_isSame_14 (hN _ (by decide)) rfl ?_
    exact r_lv [2, 3, 4, 5, 1, 0] rfl (w_isSame_16 h hc zF _ a0 a1 a2 1 0 ha0 ha1 ha2 (by decide) (by decide))
  · refine r_iconst h dX1_isSame_10 ?_
    refine r_istore (lv' := [(5, iv 0), (0, .ref (zm_h G)), (1, iv a0), (2, iv a1), (3, iv a2), (4, iv a3)]) h dX1_isSame_11 (hN _ (by decide)) rfl ?_
    refine r_iconst h dX1_isSame_13 ?_
    refine r_istore (lv' := [(6, iv 0), (5, iv 0), (0, .ref (zm_h G)), (1, iv a0), (2, iv a1), (3, iv a2), (4, iv a3)]) h dX1_isSame_14 (hN _ (by decide)) rfl ?_
    exact r_lv [2, 3, 4, 5, 1, 0] rfl (w_isSame_16 h hc zF _ a0 a1 a2 0 0 ha0 ha1 ha2 (by decide) (by decide))
theorem dX1_hasRule_0 : decode cX1_hasRule 0 = .ok (.iconst 0, 1) := by decide +kernel
theorem dX1_hasRule_1 : decode cX1_hasRule 1 = .ok (.istore 5, 2) := by decide +kernel
theorem dX1_hasRule_3 : decode cX1_hasRule 3 = .ok (.aload_n 0, 1) := by decide +kernel
theorem dX1_hasRule_4 : decode cX1_hasRule 4 = .ok (.iconst 0, 1) := by decide +kernel
theorem dX1_hasRule_5 : decode cX1_hasRule 5 = .ok (.putfield 409, 3) := by decide +kernel
theorem dX1_hasRule_8 : decode cX1_hasRule 8 = .ok (.sipush 800, 3) := by decide +kernel
theorem dX1_hasRule_11 : decode cX1_hasRule 11 = .ok (.aload_n 0, 1) := by decide +kernel
theorem dX1_hasRule_12 : decode cX1_hasRule 12 = .ok (.getfield 328, 3) := by decide +kernel
theorem dX1_hasRule_15 : decode cX1_hasRule 15 = .ok (.imul, 1) := by decide +kernel
theorem dX1_hasRule_16 : decode cX1_hasRule 16 = .ok (.istore 6, 2) := by decide +kernel
theorem dX1_hasRule_18 : decode cX1_hasRule 18 = .ok (.iload 6, 2) := by decide +kernel
theorem dX1_hasRule_20 : decode cX1_hasRule 20 = .ok (.sipush 800, 3) := by decide +kernel
theorem dX1_hasRule_23 : decode cX1_hasRule 23 = .ok (.aload_n 0, 1) := by decide +kernel
theorem dX1_hasRule_24 : decode cX1_hasRule 24 = .ok (.getfield 328, 3) := by decide +kernel
theorem dX1_hasRule_27 : decode cX1_hasRule 27 = .ok (.imul, 1) := by decide +kernel
theorem dX1_hasRule_28 : decode cX1_hasRule 28 = .ok (.aload_n 0, 1) := by decide +kernel
theorem dX1_hasRule_29 : decode cX1_hasRule 29 = .ok (.getfield 104, 3) := by decide +kernel
theorem dX1_hasRule_32 : decode cX1_hasRule 32 = .ok (.aload_n 0, 1) := by decide +kernel
theorem dX1_hasRule_33 : decode cX1_hasRule 33 = .ok (.getfield 328, 3) := by decide +kernel
theorem dX1_hasRule_36 : decode cX1_hasRule 36 = .ok (.iaload, 1) := by decide +kernel
theorem dX1_hasRule_37 : decode cX1_hasRule 37 = .ok (.iadd, 1) := by decide +kernel
theorem dX1_hasRule_38 : decode cX1_hasRule 38 = .ok (.if_icmp .ge 78, 3) := by decide +kernel
theorem dX1_hasRule_41 : decode cX1_hasRule 41 = .ok (.aload_n 0, 1) := by decide +kernel
theorem dX1_hasRule_42 : decode cX1_hasRule 42 = .ok (.aload_n 0, 1) := by decide +kernel
theorem dX1_hasRule_43 : decode cX1_hasRule 43 = .ok (.getfield 107, 3) := by decide +kernel
theorem dX1_hasRule_46 : decode cX1_hasRule 46 = .ok (.iload 6, 2) := by decide +kernel
theorem dX1_hasRule_48 : decode cX1_hasRule 48 = .ok (.iaload, 1) := by decide +kernel
theorem dX1_hasRule_49 : decode cX1_hasRule 49 = .ok (.aload_n 0, 1) := by decide +kernel
theorem dX1_hasRule_50 : decode cX1_hasRule 50 = .ok (.getfield 110, 3) := by decide +kernel
theorem dX1_hasRule_53 : decode cX1_hasRule 53 = .ok (.iload 6, 2) := by decide +kernel
theorem dX1_hasRule_55 : decode cX1_hasRule 55 = .ok (.iaload, 1) := by decide +kernel
theorem dX1_hasRule_56 : decode cX1_hasRule 56 = .ok (.iload_n 1, 1) := by decide +kernel
theorem dX1_hasRule_57 : decode cX1_hasRule 57 = .ok (.iload_n 2, 1) := by decide +kernel
theorem dX1_hasRule_58 : decode cX1_hasRule 58 = .ok (.invokevirtual 412, 3) := by decide +kernel
theorem dX1_hasRule_61 : decode cX1_hasRule 61 = .ok (.ifCond .eq 49, 3) := by decide +kernel
theorem dX1_hasRule_64 : decode cX1_hasRule 64 = .ok (.aload_n 0, 1) := by decide +kernel
theorem dX1_hasRule_65 : decode cX1_hasRule 65 = .ok (.dup, 1) := by decide +kernel
theorem dX1_hasRule_66 : decode cX1_hasRule 66 = .ok (.getfield 409, 3) := by decide +kernel
theorem dX1_hasRule_69 : decode cX1_hasRule 69 = .ok (.iconst 1, 1) := by decide +kernel
theorem dX1_hasRule_70 : decode cX1_hasRule 70 = .ok (.iadd, 1) := by decide +kernel
theorem dX1_hasRule_71 : decode cX1_hasRule 71 = .ok (.putfield 409, 3) := by decide +kernel
theorem dX1_hasRule_74 : decode cX1_hasRule 74 = .ok (.iload 5, 2) := by decide +kernel
theorem dX1_hasRule_76 : decode cX1_hasRule 76 = .ok (.ifCond .ne 27, 3) := by decide +kernel
theorem dX1_hasRule_79 : decode cX1_hasRule 79 = .ok (.aload_n 0, 1) := by decide +kernel
theorem dX1_hasRule_80 : decode cX1_hasRule 80 = .ok (.aload_n 0, 1) := by decide +kernel
theorem dX1_hasRule_81 : decode cX1_hasRule 81 = .ok (.getfield 113, 3) := by decide +kernel
theorem dX1_hasRule_84 : decode cX1_hasRule 84 = .ok (.iload 6, 2) := by decide +kernel
theorem dX1_hasRule_86 : decode cX1_hasRule 86 = .ok (.iaload, 1) := by decide +kernel
theorem dX1_hasRule_87 : decode cX1_hasRule 87 = .ok (.aload_n 0, 1) := by decide +kernel
theorem dX1_hasRule_88 : decode cX1_hasRule 88 = .ok (.getfield 116, 3) := by decide +kernel
theorem dX1_hasRule_91 : decode cX1_hasRule 91 = .ok (.iload 6, 2) := by decide +kernel
theorem dX1_hasRule_93 : decode cX1_hasRule 93 = .ok (.iaload, 1) := by decide +kernel
theorem dX1_hasRule_94 : decode cX1_hasRule 94 = .ok (.iload_n 3, 1) := by decide +kernel
theorem dX1_hasRule_95 : decode cX1_hasRule 95 = .ok (.iload 4, 2) := by decide +kernel
theorem dX1_hasRule_97 : decode cX1_hasRule 97 = .ok (.invokevirtual 412, 3) := by decide +kernel
theorem dX1_hasRule_100 : decode cX1_hasRule 100 = .ok (.ifCond .eq 7, 3) := by decide +kernel
theorem dX1_hasRule_103 : decode cX1_hasRule 103 = .ok (.iconst 1, 1) := by decide +kernel
theorem dX1_hasRule_104 : decode cX1_hasRule 104 = .ok (.goto 4, 3) := by decide +kernel
theorem dX1_hasRule_107 : decode cX1_hasRule 107 = .ok (.iconst 0, 1) := by decide +kernel
theorem dX1_hasRule_108 : decode cX1_hasRule 108 = .ok (.istore 5, 2) := by decide +kernel
theorem dX1_hasRule_110 : decode cX1_hasRule 110 = .ok (.iinc 6 1, 3) := by decide +kernel
theorem dX1_hasRule_113 : decode cX1_hasRule 113 = .ok (.goto (-95), 3) := by decide +kernel
theorem dX1_hasRule_116 : decode cX1_hasRule 116 = .ok (.iload 5, 2) := by decide +kernel
theorem dX1_hasRule_118 : decode cX1_hasRule 118 = .ok (.ireturn, 1) := by decide +kernel
def m_hasRule_18 : Nat → MEM → Int → Int → Int → Int → Int → Int → Option zm_O
  | 0, _, _, _, _, _, _, _ => none
  | n + 1, σ, x1, x2, x3, x4, x5, x6 => ck (0 ≤ (σ (-1) 8) ∧ (σ (-1) 8) < 2) (ck (inR ((800 * (σ (-1) 8)) + (σ 37 (σ (-1) 8)))) (if ((800 * (σ (-1) 8)) + (σ 37 (σ (-1) 8))) ≤ x6 then (some (x5, σ)) else (ck (0 ≤ x6 ∧ x6 < 1600) (ck (0 ≤ x6 ∧ x6 < 1600) (bd (m_isSame σ (σ 38 x6) (σ 39 x6) x1 x2) (fun r7 σ8 => if r7 = 0 then (ck (inR (x6 + 1)) (m_hasRule_18 n σ8 x1 x2 x3 x4 x5 (x6 + 1))) else (ck (inR ((σ8 (-1) 62) + 1)) (nu (mup σ8 (-1) 62 ((σ8 (-1) 62) + 1)) (fun σ13 => if x5 = 0 then (ck (0 ≤ x6 ∧ x6 < 1600) (ck (0 ≤ x6 ∧ x6 < 1600) (bd (m_isSame σ13 (σ13 40 x6) (σ13 41 x6) x3 x4) (fun r16 σ17 => if r16 = 0 then (ck (inR (x6 + 1)) (m_hasRule_18 n σ17 x1 x2 x3 x4 0 (x6 + 1))) else (ck (inR (x6 + 1)) (m_hasRule_18 n σ17 x1 x2 x3 x4 1 (x6 + 1))))))) else (ck (inR (x6 + 1)) (m_hasRule_18 n σ13 x1 x2 x3 x4 1 (x6 + 1))))))))))))
theorem w_hasRule_18 {C : zv_Cx zm_O} {G : zm_G} (h : zv_Ok C cX1_hasRule RX1) (hc : zm_C C G 7 (Option.some FieldType.boolean) 3 1 26) : ∀ (n : Nat) (σ : MEM) (x1 x2 x3 x4 x5 x6 : Int), inR x1 → inR x2 → inR x3 → inR x4 → isB x5 → inR x6 → VV C (m_hasRule_18 n σ x1 x2 x3 x4 x5 x6) σ [(0, .ref (zm_h G)), (1, iv x1), (2, iv x2), (3, iv x3), (4, iv x4), (5, iv x5), (6, iv x6)] [] 18 := by
  have hN : ∀ i, i < 7 → i < zv_n C := fun i q => by rw [hc.2.2.1]; exact q
  intro n
  induction n with
  | zero => intros; exact r_none
  | succ n ih =>
    intro σ x1 x2 x3 x4 x5 x6 hx1 hx2 hx3 hx4 hx5 hx6
    rw [m_hasRule_18]
    refine r_iload h 6 dX1_hasRule_18 rfl ?_
    refine r_sipush h dX1_hasRule_20 (by decide) ?_
    refine r_aload_n h 0 dX1_hasRule_23 rfl rfl ?_
    refine zm_getI h hc 8 8 (by decide) rfl rfl q1488 rfl dX1_hasRule_24 (fun hr1 => ?_)
    refine r_imul h dX1_hasRule_27 ?_
    refine r_aload_n h 0 dX1_hasRule_28 rfl rfl ?_
    refine zm_getA h hc 37 (by decide) rfl q1517 rfl dX1_hasRule_29 ?_
    refine r_aload_n h 0 dX1_hasRule_32 rfl rfl ?_
    refine zm_getI h hc 8 8 (by decide) rfl rfl q1488 rfl dX1_hasRule_33 (fun hr2 => ?_)
    refine zm_ldI h hc 37 37 2 (by decide) rfl rfl rfl (by decide) dX1_hasRule_36 (fun _ hr3 => ?_)
    refine r_iadd h dX1_hasRule_37 ?_
    refine r_ck (fun hk4 => ?_)
    refine r_icmp_ge h hx6 hk4 116 dX1_hasRule_38 rfl ?_ ?_
    · refine r_iload h 5 dX1_hasRule_116 rfl ?_
      exact zm_zret h hc rfl hx5 dX1_hasRule_118
    · refine r_aload_n h 0 dX1_hasRule_41 rfl rfl ?_
      refine r_aload_n h 0 dX1_hasRule_42 rfl rfl ?_
      refine zm_getA h hc 38 (by decide) rfl q1518 rfl dX1_hasRule_43 ?_
      refine r_iload h 6 dX1_hasRule_46 rfl ?_
      refine zm_ldI h hc 38 38 1600 (by decide) rfl rfl rfl (by decide) dX1_hasRule_48 (fun _ hr5 => ?_)
      refine r_aload_n h 0 dX1_hasRule_49 rfl rfl ?_
      refine zm_getA h hc 39 (by decide) rfl q1519 rfl dX1_hasRule_50 ?_
      refine r_iload h 6 dX1_hasRule_53 rfl ?_
      refine zm_ldI h hc 39 39 1600 (by decide) rfl rfl rfl (by decide) dX1_hasRule_55 (fun _ hr6 => ?_)
      refine r_iload_n h 1 dX1_hasRule_56 rfl rfl ?_
      refine r_iload_n h 2 dX1_hasRule_57 rfl rfl ?_
      refine zm_cVz h hc (n := 4) (As := [iv (σ 38 x6), iv (σ 39 x6), iv x1, iv x2]) (fun o1 e1 => w_isSame hc.1 _ (σ 38 x6) (σ 39 x6) x1 x2 hr5 hr6 hx1 hx2 o1 e1) q1924 q1926 qs79 q136 q1927 (by decide +kernel) ⟨by decide, by decide⟩ rfl (Nat.le_of_ble_eq_true rfl) rfl dX1_hasRule_58 (fun r7 σ8 hr9 => ?_)
      refine r_if_eq h hr9.r 110 dX1_hasRule_61 rfl ?_ ?_
      · refine r_iinc (lv' := [(6, iv (x6 + 1)), (0, .ref (zm_h G)), (1, iv x1), (2, iv x2), (3, iv x3), (4, iv x4), (5, iv x5)]) h 6 dX1_hasRule_110 rfl (hN _ (by decide)) rfl ?_
        refine r_goto h 18 dX1_hasRule_113 rfl ?_
        refine r_ck (fun hk10 => ?_)
        exact r_lv [1, 2, 3, 4, 5, 6, 0] rfl (ih _ x1 x2 x3 x4 x5 (x6 + 1) hx1 hx2 hx3 hx4 hx5 hk10)
      · refine r_aload_n h 0 dX1_hasRule_64 rfl rfl ?_
        refine r_dup h dX1_hasRule_65 rfl ?_
        refine zm_getI h hc 62 62 (by decide) rfl rfl q1541 rfl dX1_hasRule_66 (fun hr11 => ?_)
        refine r_iconst h dX1_hasRule_69 ?_
        refine r_iadd h dX1_hasRule_70 ?_
        refine r_ck (fun hk12 => ?_)
        refine zm_putI h hc 62 62 (by decide) rfl rfl q1541 ⟨rfl, rfl, by decide +kernel⟩ hk12 dX1_hasRule_71 (fun σ13 _ => ?_)
        refine r_iload h 5 dX1_hasRule_74 rfl ?_
        refine r_if_ne h hx5.r 103 dX1_hasRule_76 rfl ?_ ?_
        · refine r_aload_n h 0 dX1_hasRule_79 rfl rfl ?_
          refine r_aload_n h 0 dX1_hasRule_80 rfl rfl ?_
          refine zm_getA h hc 40 (by decide) rfl q1520 rfl dX1_hasRule_81 ?_
          refine r_iload h 6 dX1_hasRule_84 rfl ?_
          refine zm_ldI h hc 40 40 1600 (by decide) rfl rfl rfl (by decide) dX1_hasRule_86 (fun _ hr14 => ?_)
          refine r_aload_n h 0 dX1_hasRule_87 rfl rfl ?_
          refine zm_getA h hc 41 (by decide) rfl q1521 rfl dX1_hasRule_88 ?_
          refine r_iload h 6 dX1_hasRule_91 rfl ?_
          refine zm_ldI h hc 41 41 1600 (by decide) rfl rfl rfl (by decide) dX1_hasRule_93 (fun _ hr15 => ?_)
          refine r_iload_n h 3 dX1_hasRule_94 rfl rfl ?_
          refine r_iload h 4 dX1_hasRule_95 rfl ?_
          refine zm_cVz h hc (n := 4) (As := [iv (σ13 40 x6), iv (σ13 41 x6), iv x3, iv x4]) (fun o1 e1 => w_isSame hc.1 _ (σ13 40 x6) (σ13 41 x6) x3 x4 hr14 hr15 hx3 hx4 o1 e1) q1924 q1926 qs79 q136 q1927 (by decide +kernel) ⟨by decide, by decide⟩ rfl (Nat.le_of_ble_eq_true rfl) rfl dX1_hasRule_97 (fun r16 σ17 hr18 => ?_)
          refine r_if_eq h hr18.r 107 dX1_hasRule_100 rfl ?_ ?_
          · refine r_iconst h dX1_hasRule_107 ?_
            refine r_istore (lv' := [(5, iv 0), (0, .ref (zm_h G)), (1, iv x1), (2, iv x2), (3, iv x3), (4, iv x4), (6, iv x6)]) h dX1_hasRule_108 (hN _ (by decide)) rfl ?_
            refine r_iinc (lv' := [(6, iv (x6 + 1)), (5, iv 0), (0, .ref (zm_h G)), (1, iv x1), (2, iv x2), (3, iv x3), (4, iv x4)]) h 6 dX1_hasRule_110 rfl (hN _ (by decide)) rfl ?_
            refine r_goto h 18 dX1_hasRule_113 rfl ?_
            refine r_ck (fun hk19 => ?_)
            exact r_lv [2, 3, 4, 5, 6, 1, 0] rfl (ih _ x1 x2 x3 x4 0 (x6 + 1) hx1 hx2 hx3 hx4 (by decide) hk19)
          · refine r_iconst h dX1_hasRule_103 ?_
            refine r_goto h 108 dX1_hasRule_104 rfl ?_
            refine r_istore (lv' := [(5, iv 1), (0, .ref (zm_h G)), (1, iv x1), (2, iv x2), (3, iv x3), (4, iv x4), (6, iv x6)]) h dX1_hasRule_108 (hN _ (by decide)) rfl ?_
            refine r_iinc (lv' := [(6, iv (x6 + 1)), (5, iv 1), (0, .ref (zm_h G)), (1, iv x1), (2, iv x2), (3, iv x3), (4, iv x4)]) h 6 dX1_hasRule_110 rfl (hN _ (by decide)) rfl ?_
            refine r_goto h 18 dX1_hasRule_113 rfl ?_
            refine r_ck (fun hk20 => ?_)
            exact r_lv [2, 3, 4, 5, 6, 1, 0] rfl (ih _ x1 x2 x3 x4 1 (x6 + 1) hx1 hx2 hx3 hx4 (by decide) hk20)
        · refine r_iconst h dX1_hasRule_103 ?_
          refine r_goto h 108 dX1_hasRule_104 rfl ?_
          refine r_istore (lv' := [(5, iv 1), (0, .ref (zm_h G)), (1, iv x1), (2, iv x2), (3, iv x3), (4, iv x4), (6, iv x6)]) h dX1_hasRule_108 (hN _ (by decide)) rfl ?_
          refine r_iinc (lv' := [(6, iv (x6 + 1)), (5, iv 1), (0, .ref (zm_h G)), (1, iv x1), (2, iv x2), (3, iv x3), (4, iv x4)]) h 6 dX1_hasRule_110 rfl (hN _ (by decide)) rfl ?_
          refine r_goto h 18 dX1_hasRule_113 rfl ?_
          refine r_ck (fun hk21 => ?_)
          exact r_lv [2, 3, 4, 5, 6, 1, 0] rfl (ih _ x1 x2 x3 x4 1 (x6 + 1) hx1 hx2 hx3 hx4 (by decide) hk21)
def m_hasRule (σ : MEM) (a0 a1 a2 a3 : Int) : Option zm_O := nu (mup σ (-1) 62 0) (fun σ1 => ck (inR (800 * (σ1 (-1) 8))) (m_hasRule_18 zF σ1 a0 a1 a2 a3 0 (800 * (σ1 (-1) 8))))
theorem w_hasRule {G : zm_G} (hD : zm_D G) (σ : MEM) (a0 a1 a2 a3 : Int) (ha0 : inR a0) (ha1 : inR a1) (ha2 : inR a2) (ha3 : inR a3) (o : zm_O) (hd : m_hasRule σ a0 a1 a2 a3 = some o) : zm_Met G yX1_hasRule cX1_hasRule 7 (Option.some FieldType.boolean) 3 1 26 σ [.ref (zm_h G), iv a0, iv a1, iv a2, iv a3] o := by
  refine zm_intro hD hd (by decide) rfl (Nat.le_of_ble_eq_true rfl) rfl (fun C h hc => ?_)
  have hN : ∀ i, i < 7 → i < zv_n C := fun i q => by rw [hc.2.2.1]; exact q
  unfold m_hasRule
  refine r_iconst h dX1_hasRule_0 ?_
  refine r_istore (lv' := [(5, iv 0), (0, .ref (zm_h G)), (1, iv a0), (2, iv a1), (3, iv a2), (4, iv a3)]) h dX1_hasRule_1 (hN _ (by decide)) rfl ?_
  refine r_aload_n h 1 dX1_hasRule_3 rfl rfl ?_
  refine r_iconst h dX1_hasRule_4 ?_
  refine zm_putI h hc 62 62 (by decide) rfl rfl q1541 ⟨rfl, rfl, by decide +kernel⟩ (by decide) dX1_hasRule_5 (fun σ1 _ => ?_)
  refine r_sipush h dX1_hasRule_8 (by decide) ?_
  refine r_aload_n h 1 dX1_hasRule_11 rfl rfl ?_
  refine zm_getI h hc 8 8 (by decide) rfl rfl q1488 rfl dX1_hasRule_12 (fun hr2 => ?_)
  refine r_imul h dX1_hasRule_15 ?_
  refine r_istore (lv' := [(6, iv (800 * (σ1 (-1) 8))), (5, iv 0), (0, .ref (zm_h G)), (1, iv a0), (2, iv a1), (3, iv a2), (4, iv a3)]) h dX1_hasRule_16 (hN _ (by decide)) rfl ?_
  refine r_ck (fun hk3 => ?_)
  exact r_lv [2, 3, 4, 5, 6, 1, 0] rfl (w_hasRule_18 h hc zF _ a0 a1 a2 a3 0 (800 * (σ1 (-1) 8)) ha0 ha1 ha2 ha3 (by decide) hk3)
theorem dX1_tokens_0 : decode cX1_tokens 0 = .ok (.iconst 1, 1) := by decide +kernel
theorem dX1_tokens_1 : decode cX1_tokens 1 = .ok (.istore_n 2, 1) := by decide +kernel
theorem dX1_tokens_2 : decode cX1_tokens 2 = .ok (.aload_n 0, 1) := by decide +kernel
theorem dX1_tokens_3 : decode cX1_tokens 3 = .ok (.invokevirtual 289, 3) := by decide +kernel
theorem dX1_tokens_6 : decode cX1_tokens 6 = .ok (.ifCond .eq 216, 3) := by decide +kernel
theorem dX1_tokens_9 : decode cX1_tokens 9 = .ok (.iload_n 2, 1) := by decide +kernel
theorem dX1_tokens_10 : decode cX1_tokens 10 = .ok (.ifCond .eq 212, 3) := by decide +kernel
theorem dX1_tokens_13 : decode cX1_tokens 13 = .ok (.aload_n 0, 1) := by decide +kernel
theorem dX1_tokens_14 : decode cX1_tokens 14 = .ok (.invokevirtual 300, 3) := by decide +kernel
theorem dX1_tokens_17 : decode cX1_tokens 17 = .ok (.aload_n 0, 1) := by decide +kernel
theorem dX1_tokens_18 : decode cX1_tokens 18 = .ok (.getfield 276, 3) := by decide +kernel
theorem dX1_tokens_21 : decode cX1_tokens 21 = .ok (.istore_n 3, 1) := by decide +kernel
theorem dX1_tokens_22 : decode cX1_tokens 22 = .ok (.aload_n 0, 1) := by decide +kernel
theorem dX1_tokens_23 : decode cX1_tokens 23 = .ok (.aload_n 0, 1) := by decide +kernel
theorem dX1_tokens_24 : decode cX1_tokens 24 = .ok (.getfield 276, 3) := by decide +kernel
theorem dX1_tokens_27 : decode cX1_tokens 27 = .ok (.invokevirtual 279, 3) := by decide +kernel
theorem dX1_tokens_30 : decode cX1_tokens 30 = .ok (.invokestatic 303, 3) := by decide +kernel
theorem dX1_tokens_33 : decode cX1_tokens 33 = .ok (.ifCond .eq 16, 3) := by decide +kernel
theorem dX1_tokens_36 : decode cX1_tokens 36 = .ok (.aload_n 0, 1) := by decide +kernel
theorem dX1_tokens_37 : decode cX1_tokens 37 = .ok (.dup, 1) := by decide +kernel
theorem dX1_tokens_38 : decode cX1_tokens 38 = .ok (.getfield 276, 3) := by decide +kernel
theorem dX1_tokens_41 : decode cX1_tokens 41 = .ok (.iconst 1, 1) := by decide +kernel
theorem dX1_tokens_42 : decode cX1_tokens 42 = .ok (.iadd, 1) := by decide +kernel
theorem dX1_tokens_43 : decode cX1_tokens 43 = .ok (.putfield 276, 3) := by decide +kernel
theorem dX1_tokens_46 : decode cX1_tokens 46 = .ok (.goto (-24), 3) := by decide +kernel
theorem dX1_tokens_49 : decode cX1_tokens 49 = .ok (.aload_n 0, 1) := by decide +kernel
theorem dX1_tokens_50 : decode cX1_tokens 50 = .ok (.getfield 276, 3) := by decide +kernel
theorem dX1_tokens_53 : decode cX1_tokens 53 = .ok (.iload_n 3, 1) := by decide +kernel
theorem dX1_tokens_54 : decode cX1_tokens 54 = .ok (.isub, 1) := by decide +kernel
theorem dX1_tokens_55 : decode cX1_tokens 55 = .ok (.istore 4, 2) := by decide +kernel
theorem dX1_tokens_57 : decode cX1_tokens 57 = .ok (.aload_n 0, 1) := by decide +kernel
theorem dX1_tokens_58 : decode cX1_tokens 58 = .ok (.invokevirtual 289, 3) := by decide +kernel
theorem dX1_tokens_61 : decode cX1_tokens 61 = .ok (.ifCond .eq 17, 3) := by decide +kernel
theorem dX1_tokens_64 : decode cX1_tokens 64 = .ok (.iload 4, 2) := by decide +kernel
theorem dX1_tokens_66 : decode cX1_tokens 66 = .ok (.ifCond .ne 12, 3) := by decide +kernel
theorem dX1_tokens_69 : decode cX1_tokens 69 = .ok (.aload_n 0, 1) := by decide +kernel
theorem dX1_tokens_70 : decode cX1_tokens 70 = .ok (.iconst (-1), 1) := by decide +kernel
theorem dX1_tokens_71 : decode cX1_tokens 71 = .ok (.iload_n 3, 1) := by decide +kernel
theorem dX1_tokens_72 : decode cX1_tokens 72 = .ok (.invokevirtual 293, 3) := by decide +kernel
theorem dX1_tokens_75 : decode cX1_tokens 75 = .ok (.goto 35, 3) := by decide +kernel
theorem dX1_tokens_78 : decode cX1_tokens 78 = .ok (.aload_n 0, 1) := by decide +kernel
theorem dX1_tokens_79 : decode cX1_tokens 79 = .ok (.invokevirtual 289, 3) := by decide +kernel
theorem dX1_tokens_82 : decode cX1_tokens 82 = .ok (.ifCond .eq 28, 3) := by decide +kernel
theorem dX1_tokens_85 : decode cX1_tokens 85 = .ok (.iload 4, 2) := by decide +kernel
theorem dX1_tokens_87 : decode cX1_tokens 87 = .ok (.bipush 20, 2) := by decide +kernel
theorem dX1_tokens_89 : decode cX1_tokens 89 = .ok (.if_icmp .gt 14, 3) := by decide +kernel
theorem dX1_tokens_92 : decode cX1_tokens 92 = .ok (.aload_n 0, 1) := by decide +kernel
theorem dX1_tokens_93 : decode cX1_tokens 93 = .ok (.getfield 131, 3) := by decide +kernel
theorem dX1_tokens_96 : decode cX1_tokens 96 = .ok (.iload_n 1, 1) := by decide +kernel
theorem dX1_tokens_97 : decode cX1_tokens 97 = .ok (.iaload, 1) := by decide +kernel
theorem dX1_tokens_98 : decode cX1_tokens 98 = .ok (.bipush 8, 2) := by decide +kernel
theorem dX1_tokens_100 : decode cX1_tokens 100 = .ok (.if_icmp .ne 10, 3) := by decide +kernel
theorem dX1_tokens_103 : decode cX1_tokens 103 = .ok (.aload_n 0, 1) := by decide +kernel
theorem dX1_tokens_104 : decode cX1_tokens 104 = .ok (.bipush (-3), 2) := by decide +kernel
theorem dX1_tokens_106 : decode cX1_tokens 106 = .ok (.iload_n 3, 1) := by decide +kernel
theorem dX1_tokens_107 : decode cX1_tokens 107 = .ok (.invokevirtual 293, 3) := by decide +kernel
theorem dX1_tokens_110 : decode cX1_tokens 110 = .ok (.aload_n 0, 1) := by decide +kernel
theorem dX1_tokens_111 : decode cX1_tokens 111 = .ok (.invokevirtual 289, 3) := by decide +kernel
theorem dX1_tokens_114 : decode cX1_tokens 114 = .ok (.ifCond .eq 57, 3) := by decide +kernel
theorem dX1_tokens_117 : decode cX1_tokens 117 = .ok (.aload_n 0, 1) := by decide +kernel
theorem dX1_tokens_118 : decode cX1_tokens 118 = .ok (.getfield 134, 3) := by decide +kernel
theorem dX1_tokens_121 : decode cX1_tokens 121 = .ok (.bipush 8, 2) := by decide +kernel
theorem dX1_tokens_123 : decode cX1_tokens 123 = .ok (.iload_n 1, 1) := by decide +kernel
theorem dX1_tokens_124 : decode cX1_tokens 124 = .ok (.imul, 1) := by decide +kernel
theorem dX1_tokens_125 : decode cX1_tokens 125 = .ok (.aload_n 0, 1) := by decide +kernel
theorem dX1_tokens_126 : decode cX1_tokens 126 = .ok (.getfield 131, 3) := by decide +kernel
theorem dX1_tokens_129 : decode cX1_tokens 129 = .ok (.iload_n 1, 1) := by decide +kernel
theorem dX1_tokens_130 : decode cX1_tokens 130 = .ok (.iaload, 1) := by decide +kernel
theorem dX1_tokens_131 : decode cX1_tokens 131 = .ok (.iadd, 1) := by decide +kernel
theorem dX1_tokens_132 : decode cX1_tokens 132 = .ok (.sipush 6000, 3) := by decide +kernel
theorem dX1_tokens_135 : decode cX1_tokens 135 = .ok (.aload_n 0, 1) := by decide +kernel
theorem dX1_tokens_136 : decode cX1_tokens 136 = .ok (.getfield 328, 3) := by decide +kernel
theorem dX1_tokens_139 : decode cX1_tokens 139 = .ok (.imul, 1) := by decide +kernel
theorem dX1_tokens_140 : decode cX1_tokens 140 = .ok (.iload_n 3, 1) := by decide +kernel
theorem dX1_tokens_141 : decode cX1_tokens 141 = .ok (.iadd, 1) := by decide +kernel
theorem dX1_tokens_142 : decode cX1_tokens 142 = .ok (.iastore, 1) := by decide +kernel
theorem dX1_tokens_143 : decode cX1_tokens 143 = .ok (.aload_n 0, 1) := by decide +kernel
theorem dX1_tokens_144 : decode cX1_tokens 144 = .ok (.getfield 137, 3) := by decide +kernel
theorem dX1_tokens_147 : decode cX1_tokens 147 = .ok (.bipush 8, 2) := by decide +kernel
theorem dX1_tokens_149 : decode cX1_tokens 149 = .ok (.iload_n 1, 1) := by decide +kernel
theorem dX1_tokens_150 : decode cX1_tokens 150 = .ok (.imul, 1) := by decide +kernel
theorem dX1_tokens_151 : decode cX1_tokens 151 = .ok (.aload_n 0, 1) := by decide +kernel
theorem dX1_tokens_152 : decode cX1_tokens 152 = .ok (.getfield 131, 3) := by decide +kernel
theorem dX1_tokens_155 : decode cX1_tokens 155 = .ok (.iload_n 1, 1) := by decide +kernel
theorem dX1_tokens_156 : decode cX1_tokens 156 = .ok (.iaload, 1) := by decide +kernel
theorem dX1_tokens_157 : decode cX1_tokens 157 = .ok (.iadd, 1) := by decide +kernel
theorem dX1_tokens_158 : decode cX1_tokens 158 = .ok (.iload 4, 2) := by decide +kernel
theorem dX1_tokens_160 : decode cX1_tokens 160 = .ok (.iastore, 1) := by decide +kernel
theorem dX1_tokens_161 : decode cX1_tokens 161 = .ok (.aload_n 0, 1) := by decide +kernel
theorem dX1_tokens_162 : decode cX1_tokens 162 = .ok (.getfield 131, 3) := by decide +kernel
theorem dX1_tokens_165 : decode cX1_tokens 165 = .ok (.iload_n 1, 1) := by decide +kernel
theorem dX1_tokens_166 : decode cX1_tokens 166 = .ok (.dup2, 1) := by decide +kernel
theorem dX1_tokens_167 : decode cX1_tokens 167 = .ok (.iaload, 1) := by decide +kernel
theorem dX1_tokens_168 : decode cX1_tokens 168 = .ok (.iconst 1, 1) := by decide +kernel
theorem dX1_tokens_169 : decode cX1_tokens 169 = .ok (.iadd, 1) := by decide +kernel
theorem dX1_tokens_170 : decode cX1_tokens 170 = .ok (.iastore, 1) := by decide +kernel
theorem dX1_tokens_171 : decode cX1_tokens 171 = .ok (.aload_n 0, 1) := by decide +kernel
theorem dX1_tokens_172 : decode cX1_tokens 172 = .ok (.invokevirtual 300, 3) := by decide +kernel
theorem dX1_tokens_175 : decode cX1_tokens 175 = .ok (.aload_n 0, 1) := by decide +kernel
theorem dX1_tokens_176 : decode cX1_tokens 176 = .ok (.aload_n 0, 1) := by decide +kernel
theorem dX1_tokens_177 : decode cX1_tokens 177 = .ok (.getfield 276, 3) := by decide +kernel
theorem dX1_tokens_180 : decode cX1_tokens 180 = .ok (.invokevirtual 279, 3) := by decide +kernel
theorem dX1_tokens_183 : decode cX1_tokens 183 = .ok (.bipush 124, 2) := by decide +kernel
theorem dX1_tokens_185 : decode cX1_tokens 185 = .ok (.if_icmp .ne 7, 3) := by decide +kernel
theorem dX1_tokens_188 : decode cX1_tokens 188 = .ok (.iconst 1, 1) := by decide +kernel
theorem dX1_tokens_189 : decode cX1_tokens 189 = .ok (.goto 4, 3) := by decide +kernel
theorem dX1_tokens_192 : decode cX1_tokens 192 = .ok (.iconst 0, 1) := by decide +kernel
theorem dX1_tokens_193 : decode cX1_tokens 193 = .ok (.istore_n 2, 1) := by decide +kernel
theorem dX1_tokens_194 : decode cX1_tokens 194 = .ok (.aload_n 0, 1) := by decide +kernel
theorem dX1_tokens_195 : decode cX1_tokens 195 = .ok (.dup, 1) := by decide +kernel
theorem dX1_tokens_196 : decode cX1_tokens 196 = .ok (.getfield 276, 3) := by decide +kernel
theorem dX1_tokens_199 : decode cX1_tokens 199 = .ok (.aload_n 0, 1) := by decide +kernel
theorem dX1_tokens_200 : decode cX1_tokens 200 = .ok (.invokevirtual 289, 3) := by decide +kernel
theorem dX1_tokens_203 : decode cX1_tokens 203 = .ok (.ifCond .eq 11, 3) := by decide +kernel
theorem dX1_tokens_206 : decode cX1_tokens 206 = .ok (.iload_n 2, 1) := by decide +kernel
theorem dX1_tokens_207 : decode cX1_tokens 207 = .ok (.ifCond .eq 7, 3) := by decide +kernel
theorem dX1_tokens_210 : decode cX1_tokens 210 = .ok (.iconst 1, 1) := by decide +kernel
theorem dX1_tokens_211 : decode cX1_tokens 211 = .ok (.goto 4, 3) := by decide +kernel
theorem dX1_tokens_214 : decode cX1_tokens 214 = .ok (.iconst 0, 1) := by decide +kernel
theorem dX1_tokens_215 : decode cX1_tokens 215 = .ok (.iadd, 1) := by decide +kernel
theorem dX1_tokens_216 : decode cX1_tokens 216 = .ok (.putfield 276, 3) := by decide +kernel
theorem dX1_tokens_219 : decode cX1_tokens 219 = .ok (.goto (-217), 3) := by decide +kernel
theorem dX1_tokens_222 : decode cX1_tokens 222 = .ok (.aload_n 0, 1) := by decide +kernel
theorem dX1_tokens_223 : decode cX1_tokens 223 = .ok (.bipush 41, 2) := by decide +kernel
theorem dX1_tokens_225 : decode cX1_tokens 225 = .ok (.invokevirtual 340, 3) := by decide +kernel
theorem dX1_tokens_228 : decode cX1_tokens 228 = .ok (.istore_n 3, 1) := by decide +kernel
theorem dX1_tokens_229 : decode cX1_tokens 229 = .ok (.return_, 1) := by decide +kernel
def m_tokens_193 (lp2 : MEM → Int → Int → Option zm_O) (σ : MEM) (x1 s0 : Int) : Option zm_O := bd (m_isGood σ) (fun r2 σ3 => if r2 = 0 then (ck (inR ((σ (-1) 4) + 0)) (nu (mup σ3 (-1) 4 ((σ (-1) 4) + 0)) (fun σ6 => lp2 σ6 x1 s0))) else (if s0 = 0 then (ck (inR ((σ (-1) 4) + 0)) (nu (mup σ3 (-1) 4 ((σ (-1) 4) + 0)) (fun σ8 => lp2 σ8 x1 s0))) else (ck (inR ((σ (-1) 4) + 1)) (nu (mup σ3 (-1) 4 ((σ (-1) 4) + 1)) (fun σ10 => lp2 σ10 x1 s0)))))
theorem w_tokens_193 {C : zv_Cx zm_O} {G : zm_G} (h : zv_Ok C cX1_tokens RX1) (hc : zm_C C G 5 (Option.none : Option FieldType) 0 3 65) (lp2 : MEM → Int → Int → Option zm_O) (hlp2 : ∀ (σ : MEM) (x1 x2 : Int), inR x1 → isB x2 → VV C (lp2 σ x1 x2) σ [(0, .ref (zm_h G)), (1, iv x1), (2, iv x2)] [] 2) (σ : MEM) (x1 s0 : Int) (hx1 : inR x1) (hs0 : isB s0) : VV C (m_tokens_193 lp2 σ x1 s0) σ [(0, .ref (zm_h G)), (1, iv x1)] [iv s0] 193 := by
  have hN : ∀ i, i < 5 → i < zv_n C := fun i q => by rw [hc.2.2.1]; exact q
  unfold m_tokens_193
  refine r_istore_n (lv' := [(2, iv s0), (0, .ref (zm_h G)), (1, iv x1)]) h dX1_tokens_193 rfl (hN _ (by decide)) rfl ?_
  refine r_aload_n h 1 dX1_tokens_194 rfl rfl ?_
  refine r_dup h dX1_tokens_195 rfl ?_
  refine zm_getI h hc 4 4 (by decide) rfl rfl q1484 rfl dX1_tokens_196 (fun hr1 => ?_)
  refine r_aload_n h 1 dX1_tokens_199 rfl rfl ?_
  refine zm_cVz h hc (n := 0) (As := []) (fun o1 e1 => w_isGood hc.1 _ o1 e1) q1801 q1803 qs56 q136 q1804 (by decide +kernel) ⟨by decide, by decide⟩ rfl (Nat.le_of_ble_eq_true rfl) rfl dX1_tokens_200 (fun r2 σ3 hr4 => ?_)
  refine r_if_eq h hr4.r 214 dX1_tokens_203 rfl ?_ ?_
  · refine r_iconst h dX1_tokens_214 ?_
    refine r_iadd h dX1_tokens_215 ?_
    refine r_ck (fun hk5 => ?_)
    refine zm_putI h hc 4 4 (by decide) rfl rfl q1484 ⟨rfl, rfl, by decide +kernel⟩ hk5 dX1_tokens_216 (fun σ6 _ => ?_)
    refine r_goto h 2 dX1_tokens_219 rfl ?_
    exact r_lv [1, 2, 0] rfl (hlp2 _ x1 s0 hx1 hs0)
  · refine r_iload_n h 0 dX1_tokens_206 rfl rfl ?_
    refine r_if_eq h hs0.r 214 dX1_tokens_207 rfl ?_ ?_
    · refine r_iconst h dX1_tokens_214 ?_
      refine r_iadd h dX1_tokens_215 ?_
      refine r_ck (fun hk7 => ?_)
      refine zm_putI h hc 4 4 (by decide) rfl rfl q1484 ⟨rfl, rfl, by decide +kernel⟩ hk7 dX1_tokens_216 (fun σ8 _ => ?_)
      refine r_goto h 2 dX1_tokens_219 rfl ?_
      exact r_lv [1, 2, 0] rfl (hlp2 _ x1 s0 hx1 hs0)
    · refine r_iconst h dX1_tokens_210 ?_
      refine r_goto h 215 dX1_tokens_211 rfl ?_
      refine r_iadd h dX1_tokens_215 ?_
      refine r_ck (fun hk9 => ?_)
      refine zm_putI h hc 4 4 (by decide) rfl rfl q1484 ⟨rfl, rfl, by decide +kernel⟩ hk9 dX1_tokens_216 (fun σ10 _ => ?_)
      refine r_goto h 2 dX1_tokens_219 rfl ?_
      exact r_lv [1, 2, 0] rfl (hlp2 _ x1 s0 hx1 hs0)
def m_tokens_171 (lp2 : MEM → Int → Int → Option zm_O) (σ : MEM) (x1 : Int) : Option zm_O := bd (m_maybeS σ) (fun _ σ1 => bd (m_octet σ1 (σ1 (-1) 4)) (fun r3 σ4 => if r3 = 124 then (m_tokens_193 lp2 σ4 x1 1) else (m_tokens_193 lp2 σ4 x1 0)))
theorem w_tokens_171 {C : zv_Cx zm_O} {G : zm_G} (h : zv_Ok C cX1_tokens RX1) (hc : zm_C C G 5 (Option.none : Option FieldType) 0 3 65) (lp2 : MEM → Int → Int → Option zm_O) (hlp2 : ∀ (σ : MEM) (x1 x2 : Int), inR x1 → isB x2 → VV C (lp2 σ x1 x2) σ [(0, .ref (zm_h G)), (1, iv x1), (2, iv x2)] [] 2) (σ : MEM) (x1 : Int) (hx1 : inR x1) : VV C (m_tokens_171 lp2 σ x1) σ [(0, .ref (zm_h G)), (1, iv x1)] [] 171 := by
  have hN : ∀ i, i < 5 → i < zv_n C := fun i q => by rw [hc.2.2.1]; exact q
  unfold m_tokens_171
  refine r_aload_n h 0 dX1_tokens_171 rfl rfl ?_
  refine zm_cVv h hc (n := 0) (As := []) (fun o1 e1 => w_maybeS hc.1 _ o1 e1) q1813 q1815 qs59 q136 q1816 (by decide +kernel) ⟨by decide, by decide⟩ rfl (Nat.le_of_ble_eq_true rfl) rfl dX1_tokens_172 (fun σ1  => ?_)
  refine r_aload_n h 0 dX1_tokens_175 rfl rfl ?_
  refine r_aload_n h 0 dX1_tokens_176 rfl rfl ?_
  refine zm_getI h hc 4 4 (by decide) rfl rfl q1484 rfl dX1_tokens_177 (fun hr2 => ?_)
  refine zm_cVi h hc (n := 1) (As := [iv (σ1 (-1) 4)]) (fun o1 e1 => w_octet hc.1 _ (σ1 (-1) 4) hr2 o1 e1) q1817 q1819 qs60 q136 q1820 (by decide +kernel) ⟨by decide, by decide⟩ rfl (Nat.le_of_ble_eq_true rfl) rfl dX1_tokens_180 (fun r3 σ4 hr5 => ?_)
  refine r_bipush h dX1_tokens_183 (by decide) ?_
  refine r_icmp_ne h hr5 (by decide) 192 dX1_tokens_185 rfl ?_ ?_
  · refine r_iconst h dX1_tokens_188 ?_
    refine r_goto h 193 dX1_tokens_189 rfl ?_
    exact r_lv [0, 1] rfl (w_tokens_193 h hc lp2 hlp2 _ x1 1 hx1 (by decide))
  · refine r_iconst h dX1_tokens_192 ?_
    exact r_lv [0, 1] rfl (w_tokens_193 h hc lp2 hlp2 _ x1 0 hx1 (by decide))
def m_tokens_110 (lp2 : MEM → Int → Int → Option zm_O) (σ : MEM) (x1 x3 x4 : Int) : Option zm_O := bd (m_isGood σ) (fun r1 σ2 => if r1 = 0 then (m_tokens_171 lp2 σ2 x1) else (ck (0 ≤ x1 ∧ x1 < 1600) (ck (inR ((6000 * (σ2 (-1) 8)) + x3)) (ck (0 ≤ ((8 * x1) + (σ2 46 x1)) ∧ ((8 * x1) + (σ2 46 x1)) < 12800) (nu (mup σ2 47 ((8 * x1) + (σ2 46 x1)) ((6000 * (σ2 (-1) 8)) + x3)) (fun σ7 => ck (0 ≤ x1 ∧ x1 < 1600) (ck (0 ≤ ((8 * x1) + (σ7 46 x1)) ∧ ((8 * x1) + (σ7 46 x1)) < 12800) (nu (mup σ7 48 ((8 * x1) + (σ7 46 x1)) x4) (fun σ9 => ck (0 ≤ x1 ∧ x1 < 1600) (ck (inR ((σ9 46 x1) + 1)) (ck (0 ≤ x1 ∧ x1 < 1600) (nu (mup σ9 46 x1 ((σ9 46 x1) + 1)) (fun σ12 => m_tokens_171 lp2 σ12 x1)))))))))))))
theorem w_tokens_110 {C : zv_Cx zm_O} {G : zm_G} (h : zv_Ok C cX1_tokens RX1) (hc : zm_C C G 5 (Option.none : Option FieldType) 0 3 65) (lp2 : MEM → Int → Int → Option zm_O) (hlp2 : ∀ (σ : MEM) (x1 x2 : Int), inR x1 → isB x2 → VV C (lp2 σ x1 x2) σ [(0, .ref (zm_h G)), (1, iv x1), (2, iv x2)] [] 2) (σ : MEM) (x1 x3 x4 : Int) (hx1 : inR x1) (hx3 : inR x3) (hx4 : inR x4) : VV C (m_tokens_110 lp2 σ x1 x3 x4) σ [(0, .ref (zm_h G)), (1, iv x1), (3, iv x3), (4, iv x4)] [] 110 := by
  have hN : ∀ i, i < 5 → i < zv_n C := fun i q => by rw [hc.2.2.1]; exact q
  unfold m_tokens_110
  refine r_aload_n h 0 dX1_tokens_110 rfl rfl ?_
  refine zm_cVz h hc (n := 0) (As := []) (fun o1 e1 => w_isGood hc.1 _ o1 e1) q1801 q1803 qs56 q136 q1804 (by decide +kernel) ⟨by decide, by decide⟩ rfl (Nat.le_of_ble_eq_true rfl) rfl dX1_tokens_111 (fun r1 σ2 hr3 => ?_)
  refine r_if_eq h hr3.r 171 dX1_tokens_114 rfl ?_ ?_
  · exact r_lv [0, 1] rfl (w_tokens_171 h hc lp2 hlp2 _ x1 hx1)
  · refine r_aload_n h 0 dX1_tokens_117 rfl rfl ?_
    refine zm_getA h hc 47 (by decide) rfl q1527 rfl dX1_tokens_118 ?_
    refine r_bipush h dX1_tokens_121 (by decide) ?_
    refine r_iload_n h 1 dX1_tokens_123 rfl rfl ?_
    refine r_imul h dX1_tokens_124 ?_
    refine r_aload_n h 0 dX1_tokens_125 rfl rfl ?_
    refine zm_getA h hc 46 (by decide) rfl q1526 rfl dX1_tokens_126 ?_
    refine r_iload_n h 1 dX1_tokens_129 rfl rfl ?_
    refine zm_ldI h hc 46 46 1600 (by decide) rfl rfl rfl (by decide) dX1_tokens_130 (fun _ hr4 => ?_)
    refine r_iadd h dX1_tokens_131 ?_
    refine r_sipush h dX1_tokens_132 (by decide) ?_
    refine r_aload_n h 0 dX1_tokens_135 rfl rfl ?_
    refine zm_getI h hc 8 8 (by decide) rfl rfl q1488 rfl dX1_tokens_136 (fun hr5 => ?_)
    refine r_imul h dX1_tokens_139 ?_
    refine r_iload_n h 2 dX1_tokens_140 rfl rfl ?_
    refine r_iadd h dX1_tokens_141 ?_
    refine r_ck (fun hk6 => ?_)
    refine zm_stI h hc 47 47 12800 (by decide) rfl rfl rfl (by decide) hk6 dX1_tokens_142 (fun _ σ7 _ => ?_)
    refine r_aload_n h 0 dX1_tokens_143 rfl rfl ?_
    refine zm_getA h hc 48 (by decide) rfl q1528 rfl dX1_tokens_144 ?_
    refine r_bipush h dX1_tokens_147 (by decide) ?_
    refine r_iload_n h 1 dX1_tokens_149 rfl rfl ?_
    refine r_imul h dX1_tokens_150 ?_
    refine r_aload_n h 0 dX1_tokens_151 rfl rfl ?_
    refine zm_getA h hc 46 (by decide) rfl q1526 rfl dX1_tokens_152 ?_
    refine r_iload_n h 1 dX1_tokens_155 rfl rfl ?_
    refine zm_ldI h hc 46 46 1600 (by decide) rfl rfl rfl (by decide) dX1_tokens_156 (fun _ hr8 => ?_)
    refine r_iadd h dX1_tokens_157 ?_
    refine r_iload h 3 dX1_tokens_158 rfl ?_
    refine zm_stI h hc 48 48 12800 (by decide) rfl rfl rfl (by decide) hx4 dX1_tokens_160 (fun _ σ9 _ => ?_)
    refine r_aload_n h 0 dX1_tokens_161 rfl rfl ?_
    refine zm_getA h hc 46 (by decide) rfl q1526 rfl dX1_tokens_162 ?_
    refine r_iload_n h 1 dX1_tokens_165 rfl rfl ?_
    refine r_dup2 h dX1_tokens_166 rfl rfl ?_
    refine zm_ldI h hc 46 46 1600 (by decide) rfl rfl rfl (by decide) dX1_tokens_167 (fun _ hr10 => ?_)
    refine r_iconst h dX1_tokens_168 ?_
    refine r_iadd h dX1_tokens_169 ?_
    refine r_ck (fun hk11 => ?_)
    refine zm_stI h hc 46 46 1600 (by decide) rfl rfl rfl (by decide) hk11 dX1_tokens_170 (fun _ σ12 _ => ?_)
    exact r_lv [0, 1] rfl (w_tokens_171 h hc lp2 hlp2 _ x1 hx1)
def m_tokens_103 (lp2 : MEM → Int → Int → Option zm_O) (σ : MEM) (x1 x3 x4 : Int) : Option zm_O := bd (m_fail σ (-3) x3) (fun _ σ1 => m_tokens_110 lp2 σ1 x1 x3 x4)
theorem w_tokens_103 {C : zv_Cx zm_O} {G : zm_G} (h : zv_Ok C cX1_tokens RX1) (hc : zm_C C G 5 (Option.none : Option FieldType) 0 3 65) (lp2 : MEM → Int → Int → Option zm_O) (hlp2 : ∀ (σ : MEM) (x1 x2 : Int), inR x1 → isB x2 → VV C (lp2 σ x1 x2) σ [(0, .ref (zm_h G)), (1, iv x1), (2, iv x2)] [] 2) (σ : MEM) (x1 x3 x4 : Int) (hx1 : inR x1) (hx3 : inR x3) (hx4 : inR x4) : VV C (m_tokens_103 lp2 σ x1 x3 x4) σ [(0, .ref (zm_h G)), (1, iv x1), (3, iv x3), (4, iv x4)] [] 103 := by
  have hN : ∀ i, i < 5 → i < zv_n C := fun i q => by rw [hc.2.2.1]; exact q
  unfold m_tokens_103
  refine r_aload_n h 0 dX1_tokens_103 rfl rfl ?_
  refine r_bipush h dX1_tokens_104 (by decide) ?_
  refine r_iload_n h 2 dX1_tokens_106 rfl rfl ?_
  refine zm_cVv h hc (n := 2) (As := [iv (-3), iv x3]) (fun o1 e1 => w_fail hc.1 _ (-3) x3 (by decide) hx3 o1 e1) q1805 q1807 qs57 q136 q1808 (by decide +kernel) ⟨by decide, by decide⟩ rfl (Nat.le_of_ble_eq_true rfl) rfl dX1_tokens_107 (fun σ1  => ?_)
  exact r_lv [0, 1, 2, 3] rfl (w_tokens_110 h hc lp2 hlp2 _ x1 x3 x4 hx1 hx3 hx4)
def m_tokens_78 (lp2 : MEM → Int → Int → Option zm_O) (σ : MEM) (x1 x3 x4 : Int) : Option zm_O := bd (m_isGood σ) (fun r1 σ2 => if r1 = 0 then (m_tokens_110 lp2 σ2 x1 x3 x4) else (if 20 < x4 then (m_tokens_103 lp2 σ2 x1 x3 x4) else (ck (0 ≤ x1 ∧ x1 < 1600) (if (σ2 46 x1) = 8 then (m_tokens_103 lp2 σ2 x1 x3 x4) else (m_tokens_110 lp2 σ2 x1 x3 x4)))))
theorem w_tokens_78 {C : zv_Cx zm_O} {G : zm_G} (h : zv_Ok C cX1_tokens RX1) (hc : zm_C C G 5 (Option.none : Option FieldType) 0 3 65) (lp2 : MEM → Int → Int → Option zm_O) (hlp2 : ∀ (σ : MEM) (x1 x2 : Int), inR x1 → isB x2 → VV C (lp2 σ x1 x2) σ [(0, .ref (zm_h G)), (1, iv x1), (2, iv x2)] [] 2) (σ : MEM) (x1 x3 x4 : Int) (hx1 : inR x1) (hx3 : inR x3) (hx4 : inR x4) : VV C (m_tokens_78 lp2 σ x1 x3 x4) σ [(0, .ref (zm_h G)), (1, iv x1), (3, iv x3), (4, iv x4)] [] 78 := by
  have hN : ∀ i, i < 5 → i < zv_n C := fun i q => by rw [hc.2.2.1]; exact q
  unfold m_tokens_78
  refine r_aload_n h 0 dX1_tokens_78 rfl rfl ?_
  refine zm_cVz h hc (n := 0) (As := []) (fun o1 e1 => w_isGood hc.1 _ o1 e1) q1801 q1803 qs56 q136 q1804 (by decide +kernel) ⟨by decide, by decide⟩ rfl (Nat.le_of_ble_eq_true rfl) rfl dX1_tokens_79 (fun r1 σ2 hr3 => ?_)
  refine r_if_eq h hr3.r 110 dX1_tokens_82 rfl ?_ ?_
  · exact r_lv [0, 1, 2, 3] rfl (w_tokens_110 h hc lp2 hlp2 _ x1 x3 x4 hx1 hx3 hx4)
  · refine r_iload h 3 dX1_tokens_85 rfl ?_
    refine r_bipush h dX1_tokens_87 (by decide) ?_
    refine r_icmp_gt h hx4 (by decide) 103 dX1_tokens_89 rfl ?_ ?_
    · exact r_lv [0, 1, 2, 3] rfl (w_tokens_103 h hc lp2 hlp2 _ x1 x3 x4 hx1 hx3 hx4)
    · refine r_aload_n h 0 dX1_tokens_92 rfl rfl ?_
      refine zm_getA h hc 46 (by decide) rfl q1526 rfl dX1_tokens_93 ?_
      refine r_iload_n h 1 dX1_tokens_96 rfl rfl ?_
      refine zm_ldI h hc 46 46 1600 (by decide) rfl rfl rfl (by decide) dX1_tokens_97 (fun _ hr4 => ?_)
      refine r_bipush h dX1_tokens_98 (by decide) ?_
      refine r_icmp_ne h hr4 (by decide) 110 dX1_tokens_100 rfl ?_ ?_
      · exact r_lv [0, 1, 2, 3] rfl (w_tokens_103 h hc lp2 hlp2 _ x1 x3 x4 hx1 hx3 hx4)
      · exact r_lv [0, 1, 2, 3] rfl (w_tokens_110 h hc lp2 hlp2 _ x1 x3 x4 hx1 hx3 hx4)
def m_tokens_22 (lp2 : MEM → Int → Int → Option zm_O) : Nat → MEM → Int → Int → Option zm_O
  | 0, _, _, _ => none
  | n + 1, σ, x1, x3 => bd (m_octet σ (σ (-1) 4)) (fun r2 σ3 => bd (m_isNext σ3 r2) (fun r5 σ6 => if r5 = 0 then (bd (m_isGood σ6) (fun r9 σ10 => if r9 = 0 then (ck (inR ((σ6 (-1) 4) - x3)) (m_tokens_78 lp2 σ10 x1 x3 ((σ6 (-1) 4) - x3))) else (ck (inR ((σ6 (-1) 4) - x3)) (if ((σ6 (-1) 4) - x3) = 0 then (bd (m_fail σ10 (-1) x3) (fun _ σ14 => m_tokens_110 lp2 σ14 x1 x3 ((σ6 (-1) 4) - x3))) else (m_tokens_78 lp2 σ10 x1 x3 ((σ6 (-1) 4) - x3)))))) else (ck (inR ((σ6 (-1) 4) + 1)) (nu (mup σ6 (-1) 4 ((σ6 (-1) 4) + 1)) (fun σ17 => m_tokens_22 lp2 n σ17 x1 x3)))))
theorem w_tokens_22 {C : zv_Cx zm_O} {G : zm_G} (h : zv_Ok C cX1_tokens RX1) (hc : zm_C C G 5 (Option.none : Option FieldType) 0 3 65) (lp2 : MEM → Int → Int → Option zm_O) (hlp2 : ∀ (σ : MEM) (x1 x2 : Int), inR x1 → isB x2 → VV C (lp2 σ x1 x2) σ [(0, .ref (zm_h G)), (1, iv x1), (2, iv x2)] [] 2) : ∀ (n : Nat) (σ : MEM) (x1 x3 : Int), inR x1 → inR x3 → VV C (m_tokens_22 lp2 n σ x1 x3) σ [(0, .ref (zm_h G)), (1, iv x1), (3, iv x3)] [] 22 := by
  have hN : ∀ i, i < 5 → i < zv_n C := fun i q => by rw [hc.2.2.1]; exact q
  intro n
  induction n with
  | zero => intros; exact r_none
  | succ n ih =>
    intro σ x1 x3 hx1 hx3
    rw [m_tokens_22]
    refine r_aload_n h 0 dX1_tokens_22 rfl rfl ?_
    refine r_aload_n h 0 dX1_tokens_23 rfl rfl ?_
    refine zm_getI h hc 4 4 (by decide) rfl rfl q1484 rfl dX1_tokens_24 (fun hr1 => ?_)
    refine zm_cVi h hc (n := 1) (As := [iv (σ (-1) 4)]) (fun o1 e1 => w_octet hc.1 _ (σ (-1) 4) hr1 o1 e1) q1817 q1819 qs60 q136 q1820 (by decide +kernel) ⟨by decide, by decide⟩ rfl (Nat.le_of_ble_eq_true rfl) rfl dX1_tokens_27 (fun r2 σ3 hr4 => ?_)
    refine zm_cSz h hc (n := 1) (As := [iv r2]) (fun o1 e1 => w_isNext hc.1 _ r2 hr4 o1 e1) q1869 q1870 q136 q1871 (by decide +kernel) ⟨by decide, by decide⟩ rfl (Nat.le_of_ble_eq_true rfl) rfl dX1_tokens_30 (fun r5 σ6 hr7 => ?_)
    refine r_if_eq h hr7.r 49 dX1_tokens_33 rfl ?_ ?_
    · refine r_aload_n h 0 dX1_tokens_49 rfl rfl ?_
      refine zm_getI h hc 4 4 (by decide) rfl rfl q1484 rfl dX1_tokens_50 (fun hr8 => ?_)
      refine r_iload_n h 2 dX1_tokens_53 rfl rfl ?_
      refine r_isub h dX1_tokens_54 ?_
      refine r_istore (lv' := [(4, iv ((σ6 (-1) 4) - x3)), (0, .ref (zm_h G)), (1, iv x1), (3, iv x3)]) h dX1_tokens_55 (hN _ (by decide)) rfl ?_
      refine r_aload_n h 1 dX1_tokens_57 rfl rfl ?_
      refine zm_cVz h hc (n := 0) (As := []) (fun o1 e1 => w_isGood hc.1 _ o1 e1) q1801 q1803 qs56 q136 q1804 (by decide +kernel) ⟨by decide, by decide⟩ rfl (Nat.le_of_ble_eq_true rfl) rfl dX1_tokens_58 (fun r9 σ10 hr11 => ?_)
      refine r_if_eq h hr11.r 78 dX1_tokens_61 rfl ?_ ?_
      · refine r_ck (fun hk12 => ?_)
        exact r_lv [1, 2, 3, 0] rfl (w_tokens_78 h hc lp2 hlp2 _ x1 x3 ((σ6 (-1) 4) - x3) hx1 hx3 hk12)
      · refine r_iload h 0 dX1_tokens_64 rfl ?_
        refine r_ck (fun hk13 => ?_)
        refine r_if_ne h hk13 78 dX1_tokens_66 rfl ?_ ?_
        · refine r_aload_n h 1 dX1_tokens_69 rfl rfl ?_
          refine r_iconst h dX1_tokens_70 ?_
          refine r_iload_n h 3 dX1_tokens_71 rfl rfl ?_
          refine zm_cVv h hc (n := 2) (As := [iv (-1), iv x3]) (fun o1 e1 => w_fail hc.1 _ (-1) x3 (by decide) hx3 o1 e1) q1805 q1807 qs57 q136 q1808 (by decide +kernel) ⟨by decide, by decide⟩ rfl (Nat.le_of_ble_eq_true rfl) rfl dX1_tokens_72 (fun σ14  => ?_)
          refine r_goto h 110 dX1_tokens_75 rfl ?_
          exact r_lv [1, 2, 3, 0] rfl (w_tokens_110 h hc lp2 hlp2 _ x1 x3 ((σ6 (-1) 4) - x3) hx1 hx3 hk13)
        · exact r_lv [1, 2, 3, 0] rfl (w_tokens_78 h hc lp2 hlp2 _ x1 x3 ((σ6 (-1) 4) - x3) hx1 hx3 hk13)
    · refine r_aload_n h 0 dX1_tokens_36 rfl rfl ?_
      refine r_dup h dX1_tokens_37 rfl ?_
      refine zm_getI h hc 4 4 (by decide) rfl rfl q1484 rfl dX1_tokens_38 (fun hr15 => ?_)
      refine r_iconst h dX1_tokens_41 ?_
      refine r_iadd h dX1_tokens_42 ?_
      refine r_ck (fun hk16 => ?_)
      refine zm_putI h hc 4 4 (by decide) rfl rfl q1484 ⟨rfl, rfl, by decide +kernel⟩ hk16 dX1_tokens_43 (fun σ17 _ => ?_)
      refine r_goto h 22 dX1_tokens_46 rfl ?_
      exact r_lv [0, 1, 2] rfl (ih _ x1 x3 hx1 hx3)
def m_tokens_2 : Nat → MEM → Int → Int → Option zm_O
  | 0, _, _, _ => none
  | n + 1, σ, x1, x2 => bd (m_isGood σ) (fun r1 σ2 => if r1 = 0 then (bd (m_passes σ2 41) (fun r4 σ5 => some (0, σ5))) else (if x2 = 0 then (bd (m_passes σ2 41) (fun r7 σ8 => some (0, σ8))) else (bd (m_maybeS σ2) (fun _ σ10 => m_tokens_22 (m_tokens_2 n) zF σ10 x1 (σ10 (-1) 4)))))
theorem w_tokens_2 {C : zv_Cx zm_O} {G : zm_G} (h : zv_Ok C cX1_tokens RX1) (hc : zm_C C G 5 (Option.none : Option FieldType) 0 3 65) : ∀ (n : Nat) (σ : MEM) (x1 x2 : Int), inR x1 → isB x2 → VV C (m_tokens_2 n σ x1 x2) σ [(0, .ref (zm_h G)), (1, iv x1), (2, iv x2)] [] 2 := by
  have hN : ∀ i, i < 5 → i < zv_n C := fun i q => by rw [hc.2.2.1]; exact q
  intro n
  induction n with
  | zero => intros; exact r_none
  | succ n ih =>
    intro σ x1 x2 hx1 hx2
    rw [m_tokens_2]
    refine r_aload_n h 0 dX1_tokens_2 rfl rfl ?_
    refine zm_cVz h hc (n := 0) (As := []) (fun o1 e1 => w_isGood hc.1 _ o1 e1) q1801 q1803 qs56 q136 q1804 (by decide +kernel) ⟨by decide, by decide⟩ rfl (Nat.le_of_ble_eq_true rfl) rfl dX1_tokens_3 (fun r1 σ2 hr3 => ?_)
    refine r_if_eq h hr3.r 222 dX1_tokens_6 rfl ?_ ?_
    · refine r_aload_n h 0 dX1_tokens_222 rfl rfl ?_
      refine r_bipush h dX1_tokens_223 (by decide) ?_
      refine zm_cVz h hc (n := 1) (As := [iv 41]) (fun o1 e1 => w_passes hc.1 _ 41 (by decide) o1 e1) q1840 q1842 qs63 q136 q1843 (by decide +kernel) ⟨by decide, by decide⟩ rfl (Nat.le_of_ble_eq_true rfl) rfl dX1_tokens_225 (fun r4 σ5 hr6 => ?_)
      refine r_istore_n (lv' := [(3, iv r4), (0, .ref (zm_h G)), (1, iv x1), (2, iv x2)]) h dX1_tokens_228 rfl (hN _ (by decide)) rfl ?_
      exact zm_vret h hc rfl dX1_tokens_229
    · refine r_iload_n h 2 dX1_tokens_9 rfl rfl ?_
      refine r_if_eq h hx2.r 222 dX1_tokens_10 rfl ?_ ?_
      · refine r_aload_n h 0 dX1_tokens_222 rfl rfl ?_
        refine r_bipush h dX1_tokens_223 (by decide) ?_
        refine zm_cVz h hc (n := 1) (As := [iv 41]) (fun o1 e1 => w_passes hc.1 _ 41 (by decide) o1 e1) q1840 q1842 qs63 q136 q1843 (by decide +kernel) ⟨by decide, by decide⟩ rfl (Nat.le_of_ble_eq_true rfl) rfl dX1_tokens_225 (fun r7 σ8 hr9 => ?_)
        refine r_istore_n (lv' := [(3, iv r7), (0, .ref (zm_h G)), (1, iv x1), (2, iv x2)]) h dX1_tokens_228 rfl (hN _ (by decide)) rfl ?_
        exact zm_vret h hc rfl dX1_tokens_229
      · refine r_aload_n h 0 dX1_tokens_13 rfl rfl ?_
        refine zm_cVv h hc (n := 0) (As := []) (fun o1 e1 => w_maybeS hc.1 _ o1 e1) q1813 q1815 qs59 q136 q1816 (by decide +kernel) ⟨by decide, by decide⟩ rfl (Nat.le_of_ble_eq_true rfl) rfl dX1_tokens_14 (fun σ10  => ?_)
        refine r_aload_n h 0 dX1_tokens_17 rfl rfl ?_
        refine zm_getI h hc 4 4 (by decide) rfl rfl q1484 rfl dX1_tokens_18 (fun hr11 => ?_)
        refine r_istore_n (lv' := [(3, iv (σ10 (-1) 4)), (0, .ref (zm_h G)), (1, iv x1), (2, iv x2)]) h dX1_tokens_21 rfl (hN _ (by decide)) rfl ?_
        exact r_lv [1, 2, 0] rfl (w_tokens_22 h hc (m_tokens_2 n) ih zF _ x1 (σ10 (-1) 4) hx1 hr11)
def m_tokens (σ : MEM) (a0 : Int) : Option zm_O := m_tokens_2 zF σ a0 1
theorem w_tokens {G : zm_G} (hD : zm_D G) (σ : MEM) (a0 : Int) (ha0 : inR a0) (o : zm_O) (hd : m_tokens σ a0 = some o) : zm_Met G yX1_tokens cX1_tokens 5 (Option.none : Option FieldType) 0 3 65 σ [.ref (zm_h G), iv a0] o := by
  refine zm_intro hD hd (by decide) rfl (Nat.le_of_ble_eq_true rfl) rfl (fun C h hc => ?_)
  have hN : ∀ i, i < 5 → i < zv_n C := fun i q => by rw [hc.2.2.1]; exact q
  unfold m_tokens
  refine r_iconst h dX1_tokens_0 ?_
  refine r_istore_n (lv' := [(2, iv 1), (0, .ref (zm_h G)), (1, iv a0)]) h dX1_tokens_1 rfl (hN _ (by decide)) rfl ?_
  exact r_lv [1, 2, 0] rfl (w_tokens_2 h hc zF _ a0 1 ha0 (by decide))
theorem dX1_takePiece_0 : decode cX1_takePiece 0 = .ok (.aload_n 0, 1) := by decide +kernel
theorem dX1_takePiece_1 : decode cX1_takePiece 1 = .ok (.getfield 276, 3) := by decide +kernel
theorem dX1_takePiece_4 : decode cX1_takePiece 4 = .ok (.istore_n 1, 1) := by decide +kernel
theorem dX1_takePiece_5 : decode cX1_takePiece 5 = .ok (.aload_n 0, 1) := by decide +kernel
theorem dX1_takePiece_6 : decode cX1_takePiece 6 = .ok (.aload_n 0, 1) := by decide +kernel
theorem dX1_takePiece_7 : decode cX1_takePiece 7 = .ok (.getfield 276, 3) := by decide +kernel
theorem dX1_takePiece_10 : decode cX1_takePiece 10 = .ok (.invokevirtual 279, 3) := by decide +kernel
theorem dX1_takePiece_13 : decode cX1_takePiece 13 = .ok (.istore_n 2, 1) := by decide +kernel
theorem dX1_takePiece_14 : decode cX1_takePiece 14 = .ok (.aload_n 0, 1) := by decide +kernel
theorem dX1_takePiece_15 : decode cX1_takePiece 15 = .ok (.iload_n 2, 1) := by decide +kernel
theorem dX1_takePiece_16 : decode cX1_takePiece 16 = .ok (.bipush 38, 2) := by decide +kernel
theorem dX1_takePiece_18 : decode cX1_takePiece 18 = .ok (.if_icmp .ne 7, 3) := by decide +kernel
theorem dX1_takePiece_21 : decode cX1_takePiece 21 = .ok (.iconst 1, 1) := by decide +kernel
theorem dX1_takePiece_22 : decode cX1_takePiece 22 = .ok (.goto 4, 3) := by decide +kernel
theorem dX1_takePiece_25 : decode cX1_takePiece 25 = .ok (.iconst 0, 1) := by decide +kernel
theorem dX1_takePiece_26 : decode cX1_takePiece 26 = .ok (.putfield 309, 3) := by decide +kernel
theorem dX1_takePiece_29 : decode cX1_takePiece 29 = .ok (.iload_n 2, 1) := by decide +kernel
theorem dX1_takePiece_30 : decode cX1_takePiece 30 = .ok (.invokestatic 313, 3) := by decide +kernel
theorem dX1_takePiece_33 : decode cX1_takePiece 33 = .ok (.ifCond .ne 11, 3) := by decide +kernel
theorem dX1_takePiece_36 : decode cX1_takePiece 36 = .ok (.aload_n 0, 1) := by decide +kernel
theorem dX1_takePiece_37 : decode cX1_takePiece 37 = .ok (.iconst (-1), 1) := by decide +kernel
theorem dX1_takePiece_38 : decode cX1_takePiece 38 = .ok (.iload_n 1, 1) := by decide +kernel
theorem dX1_takePiece_39 : decode cX1_takePiece 39 = .ok (.invokevirtual 293, 3) := by decide +kernel
theorem dX1_takePiece_42 : decode cX1_takePiece 42 = .ok (.iconst (-1), 1) := by decide +kernel
theorem dX1_takePiece_43 : decode cX1_takePiece 43 = .ok (.ireturn, 1) := by decide +kernel
theorem dX1_takePiece_44 : decode cX1_takePiece 44 = .ok (.aload_n 0, 1) := by decide +kernel
theorem dX1_takePiece_45 : decode cX1_takePiece 45 = .ok (.dup, 1) := by decide +kernel
theorem dX1_takePiece_46 : decode cX1_takePiece 46 = .ok (.getfield 276, 3) := by decide +kernel
theorem dX1_takePiece_49 : decode cX1_takePiece 49 = .ok (.iconst 1, 1) := by decide +kernel
theorem dX1_takePiece_50 : decode cX1_takePiece 50 = .ok (.iadd, 1) := by decide +kernel
theorem dX1_takePiece_51 : decode cX1_takePiece 51 = .ok (.putfield 276, 3) := by decide +kernel
theorem dX1_takePiece_54 : decode cX1_takePiece 54 = .ok (.aload_n 0, 1) := by decide +kernel
theorem dX1_takePiece_55 : decode cX1_takePiece 55 = .ok (.getfield 309, 3) := by decide +kernel
theorem dX1_takePiece_58 : decode cX1_takePiece 58 = .ok (.ifCond .ne 5, 3) := by decide +kernel
theorem dX1_takePiece_61 : decode cX1_takePiece 61 = .ok (.iload_n 2, 1) := by decide +kernel
theorem dX1_takePiece_62 : decode cX1_takePiece 62 = .ok (.ireturn, 1) := by decide +kernel
theorem dX1_takePiece_63 : decode cX1_takePiece 63 = .ok (.aload_n 0, 1) := by decide +kernel
theorem dX1_takePiece_64 : decode cX1_takePiece 64 = .ok (.ldc2_w 316, 3) := by decide +kernel
theorem dX1_takePiece_67 : decode cX1_takePiece 67 = .ok (.iconst 3, 1) := by decide +kernel
theorem dX1_takePiece_68 : decode cX1_takePiece 68 = .ok (.invokevirtual 285, 3) := by decide +kernel
theorem dX1_takePiece_71 : decode cX1_takePiece 71 = .ok (.ifCond .eq 16, 3) := by decide +kernel
theorem dX1_takePiece_74 : decode cX1_takePiece 74 = .ok (.aload_n 0, 1) := by decide +kernel
theorem dX1_takePiece_75 : decode cX1_takePiece 75 = .ok (.dup, 1) := by decide +kernel
theorem dX1_takePiece_76 : decode cX1_takePiece 76 = .ok (.getfield 276, 3) := by decide +kernel
theorem dX1_takePiece_79 : decode cX1_takePiece 79 = .ok (.iconst 3, 1) := by decide +kernel
theorem dX1_takePiece_80 : decode cX1_takePiece 80 = .ok (.iadd, 1) := by decide +kernel
theorem dX1_takePiece_81 : decode cX1_takePiece 81 = .ok (.putfield 276, 3) := by decide +kernel
theorem dX1_takePiece_84 : decode cX1_takePiece 84 = .ok (.bipush 60, 2) := by decide +kernel
theorem dX1_takePiece_86 : decode cX1_takePiece 86 = .ok (.ireturn, 1) := by decide +kernel
theorem dX1_takePiece_87 : decode cX1_takePiece 87 = .ok (.aload_n 0, 1) := by decide +kernel
theorem dX1_takePiece_88 : decode cX1_takePiece 88 = .ok (.ldc2_w 318, 3) := by decide +kernel
theorem dX1_takePiece_91 : decode cX1_takePiece 91 = .ok (.iconst 3, 1) := by decide +kernel
theorem dX1_takePiece_92 : decode cX1_takePiece 92 = .ok (.invokevirtual 285, 3) := by decide +kernel
theorem dX1_takePiece_95 : decode cX1_takePiece 95 = .ok (.ifCond .eq 16, 3) := by decide +kernel
theorem dX1_takePiece_98 : decode cX1_takePiece 98 = .ok (.aload_n 0, 1) := by decide +kernel
theorem dX1_takePiece_99 : decode cX1_takePiece 99 = .ok (.dup, 1) := by decide +kernel
theorem dX1_takePiece_100 : decode cX1_takePiece 100 = .ok (.getfield 276, 3) := by decide +kernel
theorem dX1_takePiece_103 : decode cX1_takePiece 103 = .ok (.iconst 3, 1) := by decide +kernel
theorem dX1_takePiece_104 : decode cX1_takePiece 104 = .ok (.iadd, 1) := by decide +kernel
theorem dX1_takePiece_105 : decode cX1_takePiece 105 = .ok (.putfield 276, 3) := by decide +kernel
theorem dX1_takePiece_108 : decode cX1_takePiece 108 = .ok (.bipush 62, 2) := by decide +kernel
theorem dX1_takePiece_110 : decode cX1_takePiece 110 = .ok (.ireturn, 1) := by decide +kernel
theorem dX1_takePiece_111 : decode cX1_takePiece 111 = .ok (.aload_n 0, 1) := by decide +kernel
theorem dX1_takePiece_112 : decode cX1_takePiece 112 = .ok (.ldc2_w 320, 3) := by decide +kernel
theorem dX1_takePiece_115 : decode cX1_takePiece 115 = .ok (.iconst 4, 1) := by decide +kernel
theorem dX1_takePiece_116 : decode cX1_takePiece 116 = .ok (.invokevirtual 285, 3) := by decide +kernel
theorem dX1_takePiece_119 : decode cX1_takePiece 119 = .ok (.ifCond .eq 16, 3) := by decide +kernel
theorem dX1_takePiece_122 : decode cX1_takePiece 122 = .ok (.aload_n 0, 1) := by decide +kernel
theorem dX1_takePiece_123 : decode cX1_takePiece 123 = .ok (.dup, 1) := by decide +kernel
theorem dX1_takePiece_124 : decode cX1_takePiece 124 = .ok (.getfield 276, 3) := by decide +kernel
theorem dX1_takePiece_127 : decode cX1_takePiece 127 = .ok (.iconst 4, 1) := by decide +kernel
theorem dX1_takePiece_128 : decode cX1_takePiece 128 = .ok (.iadd, 1) := by decide +kernel
theorem dX1_takePiece_129 : decode cX1_takePiece 129 = .ok (.putfield 276, 3) := by decide +kernel
theorem dX1_takePiece_132 : decode cX1_takePiece 132 = .ok (.bipush 38, 2) := by decide +kernel
theorem dX1_takePiece_134 : decode cX1_takePiece 134 = .ok (.ireturn, 1) := by decide +kernel
theorem dX1_takePiece_135 : decode cX1_takePiece 135 = .ok (.aload_n 0, 1) := by decide +kernel
theorem dX1_takePiece_136 : decode cX1_takePiece 136 = .ok (.ldc2_w 322, 3) := by decide +kernel
theorem dX1_takePiece_139 : decode cX1_takePiece 139 = .ok (.iconst 5, 1) := by decide +kernel
theorem dX1_takePiece_140 : decode cX1_takePiece 140 = .ok (.invokevirtual 285, 3) := by decide +kernel
theorem dX1_takePiece_143 : decode cX1_takePiece 143 = .ok (.ifCond .eq 16, 3) := by decide +kernel
theorem dX1_takePiece_146 : decode cX1_takePiece 146 = .ok (.aload_n 0, 1) := by decide +kernel
theorem dX1_takePiece_147 : decode cX1_takePiece 147 = .ok (.dup, 1) := by decide +kernel
theorem dX1_takePiece_148 : decode cX1_takePiece 148 = .ok (.getfield 276, 3) := by decide +kernel
theorem dX1_takePiece_151 : decode cX1_takePiece 151 = .ok (.iconst 5, 1) := by decide +kernel
theorem dX1_takePiece_152 : decode cX1_takePiece 152 = .ok (.iadd, 1) := by decide +kernel
theorem dX1_takePiece_153 : decode cX1_takePiece 153 = .ok (.putfield 276, 3) := by decide +kernel
theorem dX1_takePiece_156 : decode cX1_takePiece 156 = .ok (.bipush 34, 2) := by decide +kernel
theorem dX1_takePiece_158 : decode cX1_takePiece 158 = .ok (.ireturn, 1) := by decide +kernel
theorem dX1_takePiece_159 : decode cX1_takePiece 159 = .ok (.aload_n 0, 1) := by decide +kernel
theorem dX1_takePiece_160 : decode cX1_takePiece 160 = .ok (.ldc2_w 324, 3) := by decide +kernel
theorem dX1_takePiece_163 : decode cX1_takePiece 163 = .ok (.iconst 5, 1) := by decide +kernel
theorem dX1_takePiece_164 : decode cX1_takePiece 164 = .ok (.invokevirtual 285, 3) := by decide +kernel
theorem dX1_takePiece_167 : decode cX1_takePiece 167 = .ok (.ifCond .eq 16, 3) := by decide +kernel
theorem dX1_takePiece_170 : decode cX1_takePiece 170 = .ok (.aload_n 0, 1) := by decide +kernel
theorem dX1_takePiece_171 : decode cX1_takePiece 171 = .ok (.dup, 1) := by decide +kernel
theorem dX1_takePiece_172 : decode cX1_takePiece 172 = .ok (.getfield 276, 3) := by decide +kernel
theorem dX1_takePiece_175 : decode cX1_takePiece 175 = .ok (.iconst 5, 1) := by decide +kernel
theorem dX1_takePiece_176 : decode cX1_takePiece 176 = .ok (.iadd, 1) := by decide +kernel
theorem dX1_takePiece_177 : decode cX1_takePiece 177 = .ok (.putfield 276, 3) := by decide +kernel
theorem dX1_takePiece_180 : decode cX1_takePiece 180 = .ok (.bipush 39, 2) := by decide +kernel
theorem dX1_takePiece_182 : decode cX1_takePiece 182 = .ok (.ireturn, 1) := by decide +kernel
theorem dX1_takePiece_183 : decode cX1_takePiece 183 = .ok (.iconst 0, 1) := by decide +kernel
theorem dX1_takePiece_184 : decode cX1_takePiece 184 = .ok (.istore_n 3, 1) := by decide +kernel
theorem dX1_takePiece_185 : decode cX1_takePiece 185 = .ok (.iconst 0, 1) := by decide +kernel
theorem dX1_takePiece_186 : decode cX1_takePiece 186 = .ok (.istore 4, 2) := by decide +kernel
theorem dX1_takePiece_188 : decode cX1_takePiece 188 = .ok (.aload_n 0, 1) := by decide +kernel
theorem dX1_takePiece_189 : decode cX1_takePiece 189 = .ok (.aload_n 0, 1) := by decide +kernel
theorem dX1_takePiece_190 : decode cX1_takePiece 190 = .ok (.getfield 276, 3) := by decide +kernel
theorem dX1_takePiece_193 : decode cX1_takePiece 193 = .ok (.invokevirtual 279, 3) := by decide +kernel
theorem dX1_takePiece_196 : decode cX1_takePiece 196 = .ok (.bipush 35, 2) := by decide +kernel
theorem dX1_takePiece_198 : decode cX1_takePiece 198 = .ok (.if_icmp .ne 74, 3) := by decide +kernel
theorem dX1_takePiece_201 : decode cX1_takePiece 201 = .ok (.aload_n 0, 1) := by decide +kernel
theorem dX1_takePiece_202 : decode cX1_takePiece 202 = .ok (.dup, 1) := by decide +kernel
theorem dX1_takePiece_203 : decode cX1_takePiece 203 = .ok (.getfield 276, 3) := by decide +kernel
theorem dX1_takePiece_206 : decode cX1_takePiece 206 = .ok (.iconst 1, 1) := by decide +kernel
theorem dX1_takePiece_207 : decode cX1_takePiece 207 = .ok (.iadd, 1) := by decide +kernel
theorem dX1_takePiece_208 : decode cX1_takePiece 208 = .ok (.putfield 276, 3) := by decide +kernel
theorem dX1_takePiece_211 : decode cX1_takePiece 211 = .ok (.iload 4, 2) := by decide +kernel
theorem dX1_takePiece_213 : decode cX1_takePiece 213 = .ok (.bipush 7, 2) := by decide +kernel
theorem dX1_takePiece_215 : decode cX1_takePiece 215 = .ok (.if_icmp .ge 57, 3) := by decide +kernel
theorem dX1_takePiece_218 : decode cX1_takePiece 218 = .ok (.aload_n 0, 1) := by decide +kernel
theorem dX1_takePiece_219 : decode cX1_takePiece 219 = .ok (.aload_n 0, 1) := by decide +kernel
theorem dX1_takePiece_220 : decode cX1_takePiece 220 = .ok (.getfield 276, 3) := by decide +kernel
theorem dX1_takePiece_223 : decode cX1_takePiece 223 = .ok (.invokevirtual 279, 3) := by decide +kernel
theorem dX1_takePiece_226 : decode cX1_takePiece 226 = .ok (.i2l, 1) := by decide +kernel
theorem dX1_takePiece_227 : decode cX1_takePiece 227 = .ok (.ldc2_w 272, 3) := by decide +kernel
theorem dX1_takePiece_230 : decode cX1_takePiece 230 = .ok (.ldc2_w 274, 3) := by decide +kernel
theorem dX1_takePiece_233 : decode cX1_takePiece 233 = .ok (.invokestatic 256, 3) := by decide +kernel
theorem dX1_takePiece_236 : decode cX1_takePiece 236 = .ok (.ifCond .eq 36, 3) := by decide +kernel
theorem dX1_takePiece_239 : decode cX1_takePiece 239 = .ok (.bipush 10, 2) := by decide +kernel
theorem dX1_takePiece_241 : decode cX1_takePiece 241 = .ok (.iload_n 3, 1) := by decide +kernel
theorem dX1_takePiece_242 : decode cX1_takePiece 242 = .ok (.imul, 1) := by decide +kernel
theorem dX1_takePiece_243 : decode cX1_takePiece 243 = .ok (.aload_n 0, 1) := by decide +kernel
theorem dX1_takePiece_244 : decode cX1_takePiece 244 = .ok (.aload_n 0, 1) := by decide +kernel
theorem dX1_takePiece_245 : decode cX1_takePiece 245 = .ok (.getfield 276, 3) := by decide +kernel
theorem dX1_takePiece_248 : decode cX1_takePiece 248 = .ok (.invokevirtual 279, 3) := by decide +kernel
theorem dX1_takePiece_251 : decode cX1_takePiece 251 = .ok (.iadd, 1) := by decide +kernel
theorem dX1_takePiece_252 : decode cX1_takePiece 252 = .ok (.bipush 48, 2) := by decide +kernel
theorem dX1_takePiece_254 : decode cX1_takePiece 254 = .ok (.isub, 1) := by decide +kernel
theorem dX1_takePiece_255 : decode cX1_takePiece 255 = .ok (.istore_n 3, 1) := by decide +kernel
theorem dX1_takePiece_256 : decode cX1_takePiece 256 = .ok (.aload_n 0, 1) := by decide +kernel
theorem dX1_takePiece_257 : decode cX1_takePiece 257 = .ok (.dup, 1) := by decide +kernel
theorem dX1_takePiece_258 : decode cX1_takePiece 258 = .ok (.getfield 276, 3) := by decide +kernel
theorem dX1_takePiece_261 : decode cX1_takePiece 261 = .ok (.iconst 1, 1) := by decide +kernel
theorem dX1_takePiece_262 : decode cX1_takePiece 262 = .ok (.iadd, 1) := by decide +kernel
theorem dX1_takePiece_263 : decode cX1_takePiece 263 = .ok (.putfield 276, 3) := by decide +kernel
theorem dX1_takePiece_266 : decode cX1_takePiece 266 = .ok (.iinc 4 1, 3) := by decide +kernel
theorem dX1_takePiece_269 : decode cX1_takePiece 269 = .ok (.goto (-58), 3) := by decide +kernel
theorem dX1_takePiece_272 : decode cX1_takePiece 272 = .ok (.iload 4, 2) := by decide +kernel
theorem dX1_takePiece_274 : decode cX1_takePiece 274 = .ok (.i2l, 1) := by decide +kernel
theorem dX1_takePiece_275 : decode cX1_takePiece 275 = .ok (.lconst 1, 1) := by decide +kernel
theorem dX1_takePiece_276 : decode cX1_takePiece 276 = .ok (.ldc2_w 326, 3) := by decide +kernel
theorem dX1_takePiece_279 : decode cX1_takePiece 279 = .ok (.invokestatic 256, 3) := by decide +kernel
theorem dX1_takePiece_282 : decode cX1_takePiece 282 = .ok (.ifCond .eq 23, 3) := by decide +kernel
theorem dX1_takePiece_285 : decode cX1_takePiece 285 = .ok (.aload_n 0, 1) := by decide +kernel
theorem dX1_takePiece_286 : decode cX1_takePiece 286 = .ok (.aload_n 0, 1) := by decide +kernel
theorem dX1_takePiece_287 : decode cX1_takePiece 287 = .ok (.getfield 276, 3) := by decide +kernel
theorem dX1_takePiece_290 : decode cX1_takePiece 290 = .ok (.invokevirtual 279, 3) := by decide +kernel
theorem dX1_takePiece_293 : decode cX1_takePiece 293 = .ok (.bipush 59, 2) := by decide +kernel
theorem dX1_takePiece_295 : decode cX1_takePiece 295 = .ok (.if_icmp .ne 10, 3) := by decide +kernel
theorem dX1_takePiece_298 : decode cX1_takePiece 298 = .ok (.iload_n 3, 1) := by decide +kernel
theorem dX1_takePiece_299 : decode cX1_takePiece 299 = .ok (.invokestatic 313, 3) := by decide +kernel
theorem dX1_takePiece_302 : decode cX1_takePiece 302 = .ok (.ifCond .ne 11, 3) := by decide +kernel
theorem dX1_takePiece_305 : decode cX1_takePiece 305 = .ok (.aload_n 0, 1) := by decide +kernel
theorem dX1_takePiece_306 : decode cX1_takePiece 306 = .ok (.iconst (-1), 1) := by decide +kernel
theorem dX1_takePiece_307 : decode cX1_takePiece 307 = .ok (.iload_n 1, 1) := by decide +kernel
theorem dX1_takePiece_308 : decode cX1_takePiece 308 = .ok (.invokevirtual 293, 3) := by decide +kernel
theorem dX1_takePiece_311 : decode cX1_takePiece 311 = .ok (.iconst (-1), 1) := by decide +kernel
theorem dX1_takePiece_312 : decode cX1_takePiece 312 = .ok (.ireturn, 1) := by decide +kernel
theorem dX1_takePiece_313 : decode cX1_takePiece 313 = .ok (.aload_n 0, 1) := by decide +kernel
theorem dX1_takePiece_314 : decode cX1_takePiece 314 = .ok (.dup, 1) := by decide +kernel
theorem dX1_takePiece_315 : decode cX1_takePiece 315 = .ok (.getfield 276, 3) := by decide +kernel
theorem dX1_takePiece_318 : decode cX1_takePiece 318 = .ok (.iconst 1, 1) := by decide +kernel
theorem dX1_takePiece_319 : decode cX1_takePiece 319 = .ok (.iadd, 1) := by decide +kernel
theorem dX1_takePiece_320 : decode cX1_takePiece 320 = .ok (.putfield 276, 3) := by decide +kernel
theorem dX1_takePiece_323 : decode cX1_takePiece 323 = .ok (.iload_n 3, 1) := by decide +kernel
theorem dX1_takePiece_324 : decode cX1_takePiece 324 = .ok (.ireturn, 1) := by decide +kernel
def m_takePiece_272 (σ : MEM) (x1 x3 x4 : Int) : Option zm_O := bd (m_in σ x4 1 6) (fun r1 σ2 => if r1 = 0 then (bd (m_fail σ2 (-1) x1) (fun _ σ4 => some ((-1), σ4))) else (bd (m_octet σ2 (σ2 (-1) 4)) (fun r6 σ7 => if r6 = 59 then (bd (m_isChar σ7 x3) (fun r9 σ10 => if r9 = 0 then (bd (m_fail σ10 (-1) x1) (fun _ σ12 => some ((-1), σ12))) else (ck (inR ((σ10 (-1) 4) + 1)) (nu (mup σ10 (-1) 4 ((σ10 (-1) 4) + 1)) (fun σ15 => some (x3, σ15)))))) else (bd (m_fail σ7 (-1) x1) (fun _ σ16 => some ((-1), σ16))))))
theorem w_takePiece_272 {C : zv_Cx zm_O} {G : zm_G} (h : zv_Ok C cX1_takePiece RX1) (hc : zm_C C G 5 (Option.some FieldType.int) 1 2 46) (σ : MEM) (x1 x3 x4 : Int) (hx1 : inR x1) (hx3 : inR x3) (hx4 : inR x4) : VV C (m_takePiece_272 σ x1 x3 x4) σ [(0, .ref (zm_h G)), (1, iv x1), (3, iv x3), (4, iv x4)] [] 272 := by
  have hN : ∀ i, i < 5 → i < zv_n C := fun i q => by rw [hc.2.2.1]; exact q
  unfold m_takePiece_272
  refine r_iload h 3 dX1_takePiece_272 rfl ?_
  refine r_i2l h hx4 dX1_takePiece_274 ?_
  refine r_lconst (x := 1) h dX1_takePiece_275 (by decide) ?_
  refine r_ldc2 (x := 6) h q1955 (by decide) dX1_takePiece_276 ?_
  refine zm_cSz h hc (n := 3) (As := [jv x4, jv 1, jv 6]) (fun o1 e1 => w_in hc.1 _ x4 1 6 hx4.l (by decide) (by decide) o1 e1) q1790 q1791 q136 q1792 (by decide +kernel) ⟨by decide, by decide⟩ rfl (Nat.le_of_ble_eq_true rfl) rfl dX1_takePiece_279 (fun r1 σ2 hr3 => ?_)
  refine r_if_eq h hr3.r 305 dX1_takePiece_282 rfl ?_ ?_
  · refine r_aload_n h 0 dX1_takePiece_305 rfl rfl ?_
    refine r_iconst h dX1_takePiece_306 ?_
    refine r_iload_n h 1 dX1_takePiece_307 rfl rfl ?_
    refine zm_cVv h hc (n := 2) (As := [iv (-1), iv x1]) (fun o1 e1 => w_fail hc.1 _ (-1) x1 (by decide) hx1 o1 e1) q1805 q1807 qs57 q136 q1808 (by decide +kernel) ⟨by decide, by decide⟩ rfl (Nat.le_of_ble_eq_true rfl) rfl dX1_takePiece_308 (fun σ4  => ?_)
    refine r_iconst h dX1_takePiece_311 ?_
    exact zm_iret h hc rfl (by decide) dX1_takePiece_312
  · refine r_aload_n h 0 dX1_takePiece_285 rfl rfl ?_
    refine r_aload_n h 0 dX1_takePiece_286 rfl rfl ?_
    refine zm_getI h hc 4 4 (by decide) rfl rfl q1484 rfl dX1_takePiece_287 (fun hr5 => ?_)
    refine zm_cVi h hc (n := 1) (As := [iv (σ2 (-1) 4)]) (fun o1 e1 => w_octet hc.1 _ (σ2 (-1) 4) hr5 o1 e1) q1817 q1819 qs60 q136 q1820 (by decide +kernel) ⟨by decide, by decide⟩ rfl (Nat.le_of_ble_eq_true rfl) rfl dX1_takePiece_290 (fun r6 σ7 hr8 => ?_)
    refine r_bipush h dX1_takePiece_293 (by decide) ?_
    refine r_icmp_ne h hr8 (by decide) 305 dX1_takePiece_295 rfl ?_ ?_
    · refine r_iload_n h 2 dX1_takePiece_298 rfl rfl ?_
      refine zm_cSz h hc (n := 1) (As := [iv x3]) (fun o1 e1 => w_isChar hc.1 _ x3 hx3 o1 e1) q1835 q1836 q136 q1837 (by decide +kernel) ⟨by decide, by decide⟩ rfl (Nat.le_of_ble_eq_true rfl) rfl dX1_takePiece_299 (fun r9 σ10 hr11 => ?_)
      refine r_if_ne h hr11.r 313 dX1_takePiece_302 rfl ?_ ?_
      · refine r_aload_n h 0 dX1_takePiece_305 rfl rfl ?_
        refine r_iconst h dX1_takePiece_306 ?_
        refine r_iload_n h 1 dX1_takePiece_307 rfl rfl ?_
        refine zm_cVv h hc (n := 2) (As := [iv (-1), iv x1]) (fun o1 e1 => w_fail hc.1 _ (-1) x1 (by decide) hx1 o1 e1) q1805 q1807 qs57 q136 q1808 (by decide +kernel) ⟨by decide, by decide⟩ rfl (Nat.le_of_ble_eq_true rfl) rfl dX1_takePiece_308 (fun σ12  => ?_)
        refine r_iconst h dX1_takePiece_311 ?_
        exact zm_iret h hc rfl (by decide) dX1_takePiece_312
      · refine r_aload_n h 0 dX1_takePiece_313 rfl rfl ?_
        refine r_dup h dX1_takePiece_314 rfl ?_
        refine zm_getI h hc 4 4 (by decide) rfl rfl q1484 rfl dX1_takePiece_315 (fun hr13 => ?_)
        refine r_iconst h dX1_takePiece_318 ?_
        refine r_iadd h dX1_takePiece_319 ?_
        refine r_ck (fun hk14 => ?_)
        refine zm_putI h hc 4 4 (by decide) rfl rfl q1484 ⟨rfl, rfl, by decide +kernel⟩ hk14 dX1_takePiece_320 (fun σ15 _ => ?_)
        refine r_iload_n h 2 dX1_takePiece_323 rfl rfl ?_
        exact zm_iret h hc rfl hx3 dX1_takePiece_324
    · refine r_aload_n h 0 dX1_takePiece_305 rfl rfl ?_
      refine r_iconst h dX1_takePiece_306 ?_
      refine r_iload_n h 1 dX1_takePiece_307 rfl rfl ?_
      refine zm_cVv h hc (n := 2) (As := [iv (-1), iv x1]) (fun o1 e1 => w_fail hc.1 _ (-1) x1 (by decide) hx1 o1 e1) q1805 q1807 qs57 q136 q1808 (by decide +kernel) ⟨by decide, by decide⟩ rfl (Nat.le_of_ble_eq_true rfl) rfl dX1_takePiece_308 (fun σ16  => ?_)
      refine r_iconst h dX1_takePiece_311 ?_
      exact zm_iret h hc rfl (by decide) dX1_takePiece_312
def m_takePiece_211 : Nat → MEM → Int → Int → Int → Option zm_O
  | 0, _, _, _, _ => none
  | n + 1, σ, x1, x3, x4 => if 7 ≤ x4 then (m_takePiece_272 σ x1 x3 x4) else (bd (m_octet σ (σ (-1) 4)) (fun r2 σ3 => bd (m_in σ3 r2 48 57) (fun r5 σ6 => if r5 = 0 then (m_takePiece_272 σ6 x1 x3 x4) else (bd (m_octet σ6 (σ6 (-1) 4)) (fun r9 σ10 => ck (inR ((σ10 (-1) 4) + 1)) (nu (mup σ10 (-1) 4 ((σ10 (-1) 4) + 1)) (fun σ14 => ck (inR (((10 * x3) + r9) - 48)) (ck (inR (x4 + 1)) (m_takePiece_211 n σ14 x1 (((10 * x3) + r9) - 48) (x4 + 1))))))))))
theorem w_takePiece_211 {C : zv_Cx zm_O} {G : zm_G} (h : zv_Ok C cX1_takePiece RX1) (hc : zm_C C G 5 (Option.some FieldType.int) 1 2 46) : ∀ (n : Nat) (σ : MEM) (x1 x3 x4 : Int), inR x1 → inR x3 → inR x4 → VV C (m_takePiece_211 n σ x1 x3 x4) σ [(0, .ref (zm_h G)), (1, iv x1), (3, iv x3), (4, iv x4)] [] 211 := by
  have hN : ∀ i, i < 5 → i < zv_n C := fun i q => by rw [hc.2.2.1]; exact q
  intro n
  induction n with
  | zero => intros; exact r_none
  | succ n ih =>
    intro σ x1 x3 x4 hx1 hx3 hx4
    rw [m_takePiece_211]
    refine r_iload h 3 dX1_takePiece_211 rfl ?_
    refine r_bipush h dX1_takePiece_213 (by decide) ?_
    refine r_icmp_ge h hx4 (by decide) 272 dX1_takePiece_215 rfl ?_ ?_
    · exact r_lv [0, 1, 2, 3] rfl (w_takePiece_272 h hc _ x1 x3 x4 hx1 hx3 hx4)
    · refine r_aload_n h 0 dX1_takePiece_218 rfl rfl ?_
      refine r_aload_n h 0 dX1_takePiece_219 rfl rfl ?_
      refine zm_getI h hc 4 4 (by decide) rfl rfl q1484 rfl dX1_takePiece_220 (fun hr1 => ?_)
      refine zm_cVi h hc (n := 1) (As := [iv (σ (-1) 4)]) (fun o1 e1 => w_octet hc.1 _ (σ (-1) 4) hr1 o1 e1) q1817 q1819 qs60 q136 q1820 (by decide +kernel) ⟨by decide, by decide⟩ rfl (Nat.le_of_ble_eq_true rfl) rfl dX1_takePiece_223 (fun r2 σ3 hr4 => ?_)
      refine r_i2l h hr4 dX1_takePiece_226 ?_
      refine r_ldc2 (x := 48) h q1872 (by decide) dX1_takePiece_227 ?_
      refine r_ldc2 (x := 57) h q1873 (by decide) dX1_takePiece_230 ?_
      refine zm_cSz h hc (n := 3) (As := [jv r2, jv 48, jv 57]) (fun o1 e1 => w_in hc.1 _ r2 48 57 hr4.l (by decide) (by decide) o1 e1) q1790 q1791 q136 q1792 (by decide +kernel) ⟨by decide, by decide⟩ rfl (Nat.le_of_ble_eq_true rfl) rfl dX1_takePiece_233 (fun r5 σ6 hr7 => ?_)
      refine r_if_eq h hr7.r 272 dX1_takePiece_236 rfl ?_ ?_
      · exact r_lv [0, 1, 2, 3] rfl (w_takePiece_272 h hc _ x1 x3 x4 hx1 hx3 hx4)
      · refine r_bipush h dX1_takePiece_239 (by decide) ?_
        refine r_iload_n h 2 dX1_takePiece_241 rfl rfl ?_
        refine r_imul h dX1_takePiece_242 ?_
        refine r_aload_n h 0 dX1_takePiece_243 rfl rfl ?_
        refine r_aload_n h 0 dX1_takePiece_244 rfl rfl ?_
        refine zm_getI h hc 4 4 (by decide) rfl rfl q1484 rfl dX1_takePiece_245 (fun hr8 => ?_)
        refine zm_cVi h hc (n := 1) (As := [iv (σ6 (-1) 4)]) (fun o1 e1 => w_octet hc.1 _ (σ6 (-1) 4) hr8 o1 e1) q1817 q1819 qs60 q136 q1820 (by decide +kernel) ⟨by decide, by decide⟩ rfl (Nat.le_of_ble_eq_true rfl) rfl dX1_takePiece_248 (fun r9 σ10 hr11 => ?_)
        refine r_iadd h dX1_takePiece_251 ?_
        refine r_bipush h dX1_takePiece_252 (by decide) ?_
        refine r_isub h dX1_takePiece_254 ?_
        refine r_istore_n (lv' := [(3, iv (((10 * x3) + r9) - 48)), (0, .ref (zm_h G)), (1, iv x1), (4, iv x4)]) h dX1_takePiece_255 rfl (hN _ (by decide)) rfl ?_
        refine r_aload_n h 1 dX1_takePiece_256 rfl rfl ?_
        refine r_dup h dX1_takePiece_257 rfl ?_
        refine zm_getI h hc 4 4 (by decide) rfl rfl q1484 rfl dX1_takePiece_258 (fun hr12 => ?_)
        refine r_iconst h dX1_takePiece_261 ?_
        refine r_iadd h dX1_takePiece_262 ?_
        refine r_ck (fun hk13 => ?_)
        refine zm_putI h hc 4 4 (by decide) rfl rfl q1484 ⟨rfl, rfl, by decide +kernel⟩ hk13 dX1_takePiece_263 (fun σ14 _ => ?_)
        refine r_iinc (lv' := [(4, iv (x4 + 1)), (3, iv (((10 * x3) + r9) - 48)), (0, .ref (zm_h G)), (1, iv x1)]) h 3 dX1_takePiece_266 rfl (hN _ (by decide)) rfl ?_
        refine r_goto h 211 dX1_takePiece_269 rfl ?_
        refine r_ck (fun hk15 => ?_)
        refine r_ck (fun hk16 => ?_)
        exact r_lv [2, 3, 1, 0] rfl (ih _ x1 (((10 * x3) + r9) - 48) (x4 + 1) hx1 hk15 hk16)
def m_takePiece_26 (σ : MEM) (x1 x2 s1 : Int) : Option zm_O := nu (mup σ (-1) 52 s1) (fun σ1 => bd (m_isChar σ1 x2) (fun r2 σ3 => if r2 = 0 then (bd (m_fail σ3 (-1) x1) (fun _ σ5 => some ((-1), σ5))) else (ck (inR ((σ3 (-1) 4) + 1)) (nu (mup σ3 (-1) 4 ((σ3 (-1) 4) + 1)) (fun σ8 => if (σ8 (-1) 52) = 0 then (some (x2, σ8)) else (bd (m_stands σ8 7107643 3) (fun r10 σ11 => if r10 = 0 then (bd (m_stands σ11 6779963 3) (fun r13 σ14 => if r13 = 0 then (bd (m_stands σ14 1634562107 4) (fun r16 σ17 => if r16 = 0 then (bd (m_stands σ17 487301542971 5) (fun r19 σ20 => if r19 = 0 then (bd (m_stands σ20 418498179899 5) (fun r22 σ23 => if r22 = 0 then (bd (m_octet σ23 (σ23 (-1) 4)) (fun r26 σ27 => if r26 = 35 then (ck (inR ((σ27 (-1) 4) + 1)) (nu (mup σ27 (-1) 4 ((σ27 (-1) 4) + 1)) (fun σ31 => m_takePiece_211 zF σ31 x1 0 0))) else (m_takePiece_272 σ27 x1 0 0))) else (ck (inR ((σ23 (-1) 4) + 5)) (nu (mup σ23 (-1) 4 ((σ23 (-1) 4) + 5)) (fun σ34 => some (39, σ34)))))) else (ck (inR ((σ20 (-1) 4) + 5)) (nu (mup σ20 (-1) 4 ((σ20 (-1) 4) + 5)) (fun σ37 => some (34, σ37)))))) else (ck (inR ((σ17 (-1) 4) + 4)) (nu (mup σ17 (-1) 4 ((σ17 (-1) 4) + 4)) (fun σ40 => some (38, σ40)))))) else (ck (inR ((σ14 (-1) 4) + 3)) (nu (mup σ14 (-1) 4 ((σ14 (-1) 4) + 3)) (fun σ43 => some (62, σ43)))))) else (ck (inR ((σ11 (-1) 4) + 3)) (nu (mup σ11 (-1) 4 ((σ11 (-1) 4) + 3)) (fun σ46 => some (60, σ46)))))))))))
theorem w_takePiece_26 {C : zv_Cx zm_O} {G : zm_G} (h : zv_Ok C cX1_takePiece RX1) (hc : zm_C C G 5 (Option.some FieldType.int) 1 2 46) (σ : MEM) (x1 x2 s1 : Int) (hx1 : inR x1) (hx2 : inR x2) (hs1 : isB s1) : VV C (m_takePiece_26 σ x1 x2 s1) σ [(0, .ref (zm_h G)), (1, iv x1), (2, iv x2)] [iv s1, .ref (zm_h G)] 26 := by
  have hN : ∀ i, i < 5 → i < zv_n C := fun i q => by rw [hc.2.2.1]; exact q
  unfold m_takePiece_26
  refine zm_putZ h hc 52 52 (by decide) rfl rfl q1532 ⟨rfl, rfl, by decide +kernel⟩ hs1 dX1_takePiece_26 (fun σ1 _ => ?_)
  refine r_iload_n h 2 dX1_takePiece_29 rfl rfl ?_
  refine zm_cSz h hc (n := 1) (As := [iv x2]) (fun o1 e1 => w_isChar hc.1 _ x2 hx2 o1 e1) q1835 q1836 q136 q1837 (by decide +kernel) ⟨by decide, by decide⟩ rfl (Nat.le_of_ble_eq_true rfl) rfl dX1_takePiece_30 (fun r2 σ3 hr4 => ?_)
  refine r_if_ne h hr4.r 44 dX1_takePiece_33 rfl ?_ ?_
  · refine r_aload_n h 0 dX1_takePiece_36 rfl rfl ?_
    refine r_iconst h dX1_takePiece_37 ?_
    refine r_iload_n h 1 dX1_takePiece_38 rfl rfl ?_
    refine zm_cVv h hc (n := 2) (As := [iv (-1), iv x1]) (fun o1 e1 => w_fail hc.1 _ (-1) x1 (by decide) hx1 o1 e1) q1805 q1807 qs57 q136 q1808 (by decide +kernel) ⟨by decide, by decide⟩ rfl (Nat.le_of_ble_eq_true rfl) rfl dX1_takePiece_39 (fun σ5  => ?_)
    refine r_iconst h dX1_takePiece_42 ?_
    exact zm_iret h hc rfl (by decide) dX1_takePiece_43
  · refine r_aload_n h 0 dX1_takePiece_44 rfl rfl ?_
    refine r_dup h dX1_takePiece_45 rfl ?_
    refine zm_getI h hc 4 4 (by decide) rfl rfl q1484 rfl dX1_takePiece_46 (fun hr6 => ?_)
    refine r_iconst h dX1_takePiece_49 ?_
    refine r_iadd h dX1_takePiece_50 ?_
    refine r_ck (fun hk7 => ?_)
    refine zm_putI h hc 4 4 (by decide) rfl rfl q1484 ⟨rfl, rfl, by decide +kernel⟩ hk7 dX1_takePiece_51 (fun σ8 _ => ?_)
    refine r_aload_n h 0 dX1_takePiece_54 rfl rfl ?_
    refine zm_getZ h hc 52 52 (by decide) rfl rfl q1532 rfl dX1_takePiece_55 (fun hr9 => ?_)
    refine r_if_ne h hr9.r 63 dX1_takePiece_58 rfl ?_ ?_
    · refine r_iload_n h 2 dX1_takePiece_61 rfl rfl ?_
      exact zm_iret h hc rfl hx2 dX1_takePiece_62
    · refine r_aload_n h 0 dX1_takePiece_63 rfl rfl ?_
      refine r_ldc2 (x := 7107643) h q1950 (by decide) dX1_takePiece_64 ?_
      refine r_iconst h dX1_takePiece_67 ?_
      refine zm_cVz h hc (n := 2) (As := [jv 7107643, iv 3]) (fun o1 e1 => w_stands hc.1 _ 7107643 3 (by decide) (by decide) o1 e1) q1825 q1827 qs61 q136 q1828 (by decide +kernel) ⟨by decide, by decide⟩ rfl (Nat.le_of_ble_eq_true rfl) rfl dX1_takePiece_68 (fun r10 σ11 hr12 => ?_)
      refine r_if_eq h hr12.r 87 dX1_takePiece_71 rfl ?_ ?_
      · refine r_aload_n h 0 dX1_takePiece_87 rfl rfl ?_
        refine r_ldc2 (x := 6779963) h q1951 (by decide) dX1_takePiece_88 ?_
        refine r_iconst h dX1_takePiece_91 ?_
        refine zm_cVz h hc (n := 2) (As := [jv 6779963, iv 3]) (fun o1 e1 => w_stands hc.1 _ 6779963 3 (by decide) (by decide) o1 e1) q1825 q1827 qs61 q136 q1828 (by decide +kernel) ⟨by decide, by decide⟩ rfl (Nat.le_of_ble_eq_true rfl) rfl dX1_takePiece_92 (fun r13 σ14 hr15 => ?_)
        refine r_if_eq h hr15.r 111 dX1_takePiece_95 rfl ?_ ?_
        · refine r_aload_n h 0 dX1_takePiece_111 rfl rfl ?_
          refine r_ldc2 (x := 1634562107) h q1952 (by decide) dX1_takePiece_112 ?_
          refine r_iconst h dX1_takePiece_115 ?_
          refine zm_cVz h hc (n := 2) (As := [jv 1634562107, iv 4]) (fun o1 e1 => w_stands hc.1 _ 1634562107 4 (by decide) (by decide) o1 e1) q1825 q1827 qs61 q136 q1828 (by decide +kernel) ⟨by decide, by decide⟩ rfl (Nat.le_of_ble_eq_true rfl) rfl dX1_takePiece_116 (fun r16 σ17 hr18 => ?_)
          refine r_if_eq h hr18.r 135 dX1_takePiece_119 rfl ?_ ?_
          · refine r_aload_n h 0 dX1_takePiece_135 rfl rfl ?_
            refine r_ldc2 (x := 487301542971) h q1953 (by decide) dX1_takePiece_136 ?_
            refine r_iconst h dX1_takePiece_139 ?_
            refine zm_cVz h hc (n := 2) (As := [jv 487301542971, iv 5]) (fun o1 e1 => w_stands hc.1 _ 487301542971 5 (by decide) (by decide) o1 e1) q1825 q1827 qs61 q136 q1828 (by decide +kernel) ⟨by decide, by decide⟩ rfl (Nat.le_of_ble_eq_true rfl) rfl dX1_takePiece_140 (fun r19 σ20 hr21 => ?_)
            refine r_if_eq h hr21.r 159 dX1_takePiece_143 rfl ?_ ?_
            · refine r_aload_n h 0 dX1_takePiece_159 rfl rfl ?_
              refine r_ldc2 (x := 418498179899) h q1954 (by decide) dX1_takePiece_160 ?_
              refine r_iconst h dX1_takePiece_163 ?_
              refine zm_cVz h hc (n := 2) (As := [jv 418498179899, iv 5]) (fun o1 e1 => w_stands hc.1 _ 418498179899 5 (by decide) (by decide) o1 e1) q1825 q1827 qs61 q136 q1828 (by decide +kernel) ⟨by decide, by decide⟩ rfl (Nat.le_of_ble_eq_true rfl) rfl dX1_takePiece_164 (fun r22 σ23 hr24 => ?_)
              refine r_if_eq h hr24.r 183 dX1_takePiece_167 rfl ?_ ?_
              · refine r_iconst h dX1_takePiece_183 ?_
                refine r_istore_n (lv' := [(3, iv 0), (0, .ref (zm_h G)), (1, iv x1), (2, iv x2)]) h dX1_takePiece_184 rfl (hN _ (by decide)) rfl ?_
                refine r_iconst h dX1_takePiece_185 ?_
                refine r_istore (lv' := [(4, iv 0), (3, iv 0), (0, .ref (zm_h G)), (1, iv x1), (2, iv x2)]) h dX1_takePiece_186 (hN _ (by decide)) rfl ?_
                refine r_aload_n h 2 dX1_takePiece_188 rfl rfl ?_
                refine r_aload_n h 2 dX1_takePiece_189 rfl rfl ?_
                refine zm_getI h hc 4 4 (by decide) rfl rfl q1484 rfl dX1_takePiece_190 (fun hr25 => ?_)
                refine zm_cVi h hc (n := 1) (As := [iv (σ23 (-1) 4)]) (fun o1 e1 => w_octet hc.1 _ (σ23 (-1) 4) hr25 o1 e1) q1817 q1819 qs60 q136 q1820 (by decide +kernel) ⟨by decide, by decide⟩ rfl (Nat.le_of_ble_eq_true rfl) rfl dX1_takePiece_193 (fun r26 σ27 hr28 => ?_)
                refine r_bipush h dX1_takePiece_196 (by decide) ?_
                refine r_icmp_ne h hr28 (by decide) 272 dX1_takePiece_198 rfl ?_ ?_
                · refine r_aload_n h 2 dX1_takePiece_201 rfl rfl ?_
                  refine r_dup h dX1_takePiece_202 rfl ?_
                  refine zm_getI h hc 4 4 (by decide) rfl rfl q1484 rfl dX1_takePiece_203 (fun hr29 => ?_)
                  refine r_iconst h dX1_takePiece_206 ?_
                  refine r_iadd h dX1_takePiece_207 ?_
                  refine r_ck (fun hk30 => ?_)
                  refine zm_putI h hc 4 4 (by decide) rfl rfl q1484 ⟨rfl, rfl, by decide +kernel⟩ hk30 dX1_takePiece_208 (fun σ31 _ => ?_)
                  exact r_lv [2, 3, 1, 0] rfl (w_takePiece_211 h hc zF _ x1 0 0 hx1 (by decide) (by decide))
                · exact r_lv [2, 3, 1, 0] rfl (w_takePiece_272 h hc _ x1 0 0 hx1 (by decide) (by decide))
              · refine r_aload_n h 0 dX1_takePiece_170 rfl rfl ?_
                refine r_dup h dX1_takePiece_171 rfl ?_
                refine zm_getI h hc 4 4 (by decide) rfl rfl q1484 rfl dX1_takePiece_172 (fun hr32 => ?_)
                refine r_iconst h dX1_takePiece_175 ?_
                refine r_iadd h dX1_takePiece_176 ?_
                refine r_ck (fun hk33 => ?_)
                refine zm_putI h hc 4 4 (by decide) rfl rfl q1484 ⟨rfl, rfl, by decide +kernel⟩ hk33 dX1_takePiece_177 (fun σ34 _ => ?_)
                refine r_bipush h dX1_takePiece_180 (by decide) ?_
                exact zm_iret h hc rfl (by decide) dX1_takePiece_182
            · refine r_aload_n h 0 dX1_takePiece_146 rfl rfl ?_
              refine r_dup h dX1_takePiece_147 rfl ?_
              refine zm_getI h hc 4 4 (by decide) rfl rfl q1484 rfl dX1_takePiece_148 (fun hr35 => ?_)
              refine r_iconst h dX1_takePiece_151 ?_
              refine r_iadd h dX1_takePiece_152 ?_
              refine r_ck (fun hk36 => ?_)
              refine zm_putI h hc 4 4 (by decide) rfl rfl q1484 ⟨rfl, rfl, by decide +kernel⟩ hk36 dX1_takePiece_153 (fun σ37 _ => ?_)
              refine r_bipush h dX1_takePiece_156 (by decide) ?_
              exact zm_iret h hc rfl (by decide) dX1_takePiece_158
          · refine r_aload_n h 0 dX1_takePiece_122 rfl rfl ?_
            refine r_dup h dX1_takePiece_123 rfl ?_
            refine zm_getI h hc 4 4 (by decide) rfl rfl q1484 rfl dX1_takePiece_124 (fun hr38 => ?_)
            refine r_iconst h dX1_takePiece_127 ?_
            refine r_iadd h dX1_takePiece_128 ?_
            refine r_ck (fun hk39 => ?_)
            refine zm_putI h hc 4 4 (by decide) rfl rfl q1484 ⟨rfl, rfl, by decide +kernel⟩ hk39 dX1_takePiece_129 (fun σ40 _ => ?_)
            refine r_bipush h dX1_takePiece_132 (by decide) ?_
            exact zm_iret h hc rfl (by decide) dX1_takePiece_134
        · refine r_aload_n h 0 dX1_takePiece_98 rfl rfl ?_
          refine r_dup h dX1_takePiece_99 rfl ?_
          refine zm_getI h hc 4 4 (by decide) rfl rfl q1484 rfl dX1_takePiece_100 (fun hr41 => ?_)
          refine r_iconst h dX1_takePiece_103 ?_
          refine r_iadd h dX1_takePiece_104 ?_
          refine r_ck (fun hk42 => ?_)
          refine zm_putI h hc 4 4 (by decide) rfl rfl q1484 ⟨rfl, rfl, by decide +kernel⟩ hk42 dX1_takePiece_105 (fun σ43 _ => ?_)
          refine r_bipush h dX1_takePiece_108 (by decide) ?_
          exact zm_iret h hc rfl (by decide) dX1_takePiece_110
      · refine r_aload_n h 0 dX1_takePiece_74 rfl rfl ?_
        refine r_dup h dX1_takePiece_75 rfl ?_
        refine zm_getI h hc 4 4 (by decide) rfl rfl q1484 rfl dX1_takePiece_76 (fun hr44 => ?_)
        refine r_iconst h dX1_takePiece_79 ?_
        refine r_iadd h dX1_takePiece_80 ?_
        refine r_ck (fun hk45 => ?_)
        refine zm_putI h hc 4 4 (by decide) rfl rfl q1484 ⟨rfl, rfl, by decide +kernel⟩ hk45 dX1_takePiece_81 (fun σ46 _ => ?_)
        refine r_bipush h dX1_takePiece_84 (by decide) ?_
        exact zm_iret h hc rfl (by decide) dX1_takePiece_86
def m_takePiece (σ : MEM) : Option zm_O := bd (m_octet σ (σ (-1) 4)) (fun r3 σ4 => if r3 = 38 then (m_takePiece_26 σ4 (σ (-1) 4) r3 1) else (m_takePiece_26 σ4 (σ (-1) 4) r3 0))
theorem w_takePiece {G : zm_G} (hD : zm_D G) (σ : MEM) (o : zm_O) (hd : m_takePiece σ  = some o) : zm_Met G yX1_takePiece cX1_takePiece 5 (Option.some FieldType.int) 1 2 46 σ [.ref (zm_h G)] o := by
  refine zm_intro hD hd (by decide) rfl (Nat.le_of_ble_eq_true rfl) rfl (fun C h hc => ?_)
  have hN : ∀ i, i < 5 → i < zv_n C := fun i q => by rw [hc.2.2.1]; exact q
  unfold m_takePiece
  refine r_aload_n h 0 dX1_takePiece_0 rfl rfl ?_
  refine zm_getI h hc 4 4 (by decide) rfl rfl q1484 rfl dX1_takePiece_1 (fun hr1 => ?_)
  refine r_istore_n (lv' := [(1, iv (σ (-1) 4)), (0, .ref (zm_h G))]) h dX1_takePiece_4 rfl (hN _ (by decide)) rfl ?_
  refine r_aload_n h 1 dX1_takePiece_5 rfl rfl ?_
  refine r_aload_n h 1 dX1_takePiece_6 rfl rfl ?_
  refine zm_getI h hc 4 4 (by decide) rfl rfl q1484 rfl dX1_takePiece_7 (fun hr2 => ?_)
  refine zm_cVi h hc (n := 1) (As := [iv (σ (-1) 4)]) (fun o1 e1 => w_octet hc.1 _ (σ (-1) 4) hr2 o1 e1) q1817 q1819 qs60 q136 q1820 (by decide +kernel) ⟨by decide, by decide⟩ rfl (Nat.le_of_ble_eq_true rfl) rfl dX1_takePiece_10 (fun r3 σ4 hr5 => ?_)
  refine r_istore_n (lv' := [(2, iv r3), (1, iv (σ (-1) 4)), (0, .ref (zm_h G))]) h dX1_takePiece_13 rfl (hN _ (by decide)) rfl ?_
  refine r_aload_n h 2 dX1_takePiece_14 rfl rfl ?_
  refine r_iload_n h 0 dX1_takePiece_15 rfl rfl ?_
  refine r_bipush h dX1_takePiece_16 (by decide) ?_
  refine r_icmp_ne h hr5 (by decide) 25 dX1_takePiece_18 rfl ?_ ?_
  · refine r_iconst h dX1_takePiece_21 ?_
    refine r_goto h 26 dX1_takePiece_22 rfl ?_
    exact r_lv [2, 1, 0] rfl (w_takePiece_26 h hc _ (σ (-1) 4) r3 1 hr1 hr5 (by decide))
  · refine r_iconst h dX1_takePiece_25 ?_
    exact r_lv [2, 1, 0] rfl (w_takePiece_26 h hc _ (σ (-1) 4) r3 0 hr1 hr5 (by decide))
