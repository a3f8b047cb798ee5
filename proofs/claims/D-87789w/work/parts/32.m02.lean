set_option maxRecDepth 100000
/-! methods of the Model: decode rows, denotations m_.., walks w_.. (written by wip/gen/gen.py) -/
theorem dX1_keep_0 : decode cX1_keep 0 = .ok (.aload_n 0, 1) := by decide +kernel
theorem dX1_keep_1 : decode cX1_keep 1 = .ok (.getfield 58, 3) := by decide +kernel
theorem dX1_keep_4 : decode cX1_keep 4 = .ok (.aload_n 0, 1) := by decide +kernel
theorem dX1_keep_5 : decode cX1_keep 5 = .ok (.getfield 328, 3) := by decide +kernel
theorem dX1_keep_8 : decode cX1_keep 8 = .ok (.iaload, 1) := by decide +kernel
theorem dX1_keep_9 : decode cX1_keep 9 = .ok (.sipush 2000, 3) := by decide +kernel
theorem dX1_keep_12 : decode cX1_keep 12 = .ok (.if_icmp .ne 11, 3) := by decide +kernel
theorem dX1_keep_15 : decode cX1_keep 15 = .ok (.aload_n 0, 1) := by decide +kernel
theorem dX1_keep_16 : decode cX1_keep 16 = .ok (.bipush (-3), 2) := by decide +kernel
theorem dX1_keep_18 : decode cX1_keep 18 = .ok (.iload_n 2, 1) := by decide +kernel
theorem dX1_keep_19 : decode cX1_keep 19 = .ok (.invokevirtual 293, 3) := by decide +kernel
theorem dX1_keep_22 : decode cX1_keep 22 = .ok (.return_, 1) := by decide +kernel
theorem dX1_keep_23 : decode cX1_keep 23 = .ok (.aload_n 0, 1) := by decide +kernel
theorem dX1_keep_24 : decode cX1_keep 24 = .ok (.getfield 55, 3) := by decide +kernel
theorem dX1_keep_27 : decode cX1_keep 27 = .ok (.sipush 2000, 3) := by decide +kernel
theorem dX1_keep_30 : decode cX1_keep 30 = .ok (.aload_n 0, 1) := by decide +kernel
theorem dX1_keep_31 : decode cX1_keep 31 = .ok (.getfield 328, 3) := by decide +kernel
theorem dX1_keep_34 : decode cX1_keep 34 = .ok (.imul, 1) := by decide +kernel
theorem dX1_keep_35 : decode cX1_keep 35 = .ok (.aload_n 0, 1) := by decide +kernel
theorem dX1_keep_36 : decode cX1_keep 36 = .ok (.getfield 58, 3) := by decide +kernel
theorem dX1_keep_39 : decode cX1_keep 39 = .ok (.aload_n 0, 1) := by decide +kernel
theorem dX1_keep_40 : decode cX1_keep 40 = .ok (.getfield 328, 3) := by decide +kernel
theorem dX1_keep_43 : decode cX1_keep 43 = .ok (.iaload, 1) := by decide +kernel
theorem dX1_keep_44 : decode cX1_keep 44 = .ok (.iadd, 1) := by decide +kernel
theorem dX1_keep_45 : decode cX1_keep 45 = .ok (.iload_n 1, 1) := by decide +kernel
theorem dX1_keep_46 : decode cX1_keep 46 = .ok (.i2b, 1) := by decide +kernel
theorem dX1_keep_47 : decode cX1_keep 47 = .ok (.bastore, 1) := by decide +kernel
theorem dX1_keep_48 : decode cX1_keep 48 = .ok (.aload_n 0, 1) := by decide +kernel
theorem dX1_keep_49 : decode cX1_keep 49 = .ok (.getfield 58, 3) := by decide +kernel
theorem dX1_keep_52 : decode cX1_keep 52 = .ok (.aload_n 0, 1) := by decide +kernel
theorem dX1_keep_53 : decode cX1_keep 53 = .ok (.getfield 328, 3) := by decide +kernel
theorem dX1_keep_56 : decode cX1_keep 56 = .ok (.dup2, 1) := by decide +kernel
theorem dX1_keep_57 : decode cX1_keep 57 = .ok (.iaload, 1) := by decide +kernel
theorem dX1_keep_58 : decode cX1_keep 58 = .ok (.iconst 1, 1) := by decide +kernel
theorem dX1_keep_59 : decode cX1_keep 59 = .ok (.iadd, 1) := by decide +kernel
theorem dX1_keep_60 : decode cX1_keep 60 = .ok (.iastore, 1) := by decide +kernel
theorem dX1_keep_61 : decode cX1_keep 61 = .ok (.return_, 1) := by decide +kernel
def m_keep (σ : MEM) (a0 a1 : Int) : Option zm_O := ck (0 ≤ (σ (-1) 8) ∧ (σ (-1) 8) < 2) (if (σ 22 (σ (-1) 8)) = 2000 then (bd (m_fail σ (-3) a1) (fun _ σ3 => some (0, σ3))) else (ck (0 ≤ (σ (-1) 8) ∧ (σ (-1) 8) < 2) (ck (0 ≤ ((2000 * (σ (-1) 8)) + (σ 22 (σ (-1) 8))) ∧ ((2000 * (σ (-1) 8)) + (σ 22 (σ (-1) 8))) < 4000) (nu (mup σ 21 ((2000 * (σ (-1) 8)) + (σ 22 (σ (-1) 8))) (i_b a0)) (fun σ7 => ck (0 ≤ (σ7 (-1) 8) ∧ (σ7 (-1) 8) < 2) (ck (inR ((σ7 22 (σ7 (-1) 8)) + 1)) (ck (0 ≤ (σ7 (-1) 8) ∧ (σ7 (-1) 8) < 2) (nu (mup σ7 22 (σ7 (-1) 8) ((σ7 22 (σ7 (-1) 8)) + 1)) (fun σ11 => some (0, σ11))))))))))
theorem w_keep {G : zm_G} (hD : zm_D G) (σ : MEM) (a0 a1 : Int) (ha0 : inR a0) (ha1 : inR a1) (o : zm_O) (hd : m_keep σ a0 a1 = some o) : zm_Met G yX1_keep cX1_keep 3 (Option.none : Option FieldType) 0 1 22 σ [.ref (zm_h G), iv a0, iv a1] o := by
  refine zm_intro hD hd (by decide) rfl (Nat.le_of_ble_eq_true rfl) rfl (fun C h hc => ?_)
  have hN : ∀ i, i < 3 → i < zv_n C := fun i q => by rw [hc.2.2.1]; exact q
  unfold m_keep
  refine r_aload_n h 0 dX1_keep_0 rfl rfl ?_
  refine zm_getA h hc 22 (by decide) rfl q1502 rfl dX1_keep_1 ?_
  refine r_aload_n h 0 dX1_keep_4 rfl rfl ?_
  refine zm_getI h hc 8 8 (by decide) rfl rfl q1488 rfl dX1_keep_5 (fun hr1 => ?_)
  refine zm_ldI h hc 22 22 2 (by decide) rfl rfl rfl (by decide) dX1_keep_8 (fun _ hr2 => ?_)
  refine r_sipush h dX1_keep_9 (by decide) ?_
  refine r_icmp_ne h hr2 (by decide) 23 dX1_keep_12 rfl ?_ ?_
  · refine r_aload_n h 0 dX1_keep_15 rfl rfl ?_
    refine r_bipush h dX1_keep_16 (by decide) ?_
    refine r_iload_n h 2 dX1_keep_18 rfl rfl ?_
    refine zm_cVv h hc (n := 2) (As := [iv (-3), iv a1]) (fun o1 e1 => w_fail hc.1 _ (-3) a1 (by decide) ha1 o1 e1) q1805 q1807 qs57 q136 q1808 (by decide +kernel) ⟨by decide, by decide⟩ rfl (Nat.le_of_ble_eq_true rfl) rfl dX1_keep_19 (fun σ3  => ?_)
    exact zm_vret h hc rfl dX1_keep_22
  · refine r_aload_n h 0 dX1_keep_23 rfl rfl ?_
    refine zm_getA h hc 21 (by decide) rfl q1501 rfl dX1_keep_24 ?_
    refine r_sipush h dX1_keep_27 (by decide) ?_
    refine r_aload_n h 0 dX1_keep_30 rfl rfl ?_
    refine zm_getI h hc 8 8 (by decide) rfl rfl q1488 rfl dX1_keep_31 (fun hr4 => ?_)
    refine r_imul h dX1_keep_34 ?_
    refine r_aload_n h 0 dX1_keep_35 rfl rfl ?_
    refine zm_getA h hc 22 (by decide) rfl q1502 rfl dX1_keep_36 ?_
    refine r_aload_n h 0 dX1_keep_39 rfl rfl ?_
    refine zm_getI h hc 8 8 (by decide) rfl rfl q1488 rfl dX1_keep_40 (fun hr5 => ?_)
    refine zm_ldI h hc 22 22 2 (by decide) rfl rfl rfl (by decide) dX1_keep_43 (fun _ hr6 => ?_)
    refine r_iadd h dX1_keep_44 ?_
    refine r_iload_n h 1 dX1_keep_45 rfl rfl ?_
    refine r_i2b h dX1_keep_46 ?_
    refine zm_stB h hc 21 21 4000 (by decide) rfl rfl rfl (by decide) (i_b_y _) dX1_keep_47 (fun _ σ7 _ => ?_)
    refine r_aload_n h 0 dX1_keep_48 rfl rfl ?_
    refine zm_getA h hc 22 (by decide) rfl q1502 rfl dX1_keep_49 ?_
    refine r_aload_n h 0 dX1_keep_52 rfl rfl ?_
    refine zm_getI h hc 8 8 (by decide) rfl rfl q1488 rfl dX1_keep_53 (fun hr8 => ?_)
    refine r_dup2 h dX1_keep_56 rfl rfl ?_
    refine zm_ldI h hc 22 22 2 (by decide) rfl rfl rfl (by decide) dX1_keep_57 (fun _ hr9 => ?_)
    refine r_iconst h dX1_keep_58 ?_
    refine r_iadd h dX1_keep_59 ?_
    refine r_ck (fun hk10 => ?_)
    refine zm_stI h hc 22 22 2 (by decide) rfl rfl rfl (by decide) hk10 dX1_keep_60 (fun _ σ11 _ => ?_)
    exact zm_vret h hc rfl dX1_keep_61
theorem dX1_value_0 : decode cX1_value 0 = .ok (.aload_n 0, 1) := by decide +kernel
theorem dX1_value_1 : decode cX1_value 1 = .ok (.aload_n 0, 1) := by decide +kernel
theorem dX1_value_2 : decode cX1_value 2 = .ok (.getfield 276, 3) := by decide +kernel
theorem dX1_value_5 : decode cX1_value 5 = .ok (.invokevirtual 279, 3) := by decide +kernel
theorem dX1_value_8 : decode cX1_value 8 = .ok (.istore_n 1, 1) := by decide +kernel
theorem dX1_value_9 : decode cX1_value 9 = .ok (.aload_n 0, 1) := by decide +kernel
theorem dX1_value_10 : decode cX1_value 10 = .ok (.invokevirtual 289, 3) := by decide +kernel
theorem dX1_value_13 : decode cX1_value 13 = .ok (.ifCond .eq 24, 3) := by decide +kernel
theorem dX1_value_16 : decode cX1_value 16 = .ok (.iload_n 1, 1) := by decide +kernel
theorem dX1_value_17 : decode cX1_value 17 = .ok (.bipush 34, 2) := by decide +kernel
theorem dX1_value_19 : decode cX1_value 19 = .ok (.if_icmp .eq 18, 3) := by decide +kernel
theorem dX1_value_22 : decode cX1_value 22 = .ok (.iload_n 1, 1) := by decide +kernel
theorem dX1_value_23 : decode cX1_value 23 = .ok (.bipush 39, 2) := by decide +kernel
theorem dX1_value_25 : decode cX1_value 25 = .ok (.if_icmp .eq 12, 3) := by decide +kernel
theorem dX1_value_28 : decode cX1_value 28 = .ok (.aload_n 0, 1) := by decide +kernel
theorem dX1_value_29 : decode cX1_value 29 = .ok (.iconst (-1), 1) := by decide +kernel
theorem dX1_value_30 : decode cX1_value 30 = .ok (.aload_n 0, 1) := by decide +kernel
theorem dX1_value_31 : decode cX1_value 31 = .ok (.getfield 276, 3) := by decide +kernel
theorem dX1_value_34 : decode cX1_value 34 = .ok (.invokevirtual 293, 3) := by decide +kernel
theorem dX1_value_37 : decode cX1_value 37 = .ok (.aload_n 0, 1) := by decide +kernel
theorem dX1_value_38 : decode cX1_value 38 = .ok (.dup, 1) := by decide +kernel
theorem dX1_value_39 : decode cX1_value 39 = .ok (.getfield 276, 3) := by decide +kernel
theorem dX1_value_42 : decode cX1_value 42 = .ok (.iconst 1, 1) := by decide +kernel
theorem dX1_value_43 : decode cX1_value 43 = .ok (.iadd, 1) := by decide +kernel
theorem dX1_value_44 : decode cX1_value 44 = .ok (.putfield 276, 3) := by decide +kernel
theorem dX1_value_47 : decode cX1_value 47 = .ok (.sipush 2000, 3) := by decide +kernel
theorem dX1_value_50 : decode cX1_value 50 = .ok (.aload_n 0, 1) := by decide +kernel
theorem dX1_value_51 : decode cX1_value 51 = .ok (.getfield 328, 3) := by decide +kernel
theorem dX1_value_54 : decode cX1_value 54 = .ok (.imul, 1) := by decide +kernel
theorem dX1_value_55 : decode cX1_value 55 = .ok (.aload_n 0, 1) := by decide +kernel
theorem dX1_value_56 : decode cX1_value 56 = .ok (.getfield 58, 3) := by decide +kernel
theorem dX1_value_59 : decode cX1_value 59 = .ok (.aload_n 0, 1) := by decide +kernel
theorem dX1_value_60 : decode cX1_value 60 = .ok (.getfield 328, 3) := by decide +kernel
theorem dX1_value_63 : decode cX1_value 63 = .ok (.iaload, 1) := by decide +kernel
theorem dX1_value_64 : decode cX1_value 64 = .ok (.iadd, 1) := by decide +kernel
theorem dX1_value_65 : decode cX1_value 65 = .ok (.istore_n 2, 1) := by decide +kernel
theorem dX1_value_66 : decode cX1_value 66 = .ok (.aload_n 0, 1) := by decide +kernel
theorem dX1_value_67 : decode cX1_value 67 = .ok (.invokevirtual 289, 3) := by decide +kernel
theorem dX1_value_70 : decode cX1_value 70 = .ok (.ifCond .eq 96, 3) := by decide +kernel
theorem dX1_value_73 : decode cX1_value 73 = .ok (.aload_n 0, 1) := by decide +kernel
theorem dX1_value_74 : decode cX1_value 74 = .ok (.aload_n 0, 1) := by decide +kernel
theorem dX1_value_75 : decode cX1_value 75 = .ok (.getfield 276, 3) := by decide +kernel
theorem dX1_value_78 : decode cX1_value 78 = .ok (.invokevirtual 279, 3) := by decide +kernel
theorem dX1_value_81 : decode cX1_value 81 = .ok (.iload_n 1, 1) := by decide +kernel
theorem dX1_value_82 : decode cX1_value 82 = .ok (.if_icmp .eq 84, 3) := by decide +kernel
theorem dX1_value_85 : decode cX1_value 85 = .ok (.aload_n 0, 1) := by decide +kernel
theorem dX1_value_86 : decode cX1_value 86 = .ok (.getfield 276, 3) := by decide +kernel
theorem dX1_value_89 : decode cX1_value 89 = .ok (.istore_n 3, 1) := by decide +kernel
theorem dX1_value_90 : decode cX1_value 90 = .ok (.aload_n 0, 1) := by decide +kernel
theorem dX1_value_91 : decode cX1_value 91 = .ok (.aload_n 0, 1) := by decide +kernel
theorem dX1_value_92 : decode cX1_value 92 = .ok (.getfield 276, 3) := by decide +kernel
theorem dX1_value_95 : decode cX1_value 95 = .ok (.invokevirtual 279, 3) := by decide +kernel
theorem dX1_value_98 : decode cX1_value 98 = .ok (.bipush 60, 2) := by decide +kernel
theorem dX1_value_100 : decode cX1_value 100 = .ok (.if_icmp .ne 12, 3) := by decide +kernel
theorem dX1_value_103 : decode cX1_value 103 = .ok (.aload_n 0, 1) := by decide +kernel
theorem dX1_value_104 : decode cX1_value 104 = .ok (.iconst (-1), 1) := by decide +kernel
theorem dX1_value_105 : decode cX1_value 105 = .ok (.aload_n 0, 1) := by decide +kernel
theorem dX1_value_106 : decode cX1_value 106 = .ok (.getfield 276, 3) := by decide +kernel
theorem dX1_value_109 : decode cX1_value 109 = .ok (.invokevirtual 293, 3) := by decide +kernel
theorem dX1_value_112 : decode cX1_value 112 = .ok (.aload_n 0, 1) := by decide +kernel
theorem dX1_value_113 : decode cX1_value 113 = .ok (.invokevirtual 289, 3) := by decide +kernel
theorem dX1_value_116 : decode cX1_value 116 = .ok (.ifCond .eq 10, 3) := by decide +kernel
theorem dX1_value_119 : decode cX1_value 119 = .ok (.aload_n 0, 1) := by decide +kernel
theorem dX1_value_120 : decode cX1_value 120 = .ok (.invokevirtual 331, 3) := by decide +kernel
theorem dX1_value_123 : decode cX1_value 123 = .ok (.goto 4, 3) := by decide +kernel
theorem dX1_value_126 : decode cX1_value 126 = .ok (.iconst (-1), 1) := by decide +kernel
theorem dX1_value_127 : decode cX1_value 127 = .ok (.istore 4, 2) := by decide +kernel
theorem dX1_value_129 : decode cX1_value 129 = .ok (.aload_n 0, 1) := by decide +kernel
theorem dX1_value_130 : decode cX1_value 130 = .ok (.invokevirtual 289, 3) := by decide +kernel
theorem dX1_value_133 : decode cX1_value 133 = .ok (.ifCond .eq 30, 3) := by decide +kernel
theorem dX1_value_136 : decode cX1_value 136 = .ok (.aload_n 0, 1) := by decide +kernel
theorem dX1_value_137 : decode cX1_value 137 = .ok (.aload_n 0, 1) := by decide +kernel
theorem dX1_value_138 : decode cX1_value 138 = .ok (.getfield 309, 3) := by decide +kernel
theorem dX1_value_141 : decode cX1_value 141 = .ok (.ifCond .ne 16, 3) := by decide +kernel
theorem dX1_value_144 : decode cX1_value 144 = .ok (.iload 4, 2) := by decide +kernel
theorem dX1_value_146 : decode cX1_value 146 = .ok (.invokestatic 297, 3) := by decide +kernel
theorem dX1_value_149 : decode cX1_value 149 = .ok (.ifCond .eq 8, 3) := by decide +kernel
theorem dX1_value_152 : decode cX1_value 152 = .ok (.bipush 32, 2) := by decide +kernel
theorem dX1_value_154 : decode cX1_value 154 = .ok (.goto 5, 3) := by decide +kernel
theorem dX1_value_157 : decode cX1_value 157 = .ok (.iload 4, 2) := by decide +kernel
theorem dX1_value_159 : decode cX1_value 159 = .ok (.iload_n 3, 1) := by decide +kernel
theorem dX1_value_160 : decode cX1_value 160 = .ok (.invokevirtual 335, 3) := by decide +kernel
theorem dX1_value_163 : decode cX1_value 163 = .ok (.goto (-97), 3) := by decide +kernel
theorem dX1_value_166 : decode cX1_value 166 = .ok (.aload_n 0, 1) := by decide +kernel
theorem dX1_value_167 : decode cX1_value 167 = .ok (.dup, 1) := by decide +kernel
theorem dX1_value_168 : decode cX1_value 168 = .ok (.getfield 276, 3) := by decide +kernel
theorem dX1_value_171 : decode cX1_value 171 = .ok (.iconst 1, 1) := by decide +kernel
theorem dX1_value_172 : decode cX1_value 172 = .ok (.iadd, 1) := by decide +kernel
theorem dX1_value_173 : decode cX1_value 173 = .ok (.putfield 276, 3) := by decide +kernel
theorem dX1_value_176 : decode cX1_value 176 = .ok (.aload_n 0, 1) := by decide +kernel
theorem dX1_value_177 : decode cX1_value 177 = .ok (.sipush 2000, 3) := by decide +kernel
theorem dX1_value_180 : decode cX1_value 180 = .ok (.aload_n 0, 1) := by decide +kernel
theorem dX1_value_181 : decode cX1_value 181 = .ok (.getfield 328, 3) := by decide +kernel
theorem dX1_value_184 : decode cX1_value 184 = .ok (.imul, 1) := by decide +kernel
theorem dX1_value_185 : decode cX1_value 185 = .ok (.aload_n 0, 1) := by decide +kernel
theorem dX1_value_186 : decode cX1_value 186 = .ok (.getfield 58, 3) := by decide +kernel
theorem dX1_value_189 : decode cX1_value 189 = .ok (.aload_n 0, 1) := by decide +kernel
theorem dX1_value_190 : decode cX1_value 190 = .ok (.getfield 328, 3) := by decide +kernel
theorem dX1_value_193 : decode cX1_value 193 = .ok (.iaload, 1) := by decide +kernel
theorem dX1_value_194 : decode cX1_value 194 = .ok (.iadd, 1) := by decide +kernel
theorem dX1_value_195 : decode cX1_value 195 = .ok (.iload_n 2, 1) := by decide +kernel
theorem dX1_value_196 : decode cX1_value 196 = .ok (.isub, 1) := by decide +kernel
theorem dX1_value_197 : decode cX1_value 197 = .ok (.putfield 306, 3) := by decide +kernel
theorem dX1_value_200 : decode cX1_value 200 = .ok (.iload_n 2, 1) := by decide +kernel
theorem dX1_value_201 : decode cX1_value 201 = .ok (.ireturn, 1) := by decide +kernel
def m_value_166 (σ : MEM) (x2 : Int) : Option zm_O := ck (inR ((σ (-1) 4) + 1)) (nu (mup σ (-1) 4 ((σ (-1) 4) + 1)) (fun σ3 => ck (0 ≤ (σ3 (-1) 8) ∧ (σ3 (-1) 8) < 2) (ck (inR (((2000 * (σ3 (-1) 8)) + (σ3 22 (σ3 (-1) 8))) - x2)) (nu (mup σ3 (-1) 51 (((2000 * (σ3 (-1) 8)) + (σ3 22 (σ3 (-1) 8))) - x2)) (fun σ8 => some (x2, σ8))))))
theorem w_value_166 {C : zv_Cx zm_O} {G : zm_G} (h : zv_Ok C cX1_value RX1) (hc : zm_C C G 5 (Option.some FieldType.int) 1 3 70) (σ : MEM) (x2 : Int) (hx2 : inR x2) : VV C (m_value_166 σ x2) σ [(0, .ref (zm_h G)), (2, iv x2)] [] 166 := by
  have hN : ∀ i, i < 5 → i < zv_n C := fun i q => by rw [hc.2.2.1]; exact q
  unfold m_value_166
  refine r_aload_n h 0 dX1_value_166 rfl rfl ?_
  refine r_dup h dX1_value_167 rfl ?_
  refine zm_getI h hc 4 4 (by decide) rfl rfl q1484 rfl dX1_value_168 (fun hr1 => ?_)
  refine r_iconst h dX1_value_171 ?_
  refine r_iadd h dX1_value_172 ?_
  refine r_ck (fun hk2 => ?_)
  refine zm_putI h hc 4 4 (by decide) rfl rfl q1484 ⟨rfl, rfl, by decide +kernel⟩ hk2 dX1_value_173 (fun σ3 _ => ?_)
  refine r_aload_n h 0 dX1_value_176 rfl rfl ?_
  refine r_sipush h dX1_value_177 (by decide) ?_
  refine r_aload_n h 0 dX1_value_180 rfl rfl ?_
  refine zm_getI h hc 8 8 (by decide) rfl rfl q1488 rfl dX1_value_181 (fun hr4 => ?_)
  refine r_imul h dX1_value_184 ?_
  refine r_aload_n h 0 dX1_value_185 rfl rfl ?_
  refine zm_getA h hc 22 (by decide) rfl q1502 rfl dX1_value_186 ?_
  refine r_aload_n h 0 dX1_value_189 rfl rfl ?_
  refine zm_getI h hc 8 8 (by decide) rfl rfl q1488 rfl dX1_value_190 (fun hr5 => ?_)
  refine zm_ldI h hc 22 22 2 (by decide) rfl rfl rfl (by decide) dX1_value_193 (fun _ hr6 => ?_)
  refine r_iadd h dX1_value_194 ?_
  refine r_iload_n h 1 dX1_value_195 rfl rfl ?_
  refine r_isub h dX1_value_196 ?_
  refine r_ck (fun hk7 => ?_)
  refine zm_putI h hc 51 51 (by decide) rfl rfl q1531 ⟨rfl, rfl, by decide +kernel⟩ hk7 dX1_value_197 (fun σ8 _ => ?_)
  refine r_iload_n h 1 dX1_value_200 rfl rfl ?_
  exact zm_iret h hc rfl hx2 dX1_value_201
def m_value_127 (lp66 : MEM → Int → Int → Option zm_O) (σ : MEM) (x1 x2 x3 s0 : Int) : Option zm_O := bd (m_isGood σ) (fun r1 σ2 => if r1 = 0 then (lp66 σ2 x1 x2) else (if (σ2 (-1) 52) = 0 then (bd (m_isS σ2 s0) (fun r5 σ6 => if r5 = 0 then (bd (m_keep σ6 s0 x3) (fun _ σ8 => lp66 σ8 x1 x2)) else (bd (m_keep σ6 32 x3) (fun _ σ9 => lp66 σ9 x1 x2)))) else (bd (m_keep σ2 s0 x3) (fun _ σ10 => lp66 σ10 x1 x2))))
theorem w_value_127 {C : zv_Cx zm_O} {G : zm_G} (h : zv_Ok C cX1_value RX1) (hc : zm_C C G 5 (Option.some FieldType.int) 1 3 70) (lp66 : MEM → Int → Int → Option zm_O) (hlp66 : ∀ (σ : MEM) (x1 x2 : Int), inR x1 → inR x2 → VV C (lp66 σ x1 x2) σ [(0, .ref (zm_h G)), (1, iv x1), (2, iv x2)] [] 66) (σ : MEM) (x1 x2 x3 s0 : Int) (hx1 : inR x1) (hx2 : inR x2) (hx3 : inR x3) (hs0 : inR s0) : VV C (m_value_127 lp66 σ x1 x2 x3 s0) σ [(0, .ref (zm_h G)), (1, iv x1), (2, iv x2), (3, iv x3)] [iv s0] 127 := by
  have hN : ∀ i, i < 5 → i < zv_n C := fun i q => by rw [hc.2.2.1]; exact q
  unfold m_value_127
  refine r_istore (lv' := [(4, iv s0), (0, .ref (zm_h G)), (1, iv x1), (2, iv x2), (3, iv x3)]) h dX1_value_127 (hN _ (by decide)) rfl ?_
  refine r_aload_n h 1 dX1_value_129 rfl rfl ?_
  refine zm_cVz h hc (n := 0) (As := []) (fun o1 e1 => w_isGood hc.1 _ o1 e1) q1801 q1803 qs56 q136 q1804 (by decide +kernel) ⟨by decide, by decide⟩ rfl (Nat.le_of_ble_eq_true rfl) rfl dX1_value_130 (fun r1 σ2 hr3 => ?_)
  refine r_if_eq h hr3.r 163 dX1_value_133 rfl ?_ ?_
  · refine r_goto h 66 dX1_value_163 rfl ?_
    exact r_lv [1, 2, 3] rfl (hlp66 _ x1 x2 hx1 hx2)
  · refine r_aload_n h 1 dX1_value_136 rfl rfl ?_
    refine r_aload_n h 1 dX1_value_137 rfl rfl ?_
    refine zm_getZ h hc 52 52 (by decide) rfl rfl q1532 rfl dX1_value_138 (fun hr4 => ?_)
    refine r_if_ne h hr4.r 157 dX1_value_141 rfl ?_ ?_
    · refine r_iload h 0 dX1_value_144 rfl ?_
      refine zm_cSz h hc (n := 1) (As := [iv s0]) (fun o1 e1 => w_isS hc.1 _ s0 hs0 o1 e1) q1821 q1822 q136 q1823 (by decide +kernel) ⟨by decide, by decide⟩ rfl (Nat.le_of_ble_eq_true rfl) rfl dX1_value_146 (fun r5 σ6 hr7 => ?_)
      refine r_if_eq h hr7.r 157 dX1_value_149 rfl ?_ ?_
      · refine r_iload h 0 dX1_value_157 rfl ?_
        refine r_iload_n h 4 dX1_value_159 rfl rfl ?_
        refine zm_cVv h hc (n := 2) (As := [iv s0, iv x3]) (fun o1 e1 => w_keep hc.1 _ s0 x3 hs0 hx3 o1 e1) q1956 q1958 qs84 q136 q1959 (by decide +kernel) ⟨by decide, by decide⟩ rfl (Nat.le_of_ble_eq_true rfl) rfl dX1_value_160 (fun σ8  => ?_)
        refine r_goto h 66 dX1_value_163 rfl ?_
        exact r_lv [1, 2, 3] rfl (hlp66 _ x1 x2 hx1 hx2)
      · refine r_bipush h dX1_value_152 (by decide) ?_
        refine r_goto h 159 dX1_value_154 rfl ?_
        refine r_iload_n h 4 dX1_value_159 rfl rfl ?_
        refine zm_cVv h hc (n := 2) (As := [iv 32, iv x3]) (fun o1 e1 => w_keep hc.1 _ 32 x3 (by decide) hx3 o1 e1) q1956 q1958 qs84 q136 q1959 (by decide +kernel) ⟨by decide, by decide⟩ rfl (Nat.le_of_ble_eq_true rfl) rfl dX1_value_160 (fun σ9  => ?_)
        refine r_goto h 66 dX1_value_163 rfl ?_
        exact r_lv [1, 2, 3] rfl (hlp66 _ x1 x2 hx1 hx2)
    · refine r_iload h 0 dX1_value_157 rfl ?_
      refine r_iload_n h 4 dX1_value_159 rfl rfl ?_
      refine zm_cVv h hc (n := 2) (As := [iv s0, iv x3]) (fun o1 e1 => w_keep hc.1 _ s0 x3 hs0 hx3 o1 e1) q1956 q1958 qs84 q136 q1959 (by decide +kernel) ⟨by decide, by decide⟩ rfl (Nat.le_of_ble_eq_true rfl) rfl dX1_value_160 (fun σ10  => ?_)
      refine r_goto h 66 dX1_value_163 rfl ?_
      exact r_lv [1, 2, 3] rfl (hlp66 _ x1 x2 hx1 hx2)
def m_value_112 (lp66 : MEM → Int → Int → Option zm_O) (σ : MEM) (x1 x2 x3 : Int) : Option zm_O := bd (m_isGood σ) (fun r1 σ2 => if r1 = 0 then (m_value_127 lp66 σ2 x1 x2 x3 (-1)) else (bd (m_takePiece σ2) (fun r4 σ5 => m_value_127 lp66 σ5 x1 x2 x3 r4)))
theorem w_value_112 {C : zv_Cx zm_O} {G : zm_G} (h : zv_Ok C cX1_value RX1) (hc : zm_C C G 5 (Option.some FieldType.int) 1 3 70) (lp66 : MEM → Int → Int → Option zm_O) (hlp66 : ∀ (σ : MEM) (x1 x2 : Int), inR x1 → inR x2 → VV C (lp66 σ x1 x2) σ [(0, .ref (zm_h G)), (1, iv x1), (2, iv x2)] [] 66) (σ : MEM) (x1 x2 x3 : Int) (hx1 : inR x1) (hx2 : inR x2) (hx3 : inR x3) : VV C (m_value_112 lp66 σ x1 x2 x3) σ [(0, .ref (zm_h G)), (1, iv x1), (2, iv x2), (3, iv x3)] [] 112 := by
  have hN : ∀ i, i < 5 → i < zv_n C := fun i q => by rw [hc.2.2.1]; exact q
  unfold m_value_112
  refine r_aload_n h 0 dX1_value_112 rfl rfl ?_
  refine zm_cVz h hc (n := 0) (As := []) (fun o1 e1 => w_isGood hc.1 _ o1 e1) q1801 q1803 qs56 q136 q1804 (by decide +kernel) ⟨by decide, by decide⟩ rfl (Nat.le_of_ble_eq_true rfl) rfl dX1_value_113 (fun r1 σ2 hr3 => ?_)
  refine r_if_eq h hr3.r 126 dX1_value_116 rfl ?_ ?_
  · refine r_iconst h dX1_value_126 ?_
    exact r_lv [0, 1, 2, 3] rfl (w_value_127 h hc lp66 hlp66 _ x1 x2 x3 (-1) hx1 hx2 hx3 (by decide))
  · refine r_aload_n h 0 dX1_value_119 rfl rfl ?_
    refine zm_cVi h hc (n := 0) (As := []) (fun o1 e1 => w_takePiece hc.1 _ o1 e1) q1946 q1948 qs83 q136 q1949 (by decide +kernel) ⟨by decide, by decide⟩ rfl (Nat.le_of_ble_eq_true rfl) rfl dX1_value_120 (fun r4 σ5 hr6 => ?_)
    refine r_goto h 127 dX1_value_123 rfl ?_
    exact r_lv [0, 1, 2, 3] rfl (w_value_127 h hc lp66 hlp66 _ x1 x2 x3 r4 hx1 hx2 hx3 hr6)
def m_value_66 : Nat → MEM → Int → Int → Option zm_O
  | 0, _, _, _ => none
  | n + 1, σ, x1, x2 => bd (m_isGood σ) (fun r1 σ2 => if r1 = 0 then (m_value_166 σ2 x2) else (bd (m_octet σ2 (σ2 (-1) 4)) (fun r5 σ6 => if r5 = x1 then (m_value_166 σ6 x2) else (bd (m_octet σ6 (σ6 (-1) 4)) (fun r10 σ11 => if r10 = 60 then (bd (m_fail σ11 (-1) (σ11 (-1) 4)) (fun _ σ14 => m_value_112 (m_value_66 n) σ14 x1 x2 (σ6 (-1) 4))) else (m_value_112 (m_value_66 n) σ11 x1 x2 (σ6 (-1) 4)))))))
theorem w_value_66 {C : zv_Cx zm_O} {G : zm_G} (h : zv_Ok C cX1_value RX1) (hc : zm_C C G 5 (Option.some FieldType.int) 1 3 70) : ∀ (n : Nat) (σ : MEM) (x1 x2 : Int), inR x1 → inR x2 → VV C (m_value_66 n σ x1 x2) σ [(0, .ref (zm_h G)), (1, iv x1), (2, iv x2)] [] 66 := by
  have hN : ∀ i, i < 5 → i < zv_n C := fun i q => by rw [hc.2.2.1]; exact q
  intro n
  induction n with
  | zero => intros; exact r_none
  | succ n ih =>
    intro σ x1 x2 hx1 hx2
    rw [m_value_66]
    refine r_aload_n h 0 dX1_value_66 rfl rfl ?_
    refine zm_cVz h hc (n := 0) (As := []) (fun o1 e1 => w_isGood hc.1 _ o1 e1) q1801 q1803 qs56 q136 q1804 (by decide +kernel) ⟨by decide, by decide⟩ rfl (Nat.le_of_ble_eq_true rfl) rfl dX1_value_67 (fun r1 σ2 hr3 => ?_)
    refine r_if_eq h hr3.r 166 dX1_value_70 rfl ?_ ?_
    · exact r_lv [0, 2] rfl (w_value_166 h hc _ x2 hx2)
    · refine r_aload_n h 0 dX1_value_73 rfl rfl ?_
      refine r_aload_n h 0 dX1_value_74 rfl rfl ?_
      refine zm_getI h hc 4 4 (by decide) rfl rfl q1484 rfl dX1_value_75 (fun hr4 => ?_)
      refine zm_cVi h hc (n := 1) (As := [iv (σ2 (-1) 4)]) (fun o1 e1 => w_octet hc.1 _ (σ2 (-1) 4) hr4 o1 e1) q1817 q1819 qs60 q136 q1820 (by decide +kernel) ⟨by decide, by decide⟩ rfl (Nat.le_of_ble_eq_true rfl) rfl dX1_value_78 (fun r5 σ6 hr7 => ?_)
      refine r_iload_n h 1 dX1_value_81 rfl rfl ?_
      refine r_icmp_eq h hr7 hx1 166 dX1_value_82 rfl ?_ ?_
      · exact r_lv [0, 2] rfl (w_value_166 h hc _ x2 hx2)
      · refine r_aload_n h 0 dX1_value_85 rfl rfl ?_
        refine zm_getI h hc 4 4 (by decide) rfl rfl q1484 rfl dX1_value_86 (fun hr8 => ?_)
        refine r_istore_n (lv' := [(3, iv (σ6 (-1) 4)), (0, .ref (zm_h G)), (1, iv x1), (2, iv x2)]) h dX1_value_89 rfl (hN _ (by decide)) rfl ?_
        refine r_aload_n h 1 dX1_value_90 rfl rfl ?_
        refine r_aload_n h 1 dX1_value_91 rfl rfl ?_
        refine zm_getI h hc 4 4 (by decide) rfl rfl q1484 rfl dX1_value_92 (fun hr9 => ?_)
        refine zm_cVi h hc (n := 1) (As := [iv (σ6 (-1) 4)]) (fun o1 e1 => w_octet hc.1 _ (σ6 (-1) 4) hr9 o1 e1) q1817 q1819 qs60 q136 q1820 (by decide +kernel) ⟨by decide, by decide⟩ rfl (Nat.le_of_ble_eq_true rfl) rfl dX1_value_95 (fun r10 σ11 hr12 => ?_)
        refine r_bipush h dX1_value_98 (by decide) ?_
        refine r_icmp_ne h hr12 (by decide) 112 dX1_value_100 rfl ?_ ?_
        · refine r_aload_n h 1 dX1_value_103 rfl rfl ?_
          refine r_iconst h dX1_value_104 ?_
          refine r_aload_n h 1 dX1_value_105 rfl rfl ?_
          refine zm_getI h hc 4 4 (by decide) rfl rfl q1484 rfl dX1_value_106 (fun hr13 => ?_)
          refine zm_cVv h hc (n := 2) (As := [iv (-1), iv (σ11 (-1) 4)]) (fun o1 e1 => w_fail hc.1 _ (-1) (σ11 (-1) 4) (by decide) hr13 o1 e1) q1805 q1807 qs57 q136 q1808 (by decide +kernel) ⟨by decide, by decide⟩ rfl (Nat.le_of_ble_eq_true rfl) rfl dX1_value_109 (fun σ14  => ?_)
          exact r_lv [1, 2, 3, 0] rfl (w_value_112 h hc (m_value_66 n) ih _ x1 x2 (σ6 (-1) 4) hx1 hx2 hr8)
        · exact r_lv [1, 2, 3, 0] rfl (w_value_112 h hc (m_value_66 n) ih _ x1 x2 (σ6 (-1) 4) hx1 hx2 hr8)
def m_value_37 (σ : MEM) (x1 : Int) : Option zm_O := ck (inR ((σ (-1) 4) + 1)) (nu (mup σ (-1) 4 ((σ (-1) 4) + 1)) (fun σ3 => ck (0 ≤ (σ3 (-1) 8) ∧ (σ3 (-1) 8) < 2) (ck (inR ((2000 * (σ3 (-1) 8)) + (σ3 22 (σ3 (-1) 8)))) (m_value_66 zF σ3 x1 ((2000 * (σ3 (-1) 8)) + (σ3 22 (σ3 (-1) 8)))))))
theorem w_value_37 {C : zv_Cx zm_O} {G : zm_G} (h : zv_Ok C cX1_value RX1) (hc : zm_C C G 5 (Option.some FieldType.int) 1 3 70) (σ : MEM) (x1 : Int) (hx1 : inR x1) : VV C (m_value_37 σ x1) σ [(0, .ref (zm_h G)), (1, iv x1)] [] 37 := by
  have hN : ∀ i, i < 5 → i < zv_n C := fun i q => by rw [hc.2.2.1]; exact q
  unfold m_value_37
  refine r_aload_n h 0 dX1_value_37 rfl rfl ?_
  refine r_dup h dX1_value_38 rfl ?_
  refine zm_getI h hc 4 4 (by decide) rfl rfl q1484 rfl dX1_value_39 (fun hr1 => ?_)
  refine r_iconst h dX1_value_42 ?_
  refine r_iadd h dX1_value_43 ?_
  refine r_ck (fun hk2 => ?_)
  refine zm_putI h hc 4 4 (by decide) rfl rfl q1484 ⟨rfl, rfl, by decide +kernel⟩ hk2 dX1_value_44 (fun σ3 _ => ?_)
  refine r_sipush h dX1_value_47 (by decide) ?_
  refine r_aload_n h 0 dX1_value_50 rfl rfl ?_
  refine zm_getI h hc 8 8 (by decide) rfl rfl q1488 rfl dX1_value_51 (fun hr4 => ?_)
  refine r_imul h dX1_value_54 ?_
  refine r_aload_n h 0 dX1_value_55 rfl rfl ?_
  refine zm_getA h hc 22 (by decide) rfl q1502 rfl dX1_value_56 ?_
  refine r_aload_n h 0 dX1_value_59 rfl rfl ?_
  refine zm_getI h hc 8 8 (by decide) rfl rfl q1488 rfl dX1_value_60 (fun hr5 => ?_)
  refine zm_ldI h hc 22 22 2 (by decide) rfl rfl rfl (by decide) dX1_value_63 (fun _ hr6 => ?_)
  refine r_iadd h dX1_value_64 ?_
  refine r_istore_n (lv' := [(2, iv ((2000 * (σ3 (-1) 8)) + (σ3 22 (σ3 (-1) 8)))), (0, .ref (zm_h G)), (1, iv x1)]) h dX1_value_65 rfl (hN _ (by decide)) rfl ?_
  refine r_ck (fun hk7 => ?_)
  exact r_lv [1, 2, 0] rfl (w_value_66 h hc zF _ x1 ((2000 * (σ3 (-1) 8)) + (σ3 22 (σ3 (-1) 8))) hx1 hk7)
def m_value (σ : MEM) : Option zm_O := bd (m_octet σ (σ (-1) 4)) (fun r2 σ3 => bd (m_isGood σ3) (fun r5 σ6 => if r5 = 0 then (m_value_37 σ6 r2) else (if r2 = 34 then (m_value_37 σ6 r2) else (if r2 = 39 then (m_value_37 σ6 r2) else (bd (m_fail σ6 (-1) (σ6 (-1) 4)) (fun _ σ9 => m_value_37 σ9 r2))))))
theorem w_value {G : zm_G} (hD : zm_D G) (σ : MEM) (o : zm_O) (hd : m_value σ  = some o) : zm_Met G yX1_value cX1_value 5 (Option.some FieldType.int) 1 3 70 σ [.ref (zm_h G)] o := by
  refine zm_intro hD hd (by decide) rfl (Nat.le_of_ble_eq_true rfl) rfl (fun C h hc => ?_)
  have hN : ∀ i, i < 5 → i < zv_n C := fun i q => by rw [hc.2.2.1]; exact q
  unfold m_value
  refine r_aload_n h 0 dX1_value_0 rfl rfl ?_
  refine r_aload_n h 0 dX1_value_1 rfl rfl ?_
  refine zm_getI h hc 4 4 (by decide) rfl rfl q1484 rfl dX1_value_2 (fun hr1 => ?_)
  refine zm_cVi h hc (n := 1) (As := [iv (σ (-1) 4)]) (fun o1 e1 => w_octet hc.1 _ (σ (-1) 4) hr1 o1 e1) q1817 q1819 qs60 q136 q1820 (by decide +kernel) ⟨by decide, by decide⟩ rfl (Nat.le_of_ble_eq_true rfl) rfl dX1_value_5 (fun r2 σ3 hr4 => ?_)
  refine r_istore_n (lv' := [(1, iv r2), (0, .ref (zm_h G))]) h dX1_value_8 rfl (hN _ (by decide)) rfl ?_
  refine r_aload_n h 1 dX1_value_9 rfl rfl ?_
  refine zm_cVz h hc (n := 0) (As := []) (fun o1 e1 => w_isGood hc.1 _ o1 e1) q1801 q1803 qs56 q136 q1804 (by decide +kernel) ⟨by decide, by decide⟩ rfl (Nat.le_of_ble_eq_true rfl) rfl dX1_value_10 (fun r5 σ6 hr7 => ?_)
  refine r_if_eq h hr7.r 37 dX1_value_13 rfl ?_ ?_
  · exact r_lv [1, 0] rfl (w_value_37 h hc _ r2 hr4)
  · refine r_iload_n h 0 dX1_value_16 rfl rfl ?_
    refine r_bipush h dX1_value_17 (by decide) ?_
    refine r_icmp_eq h hr4 (by decide) 37 dX1_value_19 rfl ?_ ?_
    · exact r_lv [1, 0] rfl (w_value_37 h hc _ r2 hr4)
    · refine r_iload_n h 0 dX1_value_22 rfl rfl ?_
      refine r_bipush h dX1_value_23 (by decide) ?_
      refine r_icmp_eq h hr4 (by decide) 37 dX1_value_25 rfl ?_ ?_
      · exact r_lv [1, 0] rfl (w_value_37 h hc _ r2 hr4)
      · refine r_aload_n h 1 dX1_value_28 rfl rfl ?_
        refine r_iconst h dX1_value_29 ?_
        refine r_aload_n h 1 dX1_value_30 rfl rfl ?_
        refine zm_getI h hc 4 4 (by decide) rfl rfl q1484 rfl dX1_value_31 (fun hr8 => ?_)
        refine zm_cVv h hc (n := 2) (As := [iv (-1), iv (σ6 (-1) 4)]) (fun o1 e1 => w_fail hc.1 _ (-1) (σ6 (-1) 4) (by decide) hr8 o1 e1) q1805 q1807 qs57 q136 q1808 (by decide +kernel) ⟨by decide, by decide⟩ rfl (Nat.le_of_ble_eq_true rfl) rfl dX1_value_34 (fun σ9  => ?_)
        exact r_lv [1, 0] rfl (w_value_37 h hc _ r2 hr4)
theorem dX1_defaults_0 : decode cX1_defaults 0 = .ok (.aload_n 0, 1) := by decide +kernel
theorem dX1_defaults_1 : decode cX1_defaults 1 = .ok (.invokevirtual 289, 3) := by decide +kernel
theorem dX1_defaults_4 : decode cX1_defaults 4 = .ok (.ifCond .ne 4, 3) := by decide +kernel
theorem dX1_defaults_7 : decode cX1_defaults 7 = .ok (.return_, 1) := by decide +kernel
theorem dX1_defaults_8 : decode cX1_defaults 8 = .ok (.aload_n 0, 1) := by decide +kernel
theorem dX1_defaults_9 : decode cX1_defaults 9 = .ok (.getfield 122, 3) := by decide +kernel
theorem dX1_defaults_12 : decode cX1_defaults 12 = .ok (.iload_n 1, 1) := by decide +kernel
theorem dX1_defaults_13 : decode cX1_defaults 13 = .ok (.iconst 3, 1) := by decide +kernel
theorem dX1_defaults_14 : decode cX1_defaults 14 = .ok (.iastore, 1) := by decide +kernel
theorem dX1_defaults_15 : decode cX1_defaults 15 = .ok (.aload_n 0, 1) := by decide +kernel
theorem dX1_defaults_16 : decode cX1_defaults 16 = .ok (.ldc2_w 432, 3) := by decide +kernel
theorem dX1_defaults_19 : decode cX1_defaults 19 = .ok (.ldc2_w 434, 3) := by decide +kernel
theorem dX1_defaults_22 : decode cX1_defaults 22 = .ok (.iconst 1, 1) := by decide +kernel
theorem dX1_defaults_23 : decode cX1_defaults 23 = .ok (.invokevirtual 358, 3) := by decide +kernel
theorem dX1_defaults_26 : decode cX1_defaults 26 = .ok (.ifCond .eq 22, 3) := by decide +kernel
theorem dX1_defaults_29 : decode cX1_defaults 29 = .ok (.aload_n 0, 1) := by decide +kernel
theorem dX1_defaults_30 : decode cX1_defaults 30 = .ok (.dup, 1) := by decide +kernel
theorem dX1_defaults_31 : decode cX1_defaults 31 = .ok (.getfield 276, 3) := by decide +kernel
theorem dX1_defaults_34 : decode cX1_defaults 34 = .ok (.bipush 9, 2) := by decide +kernel
theorem dX1_defaults_36 : decode cX1_defaults 36 = .ok (.iadd, 1) := by decide +kernel
theorem dX1_defaults_37 : decode cX1_defaults 37 = .ok (.putfield 276, 3) := by decide +kernel
theorem dX1_defaults_40 : decode cX1_defaults 40 = .ok (.aload_n 0, 1) := by decide +kernel
theorem dX1_defaults_41 : decode cX1_defaults 41 = .ok (.getfield 122, 3) := by decide +kernel
theorem dX1_defaults_44 : decode cX1_defaults 44 = .ok (.iload_n 1, 1) := by decide +kernel
theorem dX1_defaults_45 : decode cX1_defaults 45 = .ok (.iconst 0, 1) := by decide +kernel
theorem dX1_defaults_46 : decode cX1_defaults 46 = .ok (.iastore, 1) := by decide +kernel
theorem dX1_defaults_47 : decode cX1_defaults 47 = .ok (.return_, 1) := by decide +kernel
theorem dX1_defaults_48 : decode cX1_defaults 48 = .ok (.aload_n 0, 1) := by decide +kernel
theorem dX1_defaults_49 : decode cX1_defaults 49 = .ok (.ldc2_w 436, 3) := by decide +kernel
theorem dX1_defaults_52 : decode cX1_defaults 52 = .ok (.bipush 8, 2) := by decide +kernel
theorem dX1_defaults_54 : decode cX1_defaults 54 = .ok (.invokevirtual 285, 3) := by decide +kernel
theorem dX1_defaults_57 : decode cX1_defaults 57 = .ok (.ifCond .eq 22, 3) := by decide +kernel
theorem dX1_defaults_60 : decode cX1_defaults 60 = .ok (.aload_n 0, 1) := by decide +kernel
theorem dX1_defaults_61 : decode cX1_defaults 61 = .ok (.dup, 1) := by decide +kernel
theorem dX1_defaults_62 : decode cX1_defaults 62 = .ok (.getfield 276, 3) := by decide +kernel
theorem dX1_defaults_65 : decode cX1_defaults 65 = .ok (.bipush 8, 2) := by decide +kernel
theorem dX1_defaults_67 : decode cX1_defaults 67 = .ok (.iadd, 1) := by decide +kernel
theorem dX1_defaults_68 : decode cX1_defaults 68 = .ok (.putfield 276, 3) := by decide +kernel
theorem dX1_defaults_71 : decode cX1_defaults 71 = .ok (.aload_n 0, 1) := by decide +kernel
theorem dX1_defaults_72 : decode cX1_defaults 72 = .ok (.getfield 122, 3) := by decide +kernel
theorem dX1_defaults_75 : decode cX1_defaults 75 = .ok (.iload_n 1, 1) := by decide +kernel
theorem dX1_defaults_76 : decode cX1_defaults 76 = .ok (.iconst 1, 1) := by decide +kernel
theorem dX1_defaults_77 : decode cX1_defaults 77 = .ok (.iastore, 1) := by decide +kernel
theorem dX1_defaults_78 : decode cX1_defaults 78 = .ok (.return_, 1) := by decide +kernel
theorem dX1_defaults_79 : decode cX1_defaults 79 = .ok (.aload_n 0, 1) := by decide +kernel
theorem dX1_defaults_80 : decode cX1_defaults 80 = .ok (.ldc2_w 438, 3) := by decide +kernel
theorem dX1_defaults_83 : decode cX1_defaults 83 = .ok (.bipush 6, 2) := by decide +kernel
theorem dX1_defaults_85 : decode cX1_defaults 85 = .ok (.invokevirtual 285, 3) := by decide +kernel
theorem dX1_defaults_88 : decode cX1_defaults 88 = .ok (.ifCond .eq 25, 3) := by decide +kernel
theorem dX1_defaults_91 : decode cX1_defaults 91 = .ok (.aload_n 0, 1) := by decide +kernel
theorem dX1_defaults_92 : decode cX1_defaults 92 = .ok (.dup, 1) := by decide +kernel
theorem dX1_defaults_93 : decode cX1_defaults 93 = .ok (.getfield 276, 3) := by decide +kernel
theorem dX1_defaults_96 : decode cX1_defaults 96 = .ok (.bipush 6, 2) := by decide +kernel
theorem dX1_defaults_98 : decode cX1_defaults 98 = .ok (.iadd, 1) := by decide +kernel
theorem dX1_defaults_99 : decode cX1_defaults 99 = .ok (.putfield 276, 3) := by decide +kernel
theorem dX1_defaults_102 : decode cX1_defaults 102 = .ok (.aload_n 0, 1) := by decide +kernel
theorem dX1_defaults_103 : decode cX1_defaults 103 = .ok (.getfield 122, 3) := by decide +kernel
theorem dX1_defaults_106 : decode cX1_defaults 106 = .ok (.iload_n 1, 1) := by decide +kernel
theorem dX1_defaults_107 : decode cX1_defaults 107 = .ok (.iconst 2, 1) := by decide +kernel
theorem dX1_defaults_108 : decode cX1_defaults 108 = .ok (.iastore, 1) := by decide +kernel
theorem dX1_defaults_109 : decode cX1_defaults 109 = .ok (.aload_n 0, 1) := by decide +kernel
theorem dX1_defaults_110 : decode cX1_defaults 110 = .ok (.invokevirtual 348, 3) := by decide +kernel
theorem dX1_defaults_113 : decode cX1_defaults 113 = .ok (.aload_n 0, 1) := by decide +kernel
theorem dX1_defaults_114 : decode cX1_defaults 114 = .ok (.getfield 125, 3) := by decide +kernel
theorem dX1_defaults_117 : decode cX1_defaults 117 = .ok (.iload_n 1, 1) := by decide +kernel
theorem dX1_defaults_118 : decode cX1_defaults 118 = .ok (.aload_n 0, 1) := by decide +kernel
theorem dX1_defaults_119 : decode cX1_defaults 119 = .ok (.invokevirtual 440, 3) := by decide +kernel
theorem dX1_defaults_122 : decode cX1_defaults 122 = .ok (.iastore, 1) := by decide +kernel
theorem dX1_defaults_123 : decode cX1_defaults 123 = .ok (.aload_n 0, 1) := by decide +kernel
theorem dX1_defaults_124 : decode cX1_defaults 124 = .ok (.getfield 128, 3) := by decide +kernel
theorem dX1_defaults_127 : decode cX1_defaults 127 = .ok (.iload_n 1, 1) := by decide +kernel
theorem dX1_defaults_128 : decode cX1_defaults 128 = .ok (.aload_n 0, 1) := by decide +kernel
theorem dX1_defaults_129 : decode cX1_defaults 129 = .ok (.getfield 306, 3) := by decide +kernel
theorem dX1_defaults_132 : decode cX1_defaults 132 = .ok (.iastore, 1) := by decide +kernel
theorem dX1_defaults_133 : decode cX1_defaults 133 = .ok (.return_, 1) := by decide +kernel
def m_defaults_113 (σ : MEM) (x1 : Int) : Option zm_O := bd (m_value σ) (fun r1 σ2 => ck (0 ≤ x1 ∧ x1 < 1600) (nu (mup σ2 44 x1 r1) (fun σ4 => ck (0 ≤ x1 ∧ x1 < 1600) (nu (mup σ4 45 x1 (σ4 (-1) 51)) (fun σ6 => some (0, σ6))))))
theorem w_defaults_113 {C : zv_Cx zm_O} {G : zm_G} (h : zv_Ok C cX1_defaults RX1) (hc : zm_C C G 2 (Option.none : Option FieldType) 0 4 94) (σ : MEM) (x1 : Int) (hx1 : inR x1) : VV C (m_defaults_113 σ x1) σ [(0, .ref (zm_h G)), (1, iv x1)] [] 113 := by
  have hN : ∀ i, i < 2 → i < zv_n C := fun i q => by rw [hc.2.2.1]; exact q
  unfold m_defaults_113
  refine r_aload_n h 0 dX1_defaults_113 rfl rfl ?_
  refine zm_getA h hc 44 (by decide) rfl q1524 rfl dX1_defaults_114 ?_
  refine r_iload_n h 1 dX1_defaults_117 rfl rfl ?_
  refine r_aload_n h 0 dX1_defaults_118 rfl rfl ?_
  refine zm_cVi h hc (n := 0) (As := []) (fun o1 e1 => w_value hc.1 _ o1 e1) q1942 q1944 qs82 q136 q1945 (by decide +kernel) ⟨by decide, by decide⟩ rfl (Nat.le_of_ble_eq_true rfl) rfl dX1_defaults_119 (fun r1 σ2 hr3 => ?_)
  refine zm_stI h hc 44 44 1600 (by decide) rfl rfl rfl (by decide) hr3 dX1_defaults_122 (fun _ σ4 _ => ?_)
  refine r_aload_n h 0 dX1_defaults_123 rfl rfl ?_
  refine zm_getA h hc 45 (by decide) rfl q1525 rfl dX1_defaults_124 ?_
  refine r_iload_n h 1 dX1_defaults_127 rfl rfl ?_
  refine r_aload_n h 0 dX1_defaults_128 rfl rfl ?_
  refine zm_getI h hc 51 51 (by decide) rfl rfl q1531 rfl dX1_defaults_129 (fun hr5 => ?_)
  refine zm_stI h hc 45 45 1600 (by decide) rfl rfl rfl (by decide) hr5 dX1_defaults_132 (fun _ σ6 _ => ?_)
  exact zm_vret h hc rfl dX1_defaults_133
def m_defaults (σ : MEM) (a0 : Int) : Option zm_O := bd (m_isGood σ) (fun r1 σ2 => if r1 = 0 then (some (0, σ2)) else (ck (0 ≤ a0 ∧ a0 < 1600) (nu (mup σ2 43 a0 3) (fun σ4 => bd (m_stands2 σ4 2545172955043287621 68 1) (fun r5 σ6 => if r5 = 0 then (bd (m_stands σ6 2542648471899948356 8) (fun r8 σ9 => if r8 = 0 then (bd (m_stands σ9 38784785204548 6) (fun r11 σ12 => if r11 = 0 then (m_defaults_113 σ12 a0) else (ck (inR ((σ12 (-1) 4) + 6)) (nu (mup σ12 (-1) 4 ((σ12 (-1) 4) + 6)) (fun σ16 => ck (0 ≤ a0 ∧ a0 < 1600) (nu (mup σ16 43 a0 2) (fun σ17 => bd (m_mustS σ17) (fun _ σ18 => m_defaults_113 σ18 a0)))))))) else (ck (inR ((σ9 (-1) 4) + 8)) (nu (mup σ9 (-1) 4 ((σ9 (-1) 4) + 8)) (fun σ21 => ck (0 ≤ a0 ∧ a0 < 1600) (nu (mup σ21 43 a0 1) (fun σ22 => some (0, σ22)))))))) else (ck (inR ((σ6 (-1) 4) + 9)) (nu (mup σ6 (-1) 4 ((σ6 (-1) 4) + 9)) (fun σ25 => ck (0 ≤ a0 ∧ a0 < 1600) (nu (mup σ25 43 a0 0) (fun σ26 => some (0, σ26)))))))))))
theorem w_defaults {G : zm_G} (hD : zm_D G) (σ : MEM) (a0 : Int) (ha0 : inR a0) (o : zm_O) (hd : m_defaults σ a0 = some o) : zm_Met G yX1_defaults cX1_defaults 2 (Option.none : Option FieldType) 0 4 94 σ [.ref (zm_h G), iv a0] o := by
  refine zm_intro hD hd (by decide) rfl (Nat.le_of_ble_eq_true rfl) rfl (fun C h hc => ?_)
  have hN : ∀ i, i < 2 → i < zv_n C := fun i q => by rw [hc.2.2.1]; exact q
  unfold m_defaults
  refine r_aload_n h 0 dX1_defaults_0 rfl rfl ?_
  refine zm_cVz h hc (n := 0) (As := []) (fun o1 e1 => w_isGood hc.1 _ o1 e1) q1801 q1803 qs56 q136 q1804 (by decide +kernel) ⟨by decide, by decide⟩ rfl (Nat.le_of_ble_eq_true rfl) rfl dX1_defaults_1 (fun r1 σ2 hr3 => ?_)
  refine r_if_ne h hr3.r 8 dX1_defaults_4 rfl ?_ ?_
  · exact zm_vret h hc rfl dX1_defaults_7
  · refine r_aload_n h 0 dX1_defaults_8 rfl rfl ?_
    refine zm_getA h hc 43 (by decide) rfl q1523 rfl dX1_defaults_9 ?_
    refine r_iload_n h 1 dX1_defaults_12 rfl rfl ?_
    refine r_iconst h dX1_defaults_13 ?_
    refine zm_stI h hc 43 43 1600 (by decide) rfl rfl rfl (by decide) (by decide) dX1_defaults_14 (fun _ σ4 _ => ?_)
    refine r_aload_n h 0 dX1_defaults_15 rfl rfl ?_
    refine r_ldc2 (x := 2545172955043287621) h q1938 (by decide) dX1_defaults_16 ?_
    refine r_ldc2 (x := 68) h q1939 (by decide) dX1_defaults_19 ?_
    refine r_iconst h dX1_defaults_22 ?_
    refine zm_cVz h hc (n := 3) (As := [jv 2545172955043287621, jv 68, iv 1]) (fun o1 e1 => w_stands2 hc.1 _ 2545172955043287621 68 1 (by decide) (by decide) (by decide) o1 e1) q1846 q1848 qs64 q136 q1849 (by decide +kernel) ⟨by decide, by decide⟩ rfl (Nat.le_of_ble_eq_true rfl) rfl dX1_defaults_23 (fun r5 σ6 hr7 => ?_)
    refine r_if_eq h hr7.r 48 dX1_defaults_26 rfl ?_ ?_
    · refine r_aload_n h 0 dX1_defaults_48 rfl rfl ?_
      refine r_ldc2 (x := 2542648471899948356) h q1940 (by decide) dX1_defaults_49 ?_
      refine r_bipush h dX1_defaults_52 (by decide) ?_
      refine zm_cVz h hc (n := 2) (As := [jv 2542648471899948356, iv 8]) (fun o1 e1 => w_stands hc.1 _ 2542648471899948356 8 (by decide) (by decide) o1 e1) q1825 q1827 qs61 q136 q1828 (by decide +kernel) ⟨by decide, by decide⟩ rfl (Nat.le_of_ble_eq_true rfl) rfl dX1_defaults_54 (fun r8 σ9 hr10 => ?_)
      refine r_if_eq h hr10.r 79 dX1_defaults_57 rfl ?_ ?_
      · refine r_aload_n h 0 dX1_defaults_79 rfl rfl ?_
        refine r_ldc2 (x := 38784785204548) h q1941 (by decide) dX1_defaults_80 ?_
        refine r_bipush h dX1_defaults_83 (by decide) ?_
        refine zm_cVz h hc (n := 2) (As := [jv 38784785204548, iv 6]) (fun o1 e1 => w_stands hc.1 _ 38784785204548 6 (by decide) (by decide) o1 e1) q1825 q1827 qs61 q136 q1828 (by decide +kernel) ⟨by decide, by decide⟩ rfl (Nat.le_of_ble_eq_true rfl) rfl dX1_defaults_85 (fun r11 σ12 hr13 => ?_)
        refine r_if_eq h hr13.r 113 dX1_defaults_88 rfl ?_ ?_
        · exact r_lv [0, 1] rfl (w_defaults_113 h hc _ a0 ha0)
        · refine r_aload_n h 0 dX1_defaults_91 rfl rfl ?_
          refine r_dup h dX1_defaults_92 rfl ?_
          refine zm_getI h hc 4 4 (by decide) rfl rfl q1484 rfl dX1_defaults_93 (fun hr14 => ?_)
          refine r_bipush h dX1_defaults_96 (by decide) ?_
          refine r_iadd h dX1_defaults_98 ?_
          refine r_ck (fun hk15 => ?_)
          refine zm_putI h hc 4 4 (by decide) rfl rfl q1484 ⟨rfl, rfl, by decide +kernel⟩ hk15 dX1_defaults_99 (fun σ16 _ => ?_)
          refine r_aload_n h 0 dX1_defaults_102 rfl rfl ?_
          refine zm_getA h hc 43 (by decide) rfl q1523 rfl dX1_defaults_103 ?_
          refine r_iload_n h 1 dX1_defaults_106 rfl rfl ?_
          refine r_iconst h dX1_defaults_107 ?_
          refine zm_stI h hc 43 43 1600 (by decide) rfl rfl rfl (by decide) (by decide) dX1_defaults_108 (fun _ σ17 _ => ?_)
          refine r_aload_n h 0 dX1_defaults_109 rfl rfl ?_
          refine zm_cVv h hc (n := 0) (As := []) (fun o1 e1 => w_mustS hc.1 _ o1 e1) q1854 q1856 qs66 q136 q1857 (by decide +kernel) ⟨by decide, by decide⟩ rfl (Nat.le_of_ble_eq_true rfl) rfl dX1_defaults_110 (fun σ18  => ?_)
          exact r_lv [0, 1] rfl (w_defaults_113 h hc _ a0 ha0)
      · refine r_aload_n h 0 dX1_defaults_60 rfl rfl ?_
        refine r_dup h dX1_defaults_61 rfl ?_
        refine zm_getI h hc 4 4 (by decide) rfl rfl q1484 rfl dX1_defaults_62 (fun hr19 => ?_)
        refine r_bipush h dX1_defaults_65 (by decide) ?_
        refine r_iadd h dX1_defaults_67 ?_
        refine r_ck (fun hk20 => ?_)
        refine zm_putI h hc 4 4 (by decide) rfl rfl q1484 ⟨rfl, rfl, by decide +kernel⟩ hk20 dX1_defaults_68 (fun σ21 _ => ?_)
        refine r_aload_n h 0 dX1_defaults_71 rfl rfl ?_
        refine zm_getA h hc 43 (by decide) rfl q1523 rfl dX1_defaults_72 ?_
        refine r_iload_n h 1 dX1_defaults_75 rfl rfl ?_
        refine r_iconst h dX1_defaults_76 ?_
        refine zm_stI h hc 43 43 1600 (by decide) rfl rfl rfl (by decide) (by decide) dX1_defaults_77 (fun _ σ22 _ => ?_)
        exact zm_vret h hc rfl dX1_defaults_78
    · refine r_aload_n h 0 dX1_defaults_29 rfl rfl ?_
      refine r_dup h dX1_defaults_30 rfl ?_
      refine zm_getI h hc 4 4 (by decide) rfl rfl q1484 rfl dX1_defaults_31 (fun hr23 => ?_)
      refine r_bipush h dX1_defaults_34 (by decide) ?_
      refine r_iadd h dX1_defaults_36 ?_
      refine r_ck (fun hk24 => ?_)
      refine zm_putI h hc 4 4 (by decide) rfl rfl q1484 ⟨rfl, rfl, by decide +kernel⟩ hk24 dX1_defaults_37 (fun σ25 _ => ?_)
      refine r_aload_n h 0 dX1_defaults_40 rfl rfl ?_
      refine zm_getA h hc 43 (by decide) rfl q1523 rfl dX1_defaults_41 ?_
      refine r_iload_n h 1 dX1_defaults_44 rfl rfl ?_
      refine r_iconst h dX1_defaults_45 ?_
      refine zm_stI h hc 43 43 1600 (by decide) rfl rfl rfl (by decide) (by decide) dX1_defaults_46 (fun _ σ26 _ => ?_)
      exact zm_vret h hc rfl dX1_defaults_47
theorem dX1_rule_0 : decode cX1_rule 0 = .ok (.aload_n 0, 1) := by decide +kernel
theorem dX1_rule_1 : decode cX1_rule 1 = .ok (.invokevirtual 351, 3) := by decide +kernel
theorem dX1_rule_4 : decode cX1_rule 4 = .ok (.istore_n 3, 1) := by decide +kernel
theorem dX1_rule_5 : decode cX1_rule 5 = .ok (.aload_n 0, 1) := by decide +kernel
theorem dX1_rule_6 : decode cX1_rule 6 = .ok (.getfield 306, 3) := by decide +kernel
theorem dX1_rule_9 : decode cX1_rule 9 = .ok (.istore 4, 2) := by decide +kernel
theorem dX1_rule_11 : decode cX1_rule 11 = .ok (.aload_n 0, 1) := by decide +kernel
theorem dX1_rule_12 : decode cX1_rule 12 = .ok (.invokevirtual 289, 3) := by decide +kernel
theorem dX1_rule_15 : decode cX1_rule 15 = .ok (.ifCond .ne 4, 3) := by decide +kernel
theorem dX1_rule_18 : decode cX1_rule 18 = .ok (.return_, 1) := by decide +kernel
theorem dX1_rule_19 : decode cX1_rule 19 = .ok (.aload_n 0, 1) := by decide +kernel
theorem dX1_rule_20 : decode cX1_rule 20 = .ok (.iload_n 1, 1) := by decide +kernel
theorem dX1_rule_21 : decode cX1_rule 21 = .ok (.iload_n 2, 1) := by decide +kernel
theorem dX1_rule_22 : decode cX1_rule 22 = .ok (.sipush 6000, 3) := by decide +kernel
theorem dX1_rule_25 : decode cX1_rule 25 = .ok (.aload_n 0, 1) := by decide +kernel
theorem dX1_rule_26 : decode cX1_rule 26 = .ok (.getfield 328, 3) := by decide +kernel
theorem dX1_rule_29 : decode cX1_rule 29 = .ok (.imul, 1) := by decide +kernel
theorem dX1_rule_30 : decode cX1_rule 30 = .ok (.iload_n 3, 1) := by decide +kernel
theorem dX1_rule_31 : decode cX1_rule 31 = .ok (.iadd, 1) := by decide +kernel
theorem dX1_rule_32 : decode cX1_rule 32 = .ok (.iload 4, 2) := by decide +kernel
theorem dX1_rule_34 : decode cX1_rule 34 = .ok (.invokevirtual 419, 3) := by decide +kernel
theorem dX1_rule_37 : decode cX1_rule 37 = .ok (.istore 5, 2) := by decide +kernel
theorem dX1_rule_39 : decode cX1_rule 39 = .ok (.iload 5, 2) := by decide +kernel
theorem dX1_rule_41 : decode cX1_rule 41 = .ok (.ifCond .ne 20, 3) := by decide +kernel
theorem dX1_rule_44 : decode cX1_rule 44 = .ok (.aload_n 0, 1) := by decide +kernel
theorem dX1_rule_45 : decode cX1_rule 45 = .ok (.getfield 409, 3) := by decide +kernel
theorem dX1_rule_48 : decode cX1_rule 48 = .ok (.bipush 10, 2) := by decide +kernel
theorem dX1_rule_50 : decode cX1_rule 50 = .ok (.if_icmp .ne 11, 3) := by decide +kernel
theorem dX1_rule_53 : decode cX1_rule 53 = .ok (.aload_n 0, 1) := by decide +kernel
theorem dX1_rule_54 : decode cX1_rule 54 = .ok (.bipush (-3), 2) := by decide +kernel
theorem dX1_rule_56 : decode cX1_rule 56 = .ok (.iload_n 3, 1) := by decide +kernel
theorem dX1_rule_57 : decode cX1_rule 57 = .ok (.invokevirtual 293, 3) := by decide +kernel
theorem dX1_rule_60 : decode cX1_rule 60 = .ok (.return_, 1) := by decide +kernel
theorem dX1_rule_61 : decode cX1_rule 61 = .ok (.sipush 800, 3) := by decide +kernel
theorem dX1_rule_64 : decode cX1_rule 64 = .ok (.aload_n 0, 1) := by decide +kernel
theorem dX1_rule_65 : decode cX1_rule 65 = .ok (.getfield 328, 3) := by decide +kernel
theorem dX1_rule_68 : decode cX1_rule 68 = .ok (.imul, 1) := by decide +kernel
theorem dX1_rule_69 : decode cX1_rule 69 = .ok (.iload 5, 2) := by decide +kernel
theorem dX1_rule_71 : decode cX1_rule 71 = .ok (.ifCond .eq 9, 3) := by decide +kernel
theorem dX1_rule_74 : decode cX1_rule 74 = .ok (.sipush 799, 3) := by decide +kernel
theorem dX1_rule_77 : decode cX1_rule 77 = .ok (.goto 12, 3) := by decide +kernel
theorem dX1_rule_80 : decode cX1_rule 80 = .ok (.aload_n 0, 1) := by decide +kernel
theorem dX1_rule_81 : decode cX1_rule 81 = .ok (.getfield 104, 3) := by decide +kernel
theorem dX1_rule_84 : decode cX1_rule 84 = .ok (.aload_n 0, 1) := by decide +kernel
theorem dX1_rule_85 : decode cX1_rule 85 = .ok (.getfield 328, 3) := by decide +kernel
theorem dX1_rule_88 : decode cX1_rule 88 = .ok (.iaload, 1) := by decide +kernel
theorem dX1_rule_89 : decode cX1_rule 89 = .ok (.iadd, 1) := by decide +kernel
theorem dX1_rule_90 : decode cX1_rule 90 = .ok (.istore 6, 2) := by decide +kernel
theorem dX1_rule_92 : decode cX1_rule 92 = .ok (.aload_n 0, 1) := by decide +kernel
theorem dX1_rule_93 : decode cX1_rule 93 = .ok (.getfield 107, 3) := by decide +kernel
theorem dX1_rule_96 : decode cX1_rule 96 = .ok (.iload 6, 2) := by decide +kernel
theorem dX1_rule_98 : decode cX1_rule 98 = .ok (.iload_n 1, 1) := by decide +kernel
theorem dX1_rule_99 : decode cX1_rule 99 = .ok (.iastore, 1) := by decide +kernel
theorem dX1_rule_100 : decode cX1_rule 100 = .ok (.aload_n 0, 1) := by decide +kernel
theorem dX1_rule_101 : decode cX1_rule 101 = .ok (.getfield 110, 3) := by decide +kernel
theorem dX1_rule_104 : decode cX1_rule 104 = .ok (.iload 6, 2) := by decide +kernel
theorem dX1_rule_106 : decode cX1_rule 106 = .ok (.iload_n 2, 1) := by decide +kernel
theorem dX1_rule_107 : decode cX1_rule 107 = .ok (.iastore, 1) := by decide +kernel
theorem dX1_rule_108 : decode cX1_rule 108 = .ok (.aload_n 0, 1) := by decide +kernel
theorem dX1_rule_109 : decode cX1_rule 109 = .ok (.getfield 113, 3) := by decide +kernel
theorem dX1_rule_112 : decode cX1_rule 112 = .ok (.iload 6, 2) := by decide +kernel
theorem dX1_rule_114 : decode cX1_rule 114 = .ok (.sipush 6000, 3) := by decide +kernel
theorem dX1_rule_117 : decode cX1_rule 117 = .ok (.aload_n 0, 1) := by decide +kernel
theorem dX1_rule_118 : decode cX1_rule 118 = .ok (.getfield 328, 3) := by decide +kernel
theorem dX1_rule_121 : decode cX1_rule 121 = .ok (.imul, 1) := by decide +kernel
theorem dX1_rule_122 : decode cX1_rule 122 = .ok (.iload_n 3, 1) := by decide +kernel
theorem dX1_rule_123 : decode cX1_rule 123 = .ok (.iadd, 1) := by decide +kernel
theorem dX1_rule_124 : decode cX1_rule 124 = .ok (.iastore, 1) := by decide +kernel
theorem dX1_rule_125 : decode cX1_rule 125 = .ok (.aload_n 0, 1) := by decide +kernel
theorem dX1_rule_126 : decode cX1_rule 126 = .ok (.getfield 116, 3) := by decide +kernel
theorem dX1_rule_129 : decode cX1_rule 129 = .ok (.iload 6, 2) := by decide +kernel
theorem dX1_rule_131 : decode cX1_rule 131 = .ok (.iload 4, 2) := by decide +kernel
theorem dX1_rule_133 : decode cX1_rule 133 = .ok (.iastore, 1) := by decide +kernel
theorem dX1_rule_134 : decode cX1_rule 134 = .ok (.aload_n 0, 1) := by decide +kernel
theorem dX1_rule_135 : decode cX1_rule 135 = .ok (.getfield 131, 3) := by decide +kernel
theorem dX1_rule_138 : decode cX1_rule 138 = .ok (.iload 6, 2) := by decide +kernel
theorem dX1_rule_140 : decode cX1_rule 140 = .ok (.iconst 0, 1) := by decide +kernel
theorem dX1_rule_141 : decode cX1_rule 141 = .ok (.iastore, 1) := by decide +kernel
theorem dX1_rule_142 : decode cX1_rule 142 = .ok (.aload_n 0, 1) := by decide +kernel
theorem dX1_rule_143 : decode cX1_rule 143 = .ok (.invokevirtual 348, 3) := by decide +kernel
theorem dX1_rule_146 : decode cX1_rule 146 = .ok (.aload_n 0, 1) := by decide +kernel
theorem dX1_rule_147 : decode cX1_rule 147 = .ok (.invokevirtual 289, 3) := by decide +kernel
theorem dX1_rule_150 : decode cX1_rule 150 = .ok (.ifCond .eq 35, 3) := by decide +kernel
theorem dX1_rule_153 : decode cX1_rule 153 = .ok (.aload_n 0, 1) := by decide +kernel
theorem dX1_rule_154 : decode cX1_rule 154 = .ok (.ldc2_w 422, 3) := by decide +kernel
theorem dX1_rule_157 : decode cX1_rule 157 = .ok (.iconst 5, 1) := by decide +kernel
theorem dX1_rule_158 : decode cX1_rule 158 = .ok (.invokevirtual 285, 3) := by decide +kernel
theorem dX1_rule_161 : decode cX1_rule 161 = .ok (.ifCond .eq 24, 3) := by decide +kernel
theorem dX1_rule_164 : decode cX1_rule 164 = .ok (.aload_n 0, 1) := by decide +kernel
theorem dX1_rule_165 : decode cX1_rule 165 = .ok (.dup, 1) := by decide +kernel
theorem dX1_rule_166 : decode cX1_rule 166 = .ok (.getfield 276, 3) := by decide +kernel
theorem dX1_rule_169 : decode cX1_rule 169 = .ok (.iconst 5, 1) := by decide +kernel
theorem dX1_rule_170 : decode cX1_rule 170 = .ok (.iadd, 1) := by decide +kernel
theorem dX1_rule_171 : decode cX1_rule 171 = .ok (.putfield 276, 3) := by decide +kernel
theorem dX1_rule_174 : decode cX1_rule 174 = .ok (.aload_n 0, 1) := by decide +kernel
theorem dX1_rule_175 : decode cX1_rule 175 = .ok (.getfield 119, 3) := by decide +kernel
theorem dX1_rule_178 : decode cX1_rule 178 = .ok (.iload 6, 2) := by decide +kernel
theorem dX1_rule_180 : decode cX1_rule 180 = .ok (.iconst 0, 1) := by decide +kernel
theorem dX1_rule_181 : decode cX1_rule 181 = .ok (.iastore, 1) := by decide +kernel
theorem dX1_rule_182 : decode cX1_rule 182 = .ok (.goto 65, 3) := by decide +kernel
theorem dX1_rule_185 : decode cX1_rule 185 = .ok (.aload_n 0, 1) := by decide +kernel
theorem dX1_rule_186 : decode cX1_rule 186 = .ok (.invokevirtual 289, 3) := by decide +kernel
theorem dX1_rule_189 : decode cX1_rule 189 = .ok (.ifCond .eq 35, 3) := by decide +kernel
theorem dX1_rule_192 : decode cX1_rule 192 = .ok (.aload_n 0, 1) := by decide +kernel
theorem dX1_rule_193 : decode cX1_rule 193 = .ok (.ldc2_w 424, 3) := by decide +kernel
theorem dX1_rule_196 : decode cX1_rule 196 = .ok (.iconst 2, 1) := by decide +kernel
theorem dX1_rule_197 : decode cX1_rule 197 = .ok (.invokevirtual 285, 3) := by decide +kernel
theorem dX1_rule_200 : decode cX1_rule 200 = .ok (.ifCond .eq 24, 3) := by decide +kernel
theorem dX1_rule_203 : decode cX1_rule 203 = .ok (.aload_n 0, 1) := by decide +kernel
theorem dX1_rule_204 : decode cX1_rule 204 = .ok (.dup, 1) := by decide +kernel
theorem dX1_rule_205 : decode cX1_rule 205 = .ok (.getfield 276, 3) := by decide +kernel
theorem dX1_rule_208 : decode cX1_rule 208 = .ok (.iconst 2, 1) := by decide +kernel
theorem dX1_rule_209 : decode cX1_rule 209 = .ok (.iadd, 1) := by decide +kernel
theorem dX1_rule_210 : decode cX1_rule 210 = .ok (.putfield 276, 3) := by decide +kernel
theorem dX1_rule_213 : decode cX1_rule 213 = .ok (.aload_n 0, 1) := by decide +kernel
theorem dX1_rule_214 : decode cX1_rule 214 = .ok (.getfield 119, 3) := by decide +kernel
theorem dX1_rule_217 : decode cX1_rule 217 = .ok (.iload 6, 2) := by decide +kernel
theorem dX1_rule_219 : decode cX1_rule 219 = .ok (.iconst 1, 1) := by decide +kernel
theorem dX1_rule_220 : decode cX1_rule 220 = .ok (.iastore, 1) := by decide +kernel
theorem dX1_rule_221 : decode cX1_rule 221 = .ok (.goto 26, 3) := by decide +kernel
theorem dX1_rule_224 : decode cX1_rule 224 = .ok (.aload_n 0, 1) := by decide +kernel
theorem dX1_rule_225 : decode cX1_rule 225 = .ok (.bipush 40, 2) := by decide +kernel
theorem dX1_rule_227 : decode cX1_rule 227 = .ok (.invokevirtual 340, 3) := by decide +kernel
theorem dX1_rule_230 : decode cX1_rule 230 = .ok (.ifCond .eq 17, 3) := by decide +kernel
theorem dX1_rule_233 : decode cX1_rule 233 = .ok (.aload_n 0, 1) := by decide +kernel
theorem dX1_rule_234 : decode cX1_rule 234 = .ok (.getfield 119, 3) := by decide +kernel
theorem dX1_rule_237 : decode cX1_rule 237 = .ok (.iload 6, 2) := by decide +kernel
theorem dX1_rule_239 : decode cX1_rule 239 = .ok (.iconst 2, 1) := by decide +kernel
theorem dX1_rule_240 : decode cX1_rule 240 = .ok (.iastore, 1) := by decide +kernel
theorem dX1_rule_241 : decode cX1_rule 241 = .ok (.aload_n 0, 1) := by decide +kernel
theorem dX1_rule_242 : decode cX1_rule 242 = .ok (.iload 6, 2) := by decide +kernel
theorem dX1_rule_244 : decode cX1_rule 244 = .ok (.invokevirtual 426, 3) := by decide +kernel
theorem dX1_rule_247 : decode cX1_rule 247 = .ok (.aload_n 0, 1) := by decide +kernel
theorem dX1_rule_248 : decode cX1_rule 248 = .ok (.invokevirtual 348, 3) := by decide +kernel
theorem dX1_rule_251 : decode cX1_rule 251 = .ok (.aload_n 0, 1) := by decide +kernel
theorem dX1_rule_252 : decode cX1_rule 252 = .ok (.iload 6, 2) := by decide +kernel
theorem dX1_rule_254 : decode cX1_rule 254 = .ok (.invokevirtual 429, 3) := by decide +kernel
theorem dX1_rule_257 : decode cX1_rule 257 = .ok (.aload_n 0, 1) := by decide +kernel
theorem dX1_rule_258 : decode cX1_rule 258 = .ok (.invokevirtual 289, 3) := by decide +kernel
theorem dX1_rule_261 : decode cX1_rule 261 = .ok (.ifCond .eq 70, 3) := by decide +kernel
theorem dX1_rule_264 : decode cX1_rule 264 = .ok (.iload 5, 2) := by decide +kernel
theorem dX1_rule_266 : decode cX1_rule 266 = .ok (.ifCond .ne 65, 3) := by decide +kernel
theorem dX1_rule_269 : decode cX1_rule 269 = .ok (.aload_n 0, 1) := by decide +kernel
theorem dX1_rule_270 : decode cX1_rule 270 = .ok (.getfield 140, 3) := by decide +kernel
theorem dX1_rule_273 : decode cX1_rule 273 = .ok (.sipush 850, 3) := by decide +kernel
theorem dX1_rule_276 : decode cX1_rule 276 = .ok (.aload_n 0, 1) := by decide +kernel
theorem dX1_rule_277 : decode cX1_rule 277 = .ok (.getfield 328, 3) := by decide +kernel
theorem dX1_rule_280 : decode cX1_rule 280 = .ok (.imul, 1) := by decide +kernel
theorem dX1_rule_281 : decode cX1_rule 281 = .ok (.aload_n 0, 1) := by decide +kernel
theorem dX1_rule_282 : decode cX1_rule 282 = .ok (.getfield 143, 3) := by decide +kernel
theorem dX1_rule_285 : decode cX1_rule 285 = .ok (.aload_n 0, 1) := by decide +kernel
theorem dX1_rule_286 : decode cX1_rule 286 = .ok (.getfield 328, 3) := by decide +kernel
theorem dX1_rule_289 : decode cX1_rule 289 = .ok (.iaload, 1) := by decide +kernel
theorem dX1_rule_290 : decode cX1_rule 290 = .ok (.iadd, 1) := by decide +kernel
theorem dX1_rule_291 : decode cX1_rule 291 = .ok (.iconst 2, 1) := by decide +kernel
theorem dX1_rule_292 : decode cX1_rule 292 = .ok (.aload_n 0, 1) := by decide +kernel
theorem dX1_rule_293 : decode cX1_rule 293 = .ok (.getfield 104, 3) := by decide +kernel
theorem dX1_rule_296 : decode cX1_rule 296 = .ok (.aload_n 0, 1) := by decide +kernel
theorem dX1_rule_297 : decode cX1_rule 297 = .ok (.getfield 328, 3) := by decide +kernel
theorem dX1_rule_300 : decode cX1_rule 300 = .ok (.iaload, 1) := by decide +kernel
theorem dX1_rule_301 : decode cX1_rule 301 = .ok (.imul, 1) := by decide +kernel
theorem dX1_rule_302 : decode cX1_rule 302 = .ok (.iconst 1, 1) := by decide +kernel
theorem dX1_rule_303 : decode cX1_rule 303 = .ok (.iadd, 1) := by decide +kernel
theorem dX1_rule_304 : decode cX1_rule 304 = .ok (.iastore, 1) := by decide +kernel
theorem dX1_rule_305 : decode cX1_rule 305 = .ok (.aload_n 0, 1) := by decide +kernel
theorem dX1_rule_306 : decode cX1_rule 306 = .ok (.getfield 143, 3) := by decide +kernel
theorem dX1_rule_309 : decode cX1_rule 309 = .ok (.aload_n 0, 1) := by decide +kernel
theorem dX1_rule_310 : decode cX1_rule 310 = .ok (.getfield 328, 3) := by decide +kernel
theorem dX1_rule_313 : decode cX1_rule 313 = .ok (.dup2, 1) := by decide +kernel
theorem dX1_rule_314 : decode cX1_rule 314 = .ok (.iaload, 1) := by decide +kernel
theorem dX1_rule_315 : decode cX1_rule 315 = .ok (.iconst 1, 1) := by decide +kernel
theorem dX1_rule_316 : decode cX1_rule 316 = .ok (.iadd, 1) := by decide +kernel
theorem dX1_rule_317 : decode cX1_rule 317 = .ok (.iastore, 1) := by decide +kernel
theorem dX1_rule_318 : decode cX1_rule 318 = .ok (.aload_n 0, 1) := by decide +kernel
theorem dX1_rule_319 : decode cX1_rule 319 = .ok (.getfield 104, 3) := by decide +kernel
theorem dX1_rule_322 : decode cX1_rule 322 = .ok (.aload_n 0, 1) := by decide +kernel
theorem dX1_rule_323 : decode cX1_rule 323 = .ok (.getfield 328, 3) := by decide +kernel
theorem dX1_rule_326 : decode cX1_rule 326 = .ok (.dup2, 1) := by decide +kernel
theorem dX1_rule_327 : decode cX1_rule 327 = .ok (.iaload, 1) := by decide +kernel
theorem dX1_rule_328 : decode cX1_rule 328 = .ok (.iconst 1, 1) := by decide +kernel
theorem dX1_rule_329 : decode cX1_rule 329 = .ok (.iadd, 1) := by decide +kernel
theorem dX1_rule_330 : decode cX1_rule 330 = .ok (.iastore, 1) := by decide +kernel
theorem dX1_rule_331 : decode cX1_rule 331 = .ok (.return_, 1) := by decide +kernel
def m_rule_247 (σ : MEM) (x5 x6 : Int) : Option zm_O := bd (m_mustS σ) (fun _ σ1 => bd (m_defaults σ1 x6) (fun _ σ2 => bd (m_isGood σ2) (fun r3 σ4 => if r3 = 0 then (some (0, σ4)) else (if x5 = 0 then (ck (0 ≤ (σ4 (-1) 8) ∧ (σ4 (-1) 8) < 2) (ck (0 ≤ (σ4 (-1) 8) ∧ (σ4 (-1) 8) < 2) (ck (inR ((2 * (σ4 37 (σ4 (-1) 8))) + 1)) (ck (0 ≤ ((850 * (σ4 (-1) 8)) + (σ4 50 (σ4 (-1) 8))) ∧ ((850 * (σ4 (-1) 8)) + (σ4 50 (σ4 (-1) 8))) < 1700) (nu (mup σ4 49 ((850 * (σ4 (-1) 8)) + (σ4 50 (σ4 (-1) 8))) ((2 * (σ4 37 (σ4 (-1) 8))) + 1)) (fun σ12 => ck (0 ≤ (σ12 (-1) 8) ∧ (σ12 (-1) 8) < 2) (ck (inR ((σ12 50 (σ12 (-1) 8)) + 1)) (ck (0 ≤ (σ12 (-1) 8) ∧ (σ12 (-1) 8) < 2) (nu (mup σ12 50 (σ12 (-1) 8) ((σ12 50 (σ12 (-1) 8)) + 1)) (fun σ16 => ck (0 ≤ (σ16 (-1) 8) ∧ (σ16 (-1) 8) < 2) (ck (inR ((σ16 37 (σ16 (-1) 8)) + 1)) (ck (0 ≤ (σ16 (-1) 8) ∧ (σ16 (-1) 8) < 2) (nu (mup σ16 37 (σ16 (-1) 8) ((σ16 37 (σ16 (-1) 8)) + 1)) (fun σ20 => some (0, σ20))))))))))))))) else (some (0, σ4))))))
theorem w_rule_247 {C : zv_Cx zm_O} {G : zm_G} (h : zv_Ok C cX1_rule RX1) (hc : zm_C C G 7 (Option.none : Option FieldType) 0 5 115) (σ : MEM) (x5 x6 : Int) (hx5 : isB x5) (hx6 : inR x6) : VV C (m_rule_247 σ x5 x6) σ [(0, .ref (zm_h G)), (5, iv x5), (6, iv x6)] [] 247 := by
  have hN : ∀ i, i < 7 → i < zv_n C := fun i q => by rw [hc.2.2.1]; exact q
  unfold m_rule_247
  refine r_aload_n h 0 dX1_rule_247 rfl rfl ?_
  refine zm_cVv h hc (n := 0) (As := []) (fun o1 e1 => w_mustS hc.1 _ o1 e1) q1854 q1856 qs66 q136 q1857 (by decide +kernel) ⟨by decide, by decide⟩ rfl (Nat.le_of_ble_eq_true rfl) rfl dX1_rule_248 (fun σ1  => ?_)
  refine r_aload_n h 0 dX1_rule_251 rfl rfl ?_
  refine r_iload h 2 dX1_rule_252 rfl ?_
  refine zm_cVv h hc (n := 1) (As := [iv x6]) (fun o1 e1 => w_defaults hc.1 _ x6 hx6 o1 e1) q1934 q1936 qs81 q136 q1937 (by decide +kernel) ⟨by decide, by decide⟩ rfl (Nat.le_of_ble_eq_true rfl) rfl dX1_rule_254 (fun σ2  => ?_)
  refine r_aload_n h 0 dX1_rule_257 rfl rfl ?_
  refine zm_cVz h hc (n := 0) (As := []) (fun o1 e1 => w_isGood hc.1 _ o1 e1) q1801 q1803 qs56 q136 q1804 (by decide +kernel) ⟨by decide, by decide⟩ rfl (Nat.le_of_ble_eq_true rfl) rfl dX1_rule_258 (fun r3 σ4 hr5 => ?_)
  refine r_if_eq h hr5.r 331 dX1_rule_261 rfl ?_ ?_
  · exact zm_vret h hc rfl dX1_rule_331
  · refine r_iload h 1 dX1_rule_264 rfl ?_
    refine r_if_ne h hx5.r 331 dX1_rule_266 rfl ?_ ?_
    · refine r_aload_n h 0 dX1_rule_269 rfl rfl ?_
      refine zm_getA h hc 49 (by decide) rfl q1529 rfl dX1_rule_270 ?_
      refine r_sipush h dX1_rule_273 (by decide) ?_
      refine r_aload_n h 0 dX1_rule_276 rfl rfl ?_
      refine zm_getI h hc 8 8 (by decide) rfl rfl q1488 rfl dX1_rule_277 (fun hr6 => ?_)
      refine r_imul h dX1_rule_280 ?_
      refine r_aload_n h 0 dX1_rule_281 rfl rfl ?_
      refine zm_getA h hc 50 (by decide) rfl q1530 rfl dX1_rule_282 ?_
      refine r_aload_n h 0 dX1_rule_285 rfl rfl ?_
      refine zm_getI h hc 8 8 (by decide) rfl rfl q1488 rfl dX1_rule_286 (fun hr7 => ?_)
      refine zm_ldI h hc 50 50 2 (by decide) rfl rfl rfl (by decide) dX1_rule_289 (fun _ hr8 => ?_)
      refine r_iadd h dX1_rule_290 ?_
      refine r_iconst h dX1_rule_291 ?_
      refine r_aload_n h 0 dX1_rule_292 rfl rfl ?_
      refine zm_getA h hc 37 (by decide) rfl q1517 rfl dX1_rule_293 ?_
      refine r_aload_n h 0 dX1_rule_296 rfl rfl ?_
      refine zm_getI h hc 8 8 (by decide) rfl rfl q1488 rfl dX1_rule_297 (fun hr9 => ?_)
      refine zm_ldI h hc 37 37 2 (by decide) rfl rfl rfl (by decide) dX1_rule_300 (fun _ hr10 => ?_)
      refine r_imul h dX1_rule_301 ?_
      refine r_iconst h dX1_rule_302 ?_
      refine r_iadd h dX1_rule_303 ?_
      refine r_ck (fun hk11 => ?_)
      refine zm_stI h hc 49 49 1700 (by decide) rfl rfl rfl (by decide) hk11 dX1_rule_304 (fun _ σ12 _ => ?_)
      refine r_aload_n h 0 dX1_rule_305 rfl rfl ?_
      refine zm_getA h hc 50 (by decide) rfl q1530 rfl dX1_rule_306 ?_
      refine r_aload_n h 0 dX1_rule_309 rfl rfl ?_
      refine zm_getI h hc 8 8 (by decide) rfl rfl q1488 rfl dX1_rule_310 (fun hr13 => ?_)
      refine r_dup2 h dX1_rule_313 rfl rfl ?_
      refine zm_ldI h hc 50 50 2 (by decide) rfl rfl rfl (by decide) dX1_rule_314 (fun _ hr14 => ?_)
      refine r_iconst h dX1_rule_315 ?_
      refine r_iadd h dX1_rule_316 ?_
      refine r_ck (fun hk15 => ?_)
      refine zm_stI h hc 50 50 2 (by decide) rfl rfl rfl (by decide) hk15 dX1_rule_317 (fun _ σ16 _ => ?_)
      refine r_aload_n h 0 dX1_rule_318 rfl rfl ?_
      refine zm_getA h hc 37 (by decide) rfl q1517 rfl dX1_rule_319 ?_
      refine r_aload_n h 0 dX1_rule_322 rfl rfl ?_
      refine zm_getI h hc 8 8 (by decide) rfl rfl q1488 rfl dX1_rule_323 (fun hr17 => ?_)
      refine r_dup2 h dX1_rule_326 rfl rfl ?_
      refine zm_ldI h hc 37 37 2 (by decide) rfl rfl rfl (by decide) dX1_rule_327 (fun _ hr18 => ?_)
      refine r_iconst h dX1_rule_328 ?_
      refine r_iadd h dX1_rule_329 ?_
      refine r_ck (fun hk19 => ?_)
      refine zm_stI h hc 37 37 2 (by decide) rfl rfl rfl (by decide) hk19 dX1_rule_330 (fun _ σ20 _ => ?_)
      exact zm_vret h hc rfl dX1_rule_331
    · exact zm_vret h hc rfl dX1_rule_331
def m_rule_224 (σ : MEM) (x5 x6 : Int) : Option zm_O := bd (m_passes σ 40) (fun r1 σ2 => if r1 = 0 then (m_rule_247 σ2 x5 x6) else (ck (0 ≤ x6 ∧ x6 < 1600) (nu (mup σ2 42 x6 2) (fun σ4 => bd (m_tokens σ4 x6) (fun _ σ5 => m_rule_247 σ5 x5 x6)))))
theorem w_rule_224 {C : zv_Cx zm_O} {G : zm_G} (h : zv_Ok C cX1_rule RX1) (hc : zm_C C G 7 (Option.none : Option FieldType) 0 5 115) (σ : MEM) (x5 x6 : Int) (hx5 : isB x5) (hx6 : inR x6) : VV C (m_rule_224 σ x5 x6) σ [(0, .ref (zm_h G)), (5, iv x5), (6, iv x6)] [] 224 := by
  have hN : ∀ i, i < 7 → i < zv_n C := fun i q => by rw [hc.2.2.1]; exact q
  unfold m_rule_224
  refine r_aload_n h 0 dX1_rule_224 rfl rfl ?_
  refine r_bipush h dX1_rule_225 (by decide) ?_
  refine zm_cVz h hc (n := 1) (As := [iv 40]) (fun o1 e1 => w_passes hc.1 _ 40 (by decide) o1 e1) q1840 q1842 qs63 q136 q1843 (by decide +kernel) ⟨by decide, by decide⟩ rfl (Nat.le_of_ble_eq_true rfl) rfl dX1_rule_227 (fun r1 σ2 hr3 => ?_)
  refine r_if_eq h hr3.r 247 dX1_rule_230 rfl ?_ ?_
  · exact r_lv [0, 1, 2] rfl (w_rule_247 h hc _ x5 x6 hx5 hx6)
  · refine r_aload_n h 0 dX1_rule_233 rfl rfl ?_
    refine zm_getA h hc 42 (by decide) rfl q1522 rfl dX1_rule_234 ?_
    refine r_iload h 2 dX1_rule_237 rfl ?_
    refine r_iconst h dX1_rule_239 ?_
    refine zm_stI h hc 42 42 1600 (by decide) rfl rfl rfl (by decide) (by decide) dX1_rule_240 (fun _ σ4 _ => ?_)
    refine r_aload_n h 0 dX1_rule_241 rfl rfl ?_
    refine r_iload h 2 dX1_rule_242 rfl ?_
    refine zm_cVv h hc (n := 1) (As := [iv x6]) (fun o1 e1 => w_tokens hc.1 _ x6 hx6 o1 e1) q1930 q1932 qs80 q136 q1933 (by decide +kernel) ⟨by decide, by decide⟩ rfl (Nat.le_of_ble_eq_true rfl) rfl dX1_rule_244 (fun σ5  => ?_)
    exact r_lv [0, 1, 2] rfl (w_rule_247 h hc _ x5 x6 hx5 hx6)
def m_rule_185 (σ : MEM) (x5 x6 : Int) : Option zm_O := bd (m_isGood σ) (fun r1 σ2 => if r1 = 0 then (m_rule_224 σ2 x5 x6) else (bd (m_stands σ2 18756 2) (fun r4 σ5 => if r4 = 0 then (m_rule_224 σ5 x5 x6) else (ck (inR ((σ5 (-1) 4) + 2)) (nu (mup σ5 (-1) 4 ((σ5 (-1) 4) + 2)) (fun σ9 => ck (0 ≤ x6 ∧ x6 < 1600) (nu (mup σ9 42 x6 1) (fun σ10 => m_rule_247 σ10 x5 x6))))))))
theorem w_rule_185 {C : zv_Cx zm_O} {G : zm_G} (h : zv_Ok C cX1_rule RX1) (hc : zm_C C G 7 (Option.none : Option FieldType) 0 5 115) (σ : MEM) (x5 x6 : Int) (hx5 : isB x5) (hx6 : inR x6) : VV C (m_rule_185 σ x5 x6) σ [(0, .ref (zm_h G)), (5, iv x5), (6, iv x6)] [] 185 := by
  have hN : ∀ i, i < 7 → i < zv_n C := fun i q => by rw [hc.2.2.1]; exact q
  unfold m_rule_185
  refine r_aload_n h 0 dX1_rule_185 rfl rfl ?_
  refine zm_cVz h hc (n := 0) (As := []) (fun o1 e1 => w_isGood hc.1 _ o1 e1) q1801 q1803 qs56 q136 q1804 (by decide +kernel) ⟨by decide, by decide⟩ rfl (Nat.le_of_ble_eq_true rfl) rfl dX1_rule_186 (fun r1 σ2 hr3 => ?_)
  refine r_if_eq h hr3.r 224 dX1_rule_189 rfl ?_ ?_
  · exact r_lv [0, 1, 2] rfl (w_rule_224 h hc _ x5 x6 hx5 hx6)
  · refine r_aload_n h 0 dX1_rule_192 rfl rfl ?_
    refine r_ldc2 (x := 18756) h q1929 (by decide) dX1_rule_193 ?_
    refine r_iconst h dX1_rule_196 ?_
    refine zm_cVz h hc (n := 2) (As := [jv 18756, iv 2]) (fun o1 e1 => w_stands hc.1 _ 18756 2 (by decide) (by decide) o1 e1) q1825 q1827 qs61 q136 q1828 (by decide +kernel) ⟨by decide, by decide⟩ rfl (Nat.le_of_ble_eq_true rfl) rfl dX1_rule_197 (fun r4 σ5 hr6 => ?_)
    refine r_if_eq h hr6.r 224 dX1_rule_200 rfl ?_ ?_
    · exact r_lv [0, 1, 2] rfl (w_rule_224 h hc _ x5 x6 hx5 hx6)
    · refine r_aload_n h 0 dX1_rule_203 rfl rfl ?_
      refine r_dup h dX1_rule_204 rfl ?_
      refine zm_getI h hc 4 4 (by decide) rfl rfl q1484 rfl dX1_rule_205 (fun hr7 => ?_)
      refine r_iconst h dX1_rule_208 ?_
      refine r_iadd h dX1_rule_209 ?_
      refine r_ck (fun hk8 => ?_)
      refine zm_putI h hc 4 4 (by decide) rfl rfl q1484 ⟨rfl, rfl, by decide +kernel⟩ hk8 dX1_rule_210 (fun σ9 _ => ?_)
      refine r_aload_n h 0 dX1_rule_213 rfl rfl ?_
      refine zm_getA h hc 42 (by decide) rfl q1522 rfl dX1_rule_214 ?_
      refine r_iload h 2 dX1_rule_217 rfl ?_
      refine r_iconst h dX1_rule_219 ?_
      refine zm_stI h hc 42 42 1600 (by decide) rfl rfl rfl (by decide) (by decide) dX1_rule_220 (fun _ σ10 _ => ?_)
      refine r_goto h 247 dX1_rule_221 rfl ?_
      exact r_lv [0, 1, 2] rfl (w_rule_247 h hc _ x5 x6 hx5 hx6)
def m_rule_89 (σ : MEM) (x1 x2 x3 x4 x5 s0 s1 : Int) : Option zm_O := ck (0 ≤ (s0 + s1) ∧ (s0 + s1) < 1600) (nu (mup σ 38 (s0 + s1) x1) (fun σ1 => ck (0 ≤ (s0 + s1) ∧ (s0 + s1) < 1600) (nu (mup σ1 39 (s0 + s1) x2) (fun σ2 => ck (inR ((6000 * (σ2 (-1) 8)) + x3)) (ck (0 ≤ (s0 + s1) ∧ (s0 + s1) < 1600) (nu (mup σ2 40 (s0 + s1) ((6000 * (σ2 (-1) 8)) + x3)) (fun σ5 => ck (0 ≤ (s0 + s1) ∧ (s0 + s1) < 1600) (nu (mup σ5 41 (s0 + s1) x4) (fun σ6 => ck (0 ≤ (s0 + s1) ∧ (s0 + s1) < 1600) (nu (mup σ6 46 (s0 + s1) 0) (fun σ7 => bd (m_mustS σ7) (fun _ σ8 => bd (m_isGood σ8) (fun r9 σ10 => if r9 = 0 then (ck (inR (s0 + s1)) (m_rule_185 σ10 x5 (s0 + s1))) else (bd (m_stands σ10 288907940929 5) (fun r13 σ14 => if r13 = 0 then (ck (inR (s0 + s1)) (m_rule_185 σ14 x5 (s0 + s1))) else (ck (inR ((σ14 (-1) 4) + 5)) (nu (mup σ14 (-1) 4 ((σ14 (-1) 4) + 5)) (fun σ19 => ck (0 ≤ (s0 + s1) ∧ (s0 + s1) < 1600) (nu (mup σ19 42 (s0 + s1) 0) (fun σ20 => ck (inR (s0 + s1)) (m_rule_247 σ20 x5 (s0 + s1))))))))))))))))))))))
theorem w_rule_89 {C : zv_Cx zm_O} {G : zm_G} (h : zv_Ok C cX1_rule RX1) (hc : zm_C C G 7 (Option.none : Option FieldType) 0 5 115) (σ : MEM) (x1 x2 x3 x4 x5 s0 s1 : Int) (hx1 : inR x1) (hx2 : inR x2) (hx3 : inR x3) (hx4 : inR x4) (hx5 : isB x5) (hs0 : inR s0) (hs1 : inR s1) : VV C (m_rule_89 σ x1 x2 x3 x4 x5 s0 s1) σ [(0, .ref (zm_h G)), (1, iv x1), (2, iv x2), (3, iv x3), (4, iv x4), (5, iv x5)] [iv s1, iv s0] 89 := by
  have hN : ∀ i, i < 7 → i < zv_n C := fun i q => by rw [hc.2.2.1]; exact q
  unfold m_rule_89
  refine r_iadd h dX1_rule_89 ?_
  refine r_istore (lv' := [(6, iv (s0 + s1)), (0, .ref (zm_h G)), (1, iv x1), (2, iv x2), (3, iv x3), (4, iv x4), (5, iv x5)]) h dX1_rule_90 (hN _ (by decide)) rfl ?_
  refine r_aload_n h 1 dX1_rule_92 rfl rfl ?_
  refine zm_getA h hc 38 (by decide) rfl q1518 rfl dX1_rule_93 ?_
  refine r_iload h 0 dX1_rule_96 rfl ?_
  refine r_iload_n h 2 dX1_rule_98 rfl rfl ?_
  refine zm_stI h hc 38 38 1600 (by decide) rfl rfl rfl (by decide) hx1 dX1_rule_99 (fun _ σ1 _ => ?_)
  refine r_aload_n h 1 dX1_rule_100 rfl rfl ?_
  refine zm_getA h hc 39 (by decide) rfl q1519 rfl dX1_rule_101 ?_
  refine r_iload h 0 dX1_rule_104 rfl ?_
  refine r_iload_n h 3 dX1_rule_106 rfl rfl ?_
  refine zm_stI h hc 39 39 1600 (by decide) rfl rfl rfl (by decide) hx2 dX1_rule_107 (fun _ σ2 _ => ?_)
  refine r_aload_n h 1 dX1_rule_108 rfl rfl ?_
  refine zm_getA h hc 40 (by decide) rfl q1520 rfl dX1_rule_109 ?_
  refine r_iload h 0 dX1_rule_112 rfl ?_
  refine r_sipush h dX1_rule_114 (by decide) ?_
  refine r_aload_n h 1 dX1_rule_117 rfl rfl ?_
  refine zm_getI h hc 8 8 (by decide) rfl rfl q1488 rfl dX1_rule_118 (fun hr3 => ?_)
  refine r_imul h dX1_rule_121 ?_
  refine r_iload_n h 4 dX1_rule_122 rfl rfl ?_
  refine r_iadd h dX1_rule_123 ?_
  refine r_ck (fun hk4 => ?_)
  refine zm_stI h hc 40 40 1600 (by decide) rfl rfl rfl (by decide) hk4 dX1_rule_124 (fun _ σ5 _ => ?_)
  refine r_aload_n h 1 dX1_rule_125 rfl rfl ?_
  refine zm_getA h hc 41 (by decide) rfl q1521 rfl dX1_rule_126 ?_
  refine r_iload h 0 dX1_rule_129 rfl ?_
  refine r_iload h 5 dX1_rule_131 rfl ?_
  refine zm_stI h hc 41 41 1600 (by decide) rfl rfl rfl (by decide) hx4 dX1_rule_133 (fun _ σ6 _ => ?_)
  refine r_aload_n h 1 dX1_rule_134 rfl rfl ?_
  refine zm_getA h hc 46 (by decide) rfl q1526 rfl dX1_rule_135 ?_
  refine r_iload h 0 dX1_rule_138 rfl ?_
  refine r_iconst h dX1_rule_140 ?_
  refine zm_stI h hc 46 46 1600 (by decide) rfl rfl rfl (by decide) (by decide) dX1_rule_141 (fun _ σ7 _ => ?_)
  refine r_aload_n h 1 dX1_rule_142 rfl rfl ?_
  refine zm_cVv h hc (n := 0) (As := []) (fun o1 e1 => w_mustS hc.1 _ o1 e1) q1854 q1856 qs66 q136 q1857 (by decide +kernel) ⟨by decide, by decide⟩ rfl (Nat.le_of_ble_eq_true rfl) rfl dX1_rule_143 (fun σ8  => ?_)
  refine r_aload_n h 1 dX1_rule_146 rfl rfl ?_
  refine zm_cVz h hc (n := 0) (As := []) (fun o1 e1 => w_isGood hc.1 _ o1 e1) q1801 q1803 qs56 q136 q1804 (by decide +kernel) ⟨by decide, by decide⟩ rfl (Nat.le_of_ble_eq_true rfl) rfl dX1_rule_147 (fun r9 σ10 hr11 => ?_)
  refine r_if_eq h hr11.r 185 dX1_rule_150 rfl ?_ ?_
  · refine r_ck (fun hk12 => ?_)
    exact r_lv [1, 6, 0] rfl (w_rule_185 h hc _ x5 (s0 + s1) hx5 hk12)
  · refine r_aload_n h 1 dX1_rule_153 rfl rfl ?_
    refine r_ldc2 (x := 288907940929) h q1928 (by decide) dX1_rule_154 ?_
    refine r_iconst h dX1_rule_157 ?_
    refine zm_cVz h hc (n := 2) (As := [jv 288907940929, iv 5]) (fun o1 e1 => w_stands hc.1 _ 288907940929 5 (by decide) (by decide) o1 e1) q1825 q1827 qs61 q136 q1828 (by decide +kernel) ⟨by decide, by decide⟩ rfl (Nat.le_of_ble_eq_true rfl) rfl dX1_rule_158 (fun r13 σ14 hr15 => ?_)
    refine r_if_eq h hr15.r 185 dX1_rule_161 rfl ?_ ?_
    · refine r_ck (fun hk16 => ?_)
      exact r_lv [1, 6, 0] rfl (w_rule_185 h hc _ x5 (s0 + s1) hx5 hk16)
    · refine r_aload_n h 1 dX1_rule_164 rfl rfl ?_
      refine r_dup h dX1_rule_165 rfl ?_
      refine zm_getI h hc 4 4 (by decide) rfl rfl q1484 rfl dX1_rule_166 (fun hr17 => ?_)
      refine r_iconst h dX1_rule_169 ?_
      refine r_iadd h dX1_rule_170 ?_
      refine r_ck (fun hk18 => ?_)
      refine zm_putI h hc 4 4 (by decide) rfl rfl q1484 ⟨rfl, rfl, by decide +kernel⟩ hk18 dX1_rule_171 (fun σ19 _ => ?_)
      refine r_aload_n h 1 dX1_rule_174 rfl rfl ?_
      refine zm_getA h hc 42 (by decide) rfl q1522 rfl dX1_rule_175 ?_
      refine r_iload h 0 dX1_rule_178 rfl ?_
      refine r_iconst h dX1_rule_180 ?_
      refine zm_stI h hc 42 42 1600 (by decide) rfl rfl rfl (by decide) (by decide) dX1_rule_181 (fun _ σ20 _ => ?_)
      refine r_goto h 247 dX1_rule_182 rfl ?_
      refine r_ck (fun hk21 => ?_)
      exact r_lv [1, 6, 0] rfl (w_rule_247 h hc _ x5 (s0 + s1) hx5 hk21)
def m_rule_61 (σ : MEM) (x1 x2 x3 x4 x5 : Int) : Option zm_O := if x5 = 0 then (ck (0 ≤ (σ (-1) 8) ∧ (σ (-1) 8) < 2) (ck (inR (800 * (σ (-1) 8))) (m_rule_89 σ x1 x2 x3 x4 x5 (800 * (σ (-1) 8)) (σ 37 (σ (-1) 8))))) else (ck (inR (800 * (σ (-1) 8))) (m_rule_89 σ x1 x2 x3 x4 x5 (800 * (σ (-1) 8)) 799))
theorem w_rule_61 {C : zv_Cx zm_O} {G : zm_G} (h : zv_Ok C cX1_rule RX1) (hc : zm_C C G 7 (Option.none : Option FieldType) 0 5 115) (σ : MEM) (x1 x2 x3 x4 x5 : Int) (hx1 : inR x1) (hx2 : inR x2) (hx3 : inR x3) (hx4 : inR x4) (hx5 : isB x5) : VV C (m_rule_61 σ x1 x2 x3 x4 x5) σ [(0, .ref (zm_h G)), (1, iv x1), (2, iv x2), (3, iv x3), (4, iv x4), (5, iv x5)] [] 61 := by
  have hN : ∀ i, i < 7 → i < zv_n C := fun i q => by rw [hc.2.2.1]; exact q
  unfold m_rule_61
  refine r_sipush h dX1_rule_61 (by decide) ?_
  refine r_aload_n h 0 dX1_rule_64 rfl rfl ?_
  refine zm_getI h hc 8 8 (by decide) rfl rfl q1488 rfl dX1_rule_65 (fun hr1 => ?_)
  refine r_imul h dX1_rule_68 ?_
  refine r_iload h 5 dX1_rule_69 rfl ?_
  refine r_if_eq h hx5.r 80 dX1_rule_71 rfl ?_ ?_
  · refine r_aload_n h 0 dX1_rule_80 rfl rfl ?_
    refine zm_getA h hc 37 (by decide) rfl q1517 rfl dX1_rule_81 ?_
    refine r_aload_n h 0 dX1_rule_84 rfl rfl ?_
    refine zm_getI h hc 8 8 (by decide) rfl rfl q1488 rfl dX1_rule_85 (fun hr2 => ?_)
    refine zm_ldI h hc 37 37 2 (by decide) rfl rfl rfl (by decide) dX1_rule_88 (fun _ hr3 => ?_)
    refine r_ck (fun hk4 => ?_)
    exact r_lv [0, 1, 2, 3, 4, 5] rfl (w_rule_89 h hc _ x1 x2 x3 x4 x5 (800 * (σ (-1) 8)) (σ 37 (σ (-1) 8)) hx1 hx2 hx3 hx4 hx5 hk4 hr3)
  · refine r_sipush h dX1_rule_74 (by decide) ?_
    refine r_goto h 89 dX1_rule_77 rfl ?_
    refine r_ck (fun hk5 => ?_)
    exact r_lv [0, 1, 2, 3, 4, 5] rfl (w_rule_89 h hc _ x1 x2 x3 x4 x5 (800 * (σ (-1) 8)) 799 hx1 hx2 hx3 hx4 hx5 hk5 (by decide))
def m_rule (σ : MEM) (a0 a1 : Int) : Option zm_O := bd (m_takeName σ) (fun r1 σ2 => bd (m_isGood σ2) (fun r5 σ6 => if r5 = 0 then (some (0, σ6)) else (ck (inR ((6000 * (σ6 (-1) 8)) + r1)) (bd (m_hasRule σ6 a0 a1 ((6000 * (σ6 (-1) 8)) + r1) (σ2 (-1) 51)) (fun r10 σ11 => if r10 = 0 then (if (σ11 (-1) 62) = 10 then (bd (m_fail σ11 (-3) r1) (fun _ σ14 => some (0, σ14))) else (m_rule_61 σ11 a0 a1 r1 (σ2 (-1) 51) r10)) else (m_rule_61 σ11 a0 a1 r1 (σ2 (-1) 51) r10))))))
theorem w_rule {G : zm_G} (hD : zm_D G) (σ : MEM) (a0 a1 : Int) (ha0 : inR a0) (ha1 : inR a1) (o : zm_O) (hd : m_rule σ a0 a1 = some o) : zm_Met G yX1_rule cX1_rule 7 (Option.none : Option FieldType) 0 5 115 σ [.ref (zm_h G), iv a0, iv a1] o := by
  refine zm_intro hD hd (by decide) rfl (Nat.le_of_ble_eq_true rfl) rfl (fun C h hc => ?_)
  have hN : ∀ i, i < 7 → i < zv_n C := fun i q => by rw [hc.2.2.1]; exact q
  unfold m_rule
  refine r_aload_n h 0 dX1_rule_0 rfl rfl ?_
  refine zm_cVi h hc (n := 0) (As := []) (fun o1 e1 => w_takeName hc.1 _ o1 e1) q1858 q1860 qs67 q136 q1861 (by decide +kernel) ⟨by decide, by decide⟩ rfl (Nat.le_of_ble_eq_true rfl) rfl dX1_rule_1 (fun r1 σ2 hr3 => ?_)
  refine r_istore_n (lv' := [(3, iv r1), (0, .ref (zm_h G)), (1, iv a0), (2, iv a1)]) h dX1_rule_4 rfl (hN _ (by decide)) rfl ?_
  refine r_aload_n h 1 dX1_rule_5 rfl rfl ?_
  refine zm_getI h hc 51 51 (by decide) rfl rfl q1531 rfl dX1_rule_6 (fun hr4 => ?_)
  refine r_istore (lv' := [(4, iv (σ2 (-1) 51)), (3, iv r1), (0, .ref (zm_h G)), (1, iv a0), (2, iv a1)]) h dX1_rule_9 (hN _ (by decide)) rfl ?_
  refine r_aload_n h 2 dX1_rule_11 rfl rfl ?_
  refine zm_cVz h hc (n := 0) (As := []) (fun o1 e1 => w_isGood hc.1 _ o1 e1) q1801 q1803 qs56 q136 q1804 (by decide +kernel) ⟨by decide, by decide⟩ rfl (Nat.le_of_ble_eq_true rfl) rfl dX1_rule_12 (fun r5 σ6 hr7 => ?_)
  refine r_if_ne h hr7.r 19 dX1_rule_15 rfl ?_ ?_
  · exact zm_vret h hc rfl dX1_rule_18
  · refine r_aload_n h 2 dX1_rule_19 rfl rfl ?_
    refine r_iload_n h 3 dX1_rule_20 rfl rfl ?_
    refine r_iload_n h 4 dX1_rule_21 rfl rfl ?_
    refine r_sipush h dX1_rule_22 (by decide) ?_
    refine r_aload_n h 2 dX1_rule_25 rfl rfl ?_
    refine zm_getI h hc 8 8 (by decide) rfl rfl q1488 rfl dX1_rule_26 (fun hr8 => ?_)
    refine r_imul h dX1_rule_29 ?_
    refine r_iload_n h 1 dX1_rule_30 rfl rfl ?_
    refine r_iadd h dX1_rule_31 ?_
    refine r_iload h 0 dX1_rule_32 rfl ?_
    refine r_ck (fun hk9 => ?_)
    refine zm_cVz h hc (n := 4) (As := [iv a0, iv a1, iv ((6000 * (σ6 (-1) 8)) + r1), iv (σ2 (-1) 51)]) (fun o1 e1 => w_hasRule hc.1 _ a0 a1 ((6000 * (σ6 (-1) 8)) + r1) (σ2 (-1) 51) ha0 ha1 hk9 hr4 o1 e1) q1920 q1922 qs78 q136 q1923 (by decide +kernel) ⟨by decide, by decide⟩ rfl (Nat.le_of_ble_eq_true rfl) rfl dX1_rule_34 (fun r10 σ11 hr12 => ?_)
    refine r_istore (lv' := [(5, iv r10), (4, iv (σ2 (-1) 51)), (3, iv r1), (0, .ref (zm_h G)), (1, iv a0), (2, iv a1)]) h dX1_rule_37 (hN _ (by decide)) rfl ?_
    refine r_iload h 0 dX1_rule_39 rfl ?_
    refine r_if_ne h hr12.r 61 dX1_rule_41 rfl ?_ ?_
    · refine r_aload_n h 3 dX1_rule_44 rfl rfl ?_
      refine zm_getI h hc 62 62 (by decide) rfl rfl q1541 rfl dX1_rule_45 (fun hr13 => ?_)
      refine r_bipush h dX1_rule_48 (by decide) ?_
      refine r_icmp_ne h hr13 (by decide) 61 dX1_rule_50 rfl ?_ ?_
      · refine r_aload_n h 3 dX1_rule_53 rfl rfl ?_
        refine r_bipush h dX1_rule_54 (by decide) ?_
        refine r_iload_n h 2 dX1_rule_56 rfl rfl ?_
        refine zm_cVv h hc (n := 2) (As := [iv (-3), iv r1]) (fun o1 e1 => w_fail hc.1 _ (-3) r1 (by decide) hr3 o1 e1) q1805 q1807 qs57 q136 q1808 (by decide +kernel) ⟨by decide, by decide⟩ rfl (Nat.le_of_ble_eq_true rfl) rfl dX1_rule_57 (fun σ14  => ?_)
        exact zm_vret h hc rfl dX1_rule_60
      · exact r_lv [3, 4, 5, 2, 1, 0] rfl (w_rule_61 h hc _ a0 a1 r1 (σ2 (-1) 51) r10 ha0 ha1 hr3 hr4 hr12)
    · exact r_lv [3, 4, 5, 2, 1, 0] rfl (w_rule_61 h hc _ a0 a1 r1 (σ2 (-1) 51) r10 ha0 ha1 hr3 hr4 hr12)
theorem dX1_attributeList_0 : decode cX1_attributeList 0 = .ok (.aload_n 0, 1) := by decide +kernel
theorem dX1_attributeList_1 : decode cX1_attributeList 1 = .ok (.dup, 1) := by decide +kernel
theorem dX1_attributeList_2 : decode cX1_attributeList 2 = .ok (.getfield 276, 3) := by decide +kernel
theorem dX1_attributeList_5 : decode cX1_attributeList 5 = .ok (.bipush 9, 2) := by decide +kernel
theorem dX1_attributeList_7 : decode cX1_attributeList 7 = .ok (.iadd, 1) := by decide +kernel
theorem dX1_attributeList_8 : decode cX1_attributeList 8 = .ok (.putfield 276, 3) := by decide +kernel
theorem dX1_attributeList_11 : decode cX1_attributeList 11 = .ok (.aload_n 0, 1) := by decide +kernel
theorem dX1_attributeList_12 : decode cX1_attributeList 12 = .ok (.invokevirtual 348, 3) := by decide +kernel
theorem dX1_attributeList_15 : decode cX1_attributeList 15 = .ok (.sipush 6000, 3) := by decide +kernel
theorem dX1_attributeList_18 : decode cX1_attributeList 18 = .ok (.aload_n 0, 1) := by decide +kernel
theorem dX1_attributeList_19 : decode cX1_attributeList 19 = .ok (.getfield 328, 3) := by decide +kernel
theorem dX1_attributeList_22 : decode cX1_attributeList 22 = .ok (.imul, 1) := by decide +kernel
theorem dX1_attributeList_23 : decode cX1_attributeList 23 = .ok (.aload_n 0, 1) := by decide +kernel
theorem dX1_attributeList_24 : decode cX1_attributeList 24 = .ok (.invokevirtual 351, 3) := by decide +kernel
theorem dX1_attributeList_27 : decode cX1_attributeList 27 = .ok (.iadd, 1) := by decide +kernel
theorem dX1_attributeList_28 : decode cX1_attributeList 28 = .ok (.istore_n 1, 1) := by decide +kernel
theorem dX1_attributeList_29 : decode cX1_attributeList 29 = .ok (.aload_n 0, 1) := by decide +kernel
theorem dX1_attributeList_30 : decode cX1_attributeList 30 = .ok (.getfield 306, 3) := by decide +kernel
theorem dX1_attributeList_33 : decode cX1_attributeList 33 = .ok (.istore_n 2, 1) := by decide +kernel
theorem dX1_attributeList_34 : decode cX1_attributeList 34 = .ok (.iconst 1, 1) := by decide +kernel
theorem dX1_attributeList_35 : decode cX1_attributeList 35 = .ok (.istore_n 3, 1) := by decide +kernel
theorem dX1_attributeList_36 : decode cX1_attributeList 36 = .ok (.aload_n 0, 1) := by decide +kernel
theorem dX1_attributeList_37 : decode cX1_attributeList 37 = .ok (.invokevirtual 289, 3) := by decide +kernel
theorem dX1_attributeList_40 : decode cX1_attributeList 40 = .ok (.ifCond .eq 59, 3) := by decide +kernel
theorem dX1_attributeList_43 : decode cX1_attributeList 43 = .ok (.iload_n 3, 1) := by decide +kernel
theorem dX1_attributeList_44 : decode cX1_attributeList 44 = .ok (.ifCond .eq 55, 3) := by decide +kernel
theorem dX1_attributeList_47 : decode cX1_attributeList 47 = .ok (.aload_n 0, 1) := by decide +kernel
theorem dX1_attributeList_48 : decode cX1_attributeList 48 = .ok (.getfield 276, 3) := by decide +kernel
theorem dX1_attributeList_51 : decode cX1_attributeList 51 = .ok (.istore 4, 2) := by decide +kernel
theorem dX1_attributeList_53 : decode cX1_attributeList 53 = .ok (.aload_n 0, 1) := by decide +kernel
theorem dX1_attributeList_54 : decode cX1_attributeList 54 = .ok (.invokevirtual 300, 3) := by decide +kernel
theorem dX1_attributeList_57 : decode cX1_attributeList 57 = .ok (.aload_n 0, 1) := by decide +kernel
theorem dX1_attributeList_58 : decode cX1_attributeList 58 = .ok (.getfield 276, 3) := by decide +kernel
theorem dX1_attributeList_61 : decode cX1_attributeList 61 = .ok (.iload 4, 2) := by decide +kernel
theorem dX1_attributeList_63 : decode cX1_attributeList 63 = .ok (.if_icmp .le 21, 3) := by decide +kernel
theorem dX1_attributeList_66 : decode cX1_attributeList 66 = .ok (.aload_n 0, 1) := by decide +kernel
theorem dX1_attributeList_67 : decode cX1_attributeList 67 = .ok (.aload_n 0, 1) := by decide +kernel
theorem dX1_attributeList_68 : decode cX1_attributeList 68 = .ok (.getfield 276, 3) := by decide +kernel
theorem dX1_attributeList_71 : decode cX1_attributeList 71 = .ok (.invokevirtual 279, 3) := by decide +kernel
theorem dX1_attributeList_74 : decode cX1_attributeList 74 = .ok (.invokestatic 268, 3) := by decide +kernel
theorem dX1_attributeList_77 : decode cX1_attributeList 77 = .ok (.ifCond .eq 7, 3) := by decide +kernel
theorem dX1_attributeList_80 : decode cX1_attributeList 80 = .ok (.iconst 1, 1) := by decide +kernel
theorem dX1_attributeList_81 : decode cX1_attributeList 81 = .ok (.goto 4, 3) := by decide +kernel
theorem dX1_attributeList_84 : decode cX1_attributeList 84 = .ok (.iconst 0, 1) := by decide +kernel
theorem dX1_attributeList_85 : decode cX1_attributeList 85 = .ok (.istore_n 3, 1) := by decide +kernel
theorem dX1_attributeList_86 : decode cX1_attributeList 86 = .ok (.iload_n 3, 1) := by decide +kernel
theorem dX1_attributeList_87 : decode cX1_attributeList 87 = .ok (.ifCond .eq 9, 3) := by decide +kernel
theorem dX1_attributeList_90 : decode cX1_attributeList 90 = .ok (.aload_n 0, 1) := by decide +kernel
theorem dX1_attributeList_91 : decode cX1_attributeList 91 = .ok (.iload_n 1, 1) := by decide +kernel
theorem dX1_attributeList_92 : decode cX1_attributeList 92 = .ok (.iload_n 2, 1) := by decide +kernel
theorem dX1_attributeList_93 : decode cX1_attributeList 93 = .ok (.invokevirtual 416, 3) := by decide +kernel
theorem dX1_attributeList_96 : decode cX1_attributeList 96 = .ok (.goto (-60), 3) := by decide +kernel
theorem dX1_attributeList_99 : decode cX1_attributeList 99 = .ok (.aload_n 0, 1) := by decide +kernel
theorem dX1_attributeList_100 : decode cX1_attributeList 100 = .ok (.invokevirtual 300, 3) := by decide +kernel
theorem dX1_attributeList_103 : decode cX1_attributeList 103 = .ok (.aload_n 0, 1) := by decide +kernel
theorem dX1_attributeList_104 : decode cX1_attributeList 104 = .ok (.bipush 62, 2) := by decide +kernel
theorem dX1_attributeList_106 : decode cX1_attributeList 106 = .ok (.invokevirtual 340, 3) := by decide +kernel
theorem dX1_attributeList_109 : decode cX1_attributeList 109 = .ok (.istore 4, 2) := by decide +kernel
theorem dX1_attributeList_111 : decode cX1_attributeList 111 = .ok (.return_, 1) := by decide +kernel
def m_attributeList_99 (σ : MEM) : Option zm_O := bd (m_maybeS σ) (fun _ σ1 => bd (m_passes σ1 62) (fun r2 σ3 => some (0, σ3)))
theorem w_attributeList_99 {C : zv_Cx zm_O} {G : zm_G} (h : zv_Ok C cX1_attributeList RX1) (hc : zm_C C G 5 (Option.none : Option FieldType) 0 6 141) (σ : MEM) : VV C (m_attributeList_99 σ ) σ [(0, .ref (zm_h G))] [] 99 := by
  have hN : ∀ i, i < 5 → i < zv_n C := fun i q => by rw [hc.2.2.1]; exact q
  unfold m_attributeList_99
  refine r_aload_n h 0 dX1_attributeList_99 rfl rfl ?_
  refine zm_cVv h hc (n := 0) (As := []) (fun o1 e1 => w_maybeS hc.1 _ o1 e1) q1813 q1815 qs59 q136 q1816 (by decide +kernel) ⟨by decide, by decide⟩ rfl (Nat.le_of_ble_eq_true rfl) rfl dX1_attributeList_100 (fun σ1  => ?_)
  refine r_aload_n h 0 dX1_attributeList_103 rfl rfl ?_
  refine r_bipush h dX1_attributeList_104 (by decide) ?_
  refine zm_cVz h hc (n := 1) (As := [iv 62]) (fun o1 e1 => w_passes hc.1 _ 62 (by decide) o1 e1) q1840 q1842 qs63 q136 q1843 (by decide +kernel) ⟨by decide, by decide⟩ rfl (Nat.le_of_ble_eq_true rfl) rfl dX1_attributeList_106 (fun r2 σ3 hr4 => ?_)
  refine r_istore (lv' := [(4, iv r2), (0, .ref (zm_h G))]) h dX1_attributeList_109 (hN _ (by decide)) rfl ?_
  exact zm_vret h hc rfl dX1_attributeList_111
def m_attributeList_85 (lp36 : MEM → Int → Int → Int → Option zm_O) (σ : MEM) (x1 x2 s0 : Int) : Option zm_O := if s0 = 0 then (lp36 σ x1 x2 s0) else (bd (m_rule σ x1 x2) (fun _ σ1 => lp36 σ1 x1 x2 s0))
theorem w_attributeList_85 {C : zv_Cx zm_O} {G : zm_G} (h : zv_Ok C cX1_attributeList RX1) (hc : zm_C C G 5 (Option.none : Option FieldType) 0 6 141) (lp36 : MEM → Int → Int → Int → Option zm_O) (hlp36 : ∀ (σ : MEM) (x1 x2 x3 : Int), inR x1 → inR x2 → isB x3 → VV C (lp36 σ x1 x2 x3) σ [(0, .ref (zm_h G)), (1, iv x1), (2, iv x2), (3, iv x3)] [] 36) (σ : MEM) (x1 x2 s0 : Int) (hx1 : inR x1) (hx2 : inR x2) (hs0 : isB s0) : VV C (m_attributeList_85 lp36 σ x1 x2 s0) σ [(0, .ref (zm_h G)), (1, iv x1), (2, iv x2)] [iv s0] 85 := by
  have hN : ∀ i, i < 5 → i < zv_n C := fun i q => by rw [hc.2.2.1]; exact q
  unfold m_attributeList_85
  refine r_istore_n (lv' := [(3, iv s0), (0, .ref (zm_h G)), (1, iv x1), (2, iv x2)]) h dX1_attributeList_85 rfl (hN _ (by decide)) rfl ?_
  refine r_iload_n h 0 dX1_attributeList_86 rfl rfl ?_
  refine r_if_eq h hs0.r 96 dX1_attributeList_87 rfl ?_ ?_
  · refine r_goto h 36 dX1_attributeList_96 rfl ?_
    exact r_lv [1, 2, 3, 0] rfl (hlp36 _ x1 x2 s0 hx1 hx2 hs0)
  · refine r_aload_n h 1 dX1_attributeList_90 rfl rfl ?_
    refine r_iload_n h 2 dX1_attributeList_91 rfl rfl ?_
    refine r_iload_n h 3 dX1_attributeList_92 rfl rfl ?_
    refine zm_cVv h hc (n := 2) (As := [iv x1, iv x2]) (fun o1 e1 => w_rule hc.1 _ x1 x2 hx1 hx2 o1 e1) q1916 q1918 qs77 q136 q1919 (by decide +kernel) ⟨by decide, by decide⟩ rfl (Nat.le_of_ble_eq_true rfl) rfl dX1_attributeList_93 (fun σ1  => ?_)
    refine r_goto h 36 dX1_attributeList_96 rfl ?_
    exact r_lv [1, 2, 3, 0] rfl (hlp36 _ x1 x2 s0 hx1 hx2 hs0)
def m_attributeList_84 (lp36 : MEM → Int → Int → Int → Option zm_O) (σ : MEM) (x1 x2 : Int) : Option zm_O := m_attributeList_85 lp36 σ x1 x2 0
theorem w_attributeList_84 {C : zv_Cx zm_O} {G : zm_G} (h : zv_Ok C cX1_attributeList RX1) (hc : zm_C C G 5 (Option.none : Option FieldType) 0 6 141) (lp36 : MEM → Int → Int → Int → Option zm_O) (hlp36 : ∀ (σ : MEM) (x1 x2 x3 : Int), inR x1 → inR x2 → isB x3 → VV C (lp36 σ x1 x2 x3) σ [(0, .ref (zm_h G)), (1, iv x1), (2, iv x2), (3, iv x3)] [] 36) (σ : MEM) (x1 x2 : Int) (hx1 : inR x1) (hx2 : inR x2) : VV C (m_attributeList_84 lp36 σ x1 x2) σ [(0, .ref (zm_h G)), (1, iv x1), (2, iv x2)] [] 84 := by
  have hN : ∀ i, i < 5 → i < zv_n C := fun i q => by rw [hc.2.2.1]; exact q
  unfold m_attributeList_84
  refine r_iconst h dX1_attributeList_84 ?_
  exact r_lv [0, 1, 2] rfl (w_attributeList_85 h hc lp36 hlp36 _ x1 x2 0 hx1 hx2 (by decide))
def m_attributeList_36 : Nat → MEM → Int → Int → Int → Option zm_O
  | 0, _, _, _, _ => none
  | n + 1, σ, x1, x2, x3 => bd (m_isGood σ) (fun r1 σ2 => if r1 = 0 then (m_attributeList_99 σ2) else (if x3 = 0 then (m_attributeList_99 σ2) else (bd (m_maybeS σ2) (fun _ σ5 => if (σ5 (-1) 4) ≤ (σ2 (-1) 4) then (m_attributeList_84 (m_attributeList_36 n) σ5 x1 x2) else (bd (m_octet σ5 (σ5 (-1) 4)) (fun r8 σ9 => bd (m_isFirst σ9 r8) (fun r11 σ12 => if r11 = 0 then (m_attributeList_84 (m_attributeList_36 n) σ12 x1 x2) else (m_attributeList_85 (m_attributeList_36 n) σ12 x1 x2 1))))))))
theorem w_attributeList_36 {C : zv_Cx zm_O} {G : zm_G} (h : zv_Ok C cX1_attributeList RX1) (hc : zm_C C G 5 (Option.none : Option FieldType) 0 6 141) : ∀ (n : Nat) (σ : MEM) (x1 x2 x3 : Int), inR x1 → inR x2 → isB x3 → VV C (m_attributeList_36 n σ x1 x2 x3) σ [(0, .ref (zm_h G)), (1, iv x1), (2, iv x2), (3, iv x3)] [] 36 := by
  have hN : ∀ i, i < 5 → i < zv_n C := fun i q => by rw [hc.2.2.1]; exact q
  intro n
  induction n with
  | zero => intros; exact r_none
  | succ n ih =>
    intro σ x1 x2 x3 hx1 hx2 hx3
    rw [m_attributeList_36]
    refine r_aload_n h 0 dX1_attributeList_36 rfl rfl ?_
    refine zm_cVz h hc (n := 0) (As := []) (fun o1 e1 => w_isGood hc.1 _ o1 e1) q1801 q1803 qs56 q136 q1804 (by decide +kernel) ⟨by decide, by decide⟩ rfl (Nat.le_of_ble_eq_true rfl) rfl dX1_attributeList_37 (fun r1 σ2 hr3 => ?_)
    refine r_if_eq h hr3.r 99 dX1_attributeList_40 rfl ?_ ?_
    · exact r_lv [0] rfl (w_attributeList_99 h hc _)
    · refine r_iload_n h 3 dX1_attributeList_43 rfl rfl ?_
      refine r_if_eq h hx3.r 99 dX1_attributeList_44 rfl ?_ ?_
      · exact r_lv [0] rfl (w_attributeList_99 h hc _)
      · refine r_aload_n h 0 dX1_attributeList_47 rfl rfl ?_
        refine zm_getI h hc 4 4 (by decide) rfl rfl q1484 rfl dX1_attributeList_48 (fun hr4 => ?_)
        refine r_istore (lv' := [(4, iv (σ2 (-1) 4)), (0, .ref (zm_h G)), (1, iv x1), (2, iv x2), (3, iv x3)]) h dX1_attributeList_51 (hN _ (by decide)) rfl ?_
        refine r_aload_n h 1 dX1_attributeList_53 rfl rfl ?_
        refine zm_cVv h hc (n := 0) (As := []) (fun o1 e1 => w_maybeS hc.1 _ o1 e1) q1813 q1815 qs59 q136 q1816 (by decide +kernel) ⟨by decide, by decide⟩ rfl (Nat.le_of_ble_eq_true rfl) rfl dX1_attributeList_54 (fun σ5  => ?_)
        refine r_aload_n h 1 dX1_attributeList_57 rfl rfl ?_
        refine zm_getI h hc 4 4 (by decide) rfl rfl q1484 rfl dX1_attributeList_58 (fun hr6 => ?_)
        refine r_iload h 0 dX1_attributeList_61 rfl ?_
        refine r_icmp_le h hr6 hr4 84 dX1_attributeList_63 rfl ?_ ?_
        · exact r_lv [1, 2, 3] rfl (w_attributeList_84 h hc (m_attributeList_36 n) ih _ x1 x2 hx1 hx2)
        · refine r_aload_n h 1 dX1_attributeList_66 rfl rfl ?_
          refine r_aload_n h 1 dX1_attributeList_67 rfl rfl ?_
          refine zm_getI h hc 4 4 (by decide) rfl rfl q1484 rfl dX1_attributeList_68 (fun hr7 => ?_)
          refine zm_cVi h hc (n := 1) (As := [iv (σ5 (-1) 4)]) (fun o1 e1 => w_octet hc.1 _ (σ5 (-1) 4) hr7 o1 e1) q1817 q1819 qs60 q136 q1820 (by decide +kernel) ⟨by decide, by decide⟩ rfl (Nat.le_of_ble_eq_true rfl) rfl dX1_attributeList_71 (fun r8 σ9 hr10 => ?_)
          refine zm_cSz h hc (n := 1) (As := [iv r8]) (fun o1 e1 => w_isFirst hc.1 _ r8 hr10 o1 e1) q1862 q1863 q136 q1864 (by decide +kernel) ⟨by decide, by decide⟩ rfl (Nat.le_of_ble_eq_true rfl) rfl dX1_attributeList_74 (fun r11 σ12 hr13 => ?_)
          refine r_if_eq h hr13.r 84 dX1_attributeList_77 rfl ?_ ?_
          · exact r_lv [1, 2, 3] rfl (w_attributeList_84 h hc (m_attributeList_36 n) ih _ x1 x2 hx1 hx2)
          · refine r_iconst h dX1_attributeList_80 ?_
            refine r_goto h 85 dX1_attributeList_81 rfl ?_
            exact r_lv [1, 2, 3] rfl (w_attributeList_85 h hc (m_attributeList_36 n) ih _ x1 x2 1 hx1 hx2 (by decide))
def m_attributeList (σ : MEM) : Option zm_O := ck (inR ((σ (-1) 4) + 9)) (nu (mup σ (-1) 4 ((σ (-1) 4) + 9)) (fun σ3 => bd (m_mustS σ3) (fun _ σ4 => bd (m_takeName σ4) (fun r6 σ7 => ck (inR ((6000 * (σ4 (-1) 8)) + r6)) (m_attributeList_36 zF σ7 ((6000 * (σ4 (-1) 8)) + r6) (σ7 (-1) 51) 1)))))
theorem w_attributeList {G : zm_G} (hD : zm_D G) (σ : MEM) (o : zm_O) (hd : m_attributeList σ  = some o) : zm_Met G yX1_attributeList cX1_attributeList 5 (Option.none : Option FieldType) 0 6 141 σ [.ref (zm_h G)] o := by
  refine zm_intro hD hd (by decide) rfl (Nat.le_of_ble_eq_true rfl) rfl (fun C h hc => ?_)
  have hN : ∀ i, i < 5 → i < zv_n C := fun i q => by rw [hc.2.2.1]; exact q
  unfold m_attributeList
  refine r_aload_n h 0 dX1_attributeList_0 rfl rfl ?_
  refine r_dup h dX1_attributeList_1 rfl ?_
  refine zm_getI h hc 4 4 (by decide) rfl rfl q1484 rfl dX1_attributeList_2 (fun hr1 => ?_)
  refine r_bipush h dX1_attributeList_5 (by decide) ?_
  refine r_iadd h dX1_attributeList_7 ?_
  refine r_ck (fun hk2 => ?_)
  refine zm_putI h hc 4 4 (by decide) rfl rfl q1484 ⟨rfl, rfl, by decide +kernel⟩ hk2 dX1_attributeList_8 (fun σ3 _ => ?_)
  refine r_aload_n h 0 dX1_attributeList_11 rfl rfl ?_
  refine zm_cVv h hc (n := 0) (As := []) (fun o1 e1 => w_mustS hc.1 _ o1 e1) q1854 q1856 qs66 q136 q1857 (by decide +kernel) ⟨by decide, by decide⟩ rfl (Nat.le_of_ble_eq_true rfl) rfl dX1_attributeList_12 (fun σ4  => ?_)
  refine r_sipush h dX1_attributeList_15 (by decide) ?_
  refine r_aload_n h 0 dX1_attributeList_18 rfl rfl ?_
  refine zm_getI h hc 8 8 (by decide) rfl rfl q1488 rfl dX1_attributeList_19 (fun hr5 => ?_)
  refine r_imul h dX1_attributeList_22 ?_
  refine r_aload_n h 0 dX1_attributeList_23 rfl rfl ?_
  refine zm_cVi h hc (n := 0) (As := []) (fun o1 e1 => w_takeName hc.1 _ o1 e1) q1858 q1860 qs67 q136 q1861 (by decide +kernel) ⟨by decide, by decide⟩ rfl (Nat.le_of_ble_eq_true rfl) rfl dX1_attributeList_24 (fun r6 σ7 hr8 => ?_)
  refine r_iadd h dX1_attributeList_27 ?_
  refine r_istore_n (lv' := [(1, iv ((6000 * (σ4 (-1) 8)) + r6)), (0, .ref (zm_h G))]) h dX1_attributeList_28 rfl (hN _ (by decide)) rfl ?_
  refine r_aload_n h 1 dX1_attributeList_29 rfl rfl ?_
  refine zm_getI h hc 51 51 (by decide) rfl rfl q1531 rfl dX1_attributeList_30 (fun hr9 => ?_)
  refine r_istore_n (lv' := [(2, iv (σ7 (-1) 51)), (1, iv ((6000 * (σ4 (-1) 8)) + r6)), (0, .ref (zm_h G))]) h dX1_attributeList_33 rfl (hN _ (by decide)) rfl ?_
  refine r_iconst h dX1_attributeList_34 ?_
  refine r_istore_n (lv' := [(3, iv 1), (2, iv (σ7 (-1) 51)), (1, iv ((6000 * (σ4 (-1) 8)) + r6)), (0, .ref (zm_h G))]) h dX1_attributeList_35 rfl (hN _ (by decide)) rfl ?_
  refine r_ck (fun hk10 => ?_)
  exact r_lv [3, 2, 1, 0] rfl (w_attributeList_36 h hc zF _ ((6000 * (σ4 (-1) 8)) + r6) (σ7 (-1) 51) 1 hk10 hr9 (by decide))
theorem dX1_doctype_0 : decode cX1_doctype 0 = .ok (.aload_n 0, 1) := by decide +kernel
theorem dX1_doctype_1 : decode cX1_doctype 1 = .ok (.getfield 20, 3) := by decide +kernel
theorem dX1_doctype_4 : decode cX1_doctype 4 = .ok (.aload_n 0, 1) := by decide +kernel
theorem dX1_doctype_5 : decode cX1_doctype 5 = .ok (.getfield 328, 3) := by decide +kernel
theorem dX1_doctype_8 : decode cX1_doctype 8 = .ok (.iconst 1, 1) := by decide +kernel
theorem dX1_doctype_9 : decode cX1_doctype 9 = .ok (.bastore, 1) := by decide +kernel
theorem dX1_doctype_10 : decode cX1_doctype 10 = .ok (.aload_n 0, 1) := by decide +kernel
theorem dX1_doctype_11 : decode cX1_doctype 11 = .ok (.dup, 1) := by decide +kernel
theorem dX1_doctype_12 : decode cX1_doctype 12 = .ok (.getfield 276, 3) := by decide +kernel
theorem dX1_doctype_15 : decode cX1_doctype 15 = .ok (.bipush 9, 2) := by decide +kernel
theorem dX1_doctype_17 : decode cX1_doctype 17 = .ok (.iadd, 1) := by decide +kernel
theorem dX1_doctype_18 : decode cX1_doctype 18 = .ok (.putfield 276, 3) := by decide +kernel
theorem dX1_doctype_21 : decode cX1_doctype 21 = .ok (.aload_n 0, 1) := by decide +kernel
theorem dX1_doctype_22 : decode cX1_doctype 22 = .ok (.invokevirtual 348, 3) := by decide +kernel
theorem dX1_doctype_25 : decode cX1_doctype 25 = .ok (.aload_n 0, 1) := by decide +kernel
theorem dX1_doctype_26 : decode cX1_doctype 26 = .ok (.invokevirtual 351, 3) := by decide +kernel
theorem dX1_doctype_29 : decode cX1_doctype 29 = .ok (.istore_n 1, 1) := by decide +kernel
theorem dX1_doctype_30 : decode cX1_doctype 30 = .ok (.aload_n 0, 1) := by decide +kernel
theorem dX1_doctype_31 : decode cX1_doctype 31 = .ok (.getfield 64, 3) := by decide +kernel
theorem dX1_doctype_34 : decode cX1_doctype 34 = .ok (.aload_n 0, 1) := by decide +kernel
theorem dX1_doctype_35 : decode cX1_doctype 35 = .ok (.getfield 328, 3) := by decide +kernel
theorem dX1_doctype_38 : decode cX1_doctype 38 = .ok (.sipush 6000, 3) := by decide +kernel
theorem dX1_doctype_41 : decode cX1_doctype 41 = .ok (.aload_n 0, 1) := by decide +kernel
theorem dX1_doctype_42 : decode cX1_doctype 42 = .ok (.getfield 328, 3) := by decide +kernel
theorem dX1_doctype_45 : decode cX1_doctype 45 = .ok (.imul, 1) := by decide +kernel
theorem dX1_doctype_46 : decode cX1_doctype 46 = .ok (.iload_n 1, 1) := by decide +kernel
theorem dX1_doctype_47 : decode cX1_doctype 47 = .ok (.iadd, 1) := by decide +kernel
theorem dX1_doctype_48 : decode cX1_doctype 48 = .ok (.iastore, 1) := by decide +kernel
theorem dX1_doctype_49 : decode cX1_doctype 49 = .ok (.aload_n 0, 1) := by decide +kernel
theorem dX1_doctype_50 : decode cX1_doctype 50 = .ok (.getfield 67, 3) := by decide +kernel
theorem dX1_doctype_53 : decode cX1_doctype 53 = .ok (.aload_n 0, 1) := by decide +kernel
theorem dX1_doctype_54 : decode cX1_doctype 54 = .ok (.getfield 328, 3) := by decide +kernel
theorem dX1_doctype_57 : decode cX1_doctype 57 = .ok (.aload_n 0, 1) := by decide +kernel
theorem dX1_doctype_58 : decode cX1_doctype 58 = .ok (.getfield 306, 3) := by decide +kernel
theorem dX1_doctype_61 : decode cX1_doctype 61 = .ok (.iastore, 1) := by decide +kernel
theorem dX1_doctype_62 : decode cX1_doctype 62 = .ok (.aload_n 0, 1) := by decide +kernel
theorem dX1_doctype_63 : decode cX1_doctype 63 = .ok (.invokevirtual 300, 3) := by decide +kernel
theorem dX1_doctype_66 : decode cX1_doctype 66 = .ok (.aload_n 0, 1) := by decide +kernel
theorem dX1_doctype_67 : decode cX1_doctype 67 = .ok (.bipush 91, 2) := by decide +kernel
theorem dX1_doctype_69 : decode cX1_doctype 69 = .ok (.invokevirtual 340, 3) := by decide +kernel
theorem dX1_doctype_72 : decode cX1_doctype 72 = .ok (.istore_n 2, 1) := by decide +kernel
theorem dX1_doctype_73 : decode cX1_doctype 73 = .ok (.aload_n 0, 1) := by decide +kernel
theorem dX1_doctype_74 : decode cX1_doctype 74 = .ok (.invokevirtual 289, 3) := by decide +kernel
theorem dX1_doctype_77 : decode cX1_doctype 77 = .ok (.ifCond .eq 109, 3) := by decide +kernel
theorem dX1_doctype_80 : decode cX1_doctype 80 = .ok (.aload_n 0, 1) := by decide +kernel
theorem dX1_doctype_81 : decode cX1_doctype 81 = .ok (.aload_n 0, 1) := by decide +kernel
theorem dX1_doctype_82 : decode cX1_doctype 82 = .ok (.getfield 276, 3) := by decide +kernel
theorem dX1_doctype_85 : decode cX1_doctype 85 = .ok (.invokevirtual 279, 3) := by decide +kernel
theorem dX1_doctype_88 : decode cX1_doctype 88 = .ok (.bipush 93, 2) := by decide +kernel
theorem dX1_doctype_90 : decode cX1_doctype 90 = .ok (.if_icmp .eq 96, 3) := by decide +kernel
theorem dX1_doctype_93 : decode cX1_doctype 93 = .ok (.aload_n 0, 1) := by decide +kernel
theorem dX1_doctype_94 : decode cX1_doctype 94 = .ok (.aload_n 0, 1) := by decide +kernel
theorem dX1_doctype_95 : decode cX1_doctype 95 = .ok (.getfield 276, 3) := by decide +kernel
theorem dX1_doctype_98 : decode cX1_doctype 98 = .ok (.invokevirtual 279, 3) := by decide +kernel
theorem dX1_doctype_101 : decode cX1_doctype 101 = .ok (.invokestatic 297, 3) := by decide +kernel
theorem dX1_doctype_104 : decode cX1_doctype 104 = .ok (.ifCond .eq 10, 3) := by decide +kernel
theorem dX1_doctype_107 : decode cX1_doctype 107 = .ok (.aload_n 0, 1) := by decide +kernel
theorem dX1_doctype_108 : decode cX1_doctype 108 = .ok (.invokevirtual 300, 3) := by decide +kernel
theorem dX1_doctype_111 : decode cX1_doctype 111 = .ok (.goto (-38), 3) := by decide +kernel
theorem dX1_doctype_114 : decode cX1_doctype 114 = .ok (.aload_n 0, 1) := by decide +kernel
theorem dX1_doctype_115 : decode cX1_doctype 115 = .ok (.ldc2_w 343, 3) := by decide +kernel
theorem dX1_doctype_118 : decode cX1_doctype 118 = .ok (.iconst 4, 1) := by decide +kernel
theorem dX1_doctype_119 : decode cX1_doctype 119 = .ok (.invokevirtual 285, 3) := by decide +kernel
theorem dX1_doctype_122 : decode cX1_doctype 122 = .ok (.ifCond .eq 10, 3) := by decide +kernel
theorem dX1_doctype_125 : decode cX1_doctype 125 = .ok (.aload_n 0, 1) := by decide +kernel
theorem dX1_doctype_126 : decode cX1_doctype 126 = .ok (.invokevirtual 345, 3) := by decide +kernel
theorem dX1_doctype_129 : decode cX1_doctype 129 = .ok (.goto (-56), 3) := by decide +kernel
theorem dX1_doctype_132 : decode cX1_doctype 132 = .ok (.aload_n 0, 1) := by decide +kernel
theorem dX1_doctype_133 : decode cX1_doctype 133 = .ok (.ldc2_w 354, 3) := by decide +kernel
theorem dX1_doctype_136 : decode cX1_doctype 136 = .ok (.ldc2_w 356, 3) := by decide +kernel
theorem dX1_doctype_139 : decode cX1_doctype 139 = .ok (.iconst 1, 1) := by decide +kernel
theorem dX1_doctype_140 : decode cX1_doctype 140 = .ok (.invokevirtual 358, 3) := by decide +kernel
theorem dX1_doctype_143 : decode cX1_doctype 143 = .ok (.ifCond .eq 10, 3) := by decide +kernel
theorem dX1_doctype_146 : decode cX1_doctype 146 = .ok (.aload_n 0, 1) := by decide +kernel
theorem dX1_doctype_147 : decode cX1_doctype 147 = .ok (.invokevirtual 362, 3) := by decide +kernel
theorem dX1_doctype_150 : decode cX1_doctype 150 = .ok (.goto (-77), 3) := by decide +kernel
theorem dX1_doctype_153 : decode cX1_doctype 153 = .ok (.aload_n 0, 1) := by decide +kernel
theorem dX1_doctype_154 : decode cX1_doctype 154 = .ok (.ldc2_w 365, 3) := by decide +kernel
theorem dX1_doctype_157 : decode cX1_doctype 157 = .ok (.ldc2_w 356, 3) := by decide +kernel
theorem dX1_doctype_160 : decode cX1_doctype 160 = .ok (.iconst 1, 1) := by decide +kernel
theorem dX1_doctype_161 : decode cX1_doctype 161 = .ok (.invokevirtual 358, 3) := by decide +kernel
theorem dX1_doctype_164 : decode cX1_doctype 164 = .ok (.ifCond .eq 10, 3) := by decide +kernel
theorem dX1_doctype_167 : decode cX1_doctype 167 = .ok (.aload_n 0, 1) := by decide +kernel
theorem dX1_doctype_168 : decode cX1_doctype 168 = .ok (.invokevirtual 367, 3) := by decide +kernel
theorem dX1_doctype_171 : decode cX1_doctype 171 = .ok (.goto (-98), 3) := by decide +kernel
theorem dX1_doctype_174 : decode cX1_doctype 174 = .ok (.aload_n 0, 1) := by decide +kernel
theorem dX1_doctype_175 : decode cX1_doctype 175 = .ok (.iconst (-1), 1) := by decide +kernel
theorem dX1_doctype_176 : decode cX1_doctype 176 = .ok (.aload_n 0, 1) := by decide +kernel
theorem dX1_doctype_177 : decode cX1_doctype 177 = .ok (.getfield 276, 3) := by decide +kernel
theorem dX1_doctype_180 : decode cX1_doctype 180 = .ok (.invokevirtual 293, 3) := by decide +kernel
theorem dX1_doctype_183 : decode cX1_doctype 183 = .ok (.goto (-110), 3) := by decide +kernel
theorem dX1_doctype_186 : decode cX1_doctype 186 = .ok (.aload_n 0, 1) := by decide +kernel
theorem dX1_doctype_187 : decode cX1_doctype 187 = .ok (.bipush 93, 2) := by decide +kernel
theorem dX1_doctype_189 : decode cX1_doctype 189 = .ok (.invokevirtual 340, 3) := by decide +kernel
theorem dX1_doctype_192 : decode cX1_doctype 192 = .ok (.istore_n 2, 1) := by decide +kernel
theorem dX1_doctype_193 : decode cX1_doctype 193 = .ok (.aload_n 0, 1) := by decide +kernel
theorem dX1_doctype_194 : decode cX1_doctype 194 = .ok (.invokevirtual 300, 3) := by decide +kernel
theorem dX1_doctype_197 : decode cX1_doctype 197 = .ok (.aload_n 0, 1) := by decide +kernel
theorem dX1_doctype_198 : decode cX1_doctype 198 = .ok (.bipush 62, 2) := by decide +kernel
theorem dX1_doctype_200 : decode cX1_doctype 200 = .ok (.invokevirtual 340, 3) := by decide +kernel
theorem dX1_doctype_203 : decode cX1_doctype 203 = .ok (.istore_n 2, 1) := by decide +kernel
theorem dX1_doctype_204 : decode cX1_doctype 204 = .ok (.return_, 1) := by decide +kernel
def m_doctype_186 (σ : MEM) : Option zm_O := bd (m_passes σ 93) (fun r1 σ2 => bd (m_maybeS σ2) (fun _ σ4 => bd (m_passes σ4 62) (fun r5 σ6 => some (0, σ6))))
theorem w_doctype_186 {C : zv_Cx zm_O} {G : zm_G} (h : zv_Ok C cX1_doctype RX1) (hc : zm_C C G 3 (Option.none : Option FieldType) 0 7 165) (σ : MEM) : VV C (m_doctype_186 σ ) σ [(0, .ref (zm_h G))] [] 186 := by
  have hN : ∀ i, i < 3 → i < zv_n C := fun i q => by rw [hc.2.2.1]; exact q
  unfold m_doctype_186
  refine r_aload_n h 0 dX1_doctype_186 rfl rfl ?_
  refine r_bipush h dX1_doctype_187 (by decide) ?_
  refine zm_cVz h hc (n := 1) (As := [iv 93]) (fun o1 e1 => w_passes hc.1 _ 93 (by decide) o1 e1) q1840 q1842 qs63 q136 q1843 (by decide +kernel) ⟨by decide, by decide⟩ rfl (Nat.le_of_ble_eq_true rfl) rfl dX1_doctype_189 (fun r1 σ2 hr3 => ?_)
  refine r_istore_n (lv' := [(2, iv r1), (0, .ref (zm_h G))]) h dX1_doctype_192 rfl (hN _ (by decide)) rfl ?_
  refine r_aload_n h 1 dX1_doctype_193 rfl rfl ?_
  refine zm_cVv h hc (n := 0) (As := []) (fun o1 e1 => w_maybeS hc.1 _ o1 e1) q1813 q1815 qs59 q136 q1816 (by decide +kernel) ⟨by decide, by decide⟩ rfl (Nat.le_of_ble_eq_true rfl) rfl dX1_doctype_194 (fun σ4  => ?_)
  refine r_aload_n h 1 dX1_doctype_197 rfl rfl ?_
  refine r_bipush h dX1_doctype_198 (by decide) ?_
  refine zm_cVz h hc (n := 1) (As := [iv 62]) (fun o1 e1 => w_passes hc.1 _ 62 (by decide) o1 e1) q1840 q1842 qs63 q136 q1843 (by decide +kernel) ⟨by decide, by decide⟩ rfl (Nat.le_of_ble_eq_true rfl) rfl dX1_doctype_200 (fun r5 σ6 hr7 => ?_)
  refine r_istore_n (lv' := [(2, iv r5), (0, .ref (zm_h G))]) h dX1_doctype_203 rfl (hN _ (by decide)) rfl ?_
  exact zm_vret h hc rfl dX1_doctype_204
def m_doctype_73 : Nat → MEM → Option zm_O
  | 0, _ => none
  | n + 1, σ => bd (m_isGood σ) (fun r1 σ2 => if r1 = 0 then (m_doctype_186 σ2) else (bd (m_octet σ2 (σ2 (-1) 4)) (fun r5 σ6 => if r5 = 93 then (m_doctype_186 σ6) else (bd (m_octet σ6 (σ6 (-1) 4)) (fun r9 σ10 => bd (m_isS σ10 r9) (fun r12 σ13 => if r12 = 0 then (bd (m_stands σ13 1008807213 4) (fun r15 σ16 => if r15 = 0 then (bd (m_stands2 σ16 4332820510389650766 84 1) (fun r18 σ19 => if r18 = 0 then (bd (m_stands2 σ19 4332816146954471763 84 1) (fun r21 σ22 => if r21 = 0 then (bd (m_fail σ22 (-1) (σ22 (-1) 4)) (fun _ σ25 => m_doctype_73 n σ25)) else (bd (m_attributeList σ22) (fun _ σ26 => m_doctype_73 n σ26)))) else (bd (m_declaration σ19) (fun _ σ27 => m_doctype_73 n σ27)))) else (bd (m_comment σ16) (fun _ σ28 => m_doctype_73 n σ28)))) else (bd (m_maybeS σ13) (fun _ σ29 => m_doctype_73 n σ29))))))))
theorem w_doctype_73 {C : zv_Cx zm_O} {G : zm_G} (h : zv_Ok C cX1_doctype RX1) (hc : zm_C C G 3 (Option.none : Option FieldType) 0 7 165) : ∀ (n : Nat) (σ : MEM), VV C (m_doctype_73 n σ ) σ [(0, .ref (zm_h G))] [] 73 := by
  have hN : ∀ i, i < 3 → i < zv_n C := fun i q => by rw [hc.2.2.1]; exact q
  intro n
  induction n with
  | zero => intros; exact r_none
  | succ n ih =>
    intro σ  
    rw [m_doctype_73]
    refine r_aload_n h 0 dX1_doctype_73 rfl rfl ?_
    refine zm_cVz h hc (n := 0) (As := []) (fun o1 e1 => w_isGood hc.1 _ o1 e1) q1801 q1803 qs56 q136 q1804 (by decide +kernel) ⟨by decide, by decide⟩ rfl (Nat.le_of_ble_eq_true rfl) rfl dX1_doctype_74 (fun r1 σ2 hr3 => ?_)
    refine r_if_eq h hr3.r 186 dX1_doctype_77 rfl ?_ ?_
    · exact r_lv [0] rfl (w_doctype_186 h hc _)
    · refine r_aload_n h 0 dX1_doctype_80 rfl rfl ?_
      refine r_aload_n h 0 dX1_doctype_81 rfl rfl ?_
      refine zm_getI h hc 4 4 (by decide) rfl rfl q1484 rfl dX1_doctype_82 (fun hr4 => ?_)
      refine zm_cVi h hc (n := 1) (As := [iv (σ2 (-1) 4)]) (fun o1 e1 => w_octet hc.1 _ (σ2 (-1) 4) hr4 o1 e1) q1817 q1819 qs60 q136 q1820 (by decide +kernel) ⟨by decide, by decide⟩ rfl (Nat.le_of_ble_eq_true rfl) rfl dX1_doctype_85 (fun r5 σ6 hr7 => ?_)
      refine r_bipush h dX1_doctype_88 (by decide) ?_
      refine r_icmp_eq h hr7 (by decide) 186 dX1_doctype_90 rfl ?_ ?_
      · exact r_lv [0] rfl (w_doctype_186 h hc _)
      · refine r_aload_n h 0 dX1_doctype_93 rfl rfl ?_
        refine r_aload_n h 0 dX1_doctype_94 rfl rfl ?_
        refine zm_getI h hc 4 4 (by decide) rfl rfl q1484 rfl dX1_doctype_95 (fun hr8 => ?_)
        refine zm_cVi h hc (n := 1) (As := [iv (σ6 (-1) 4)]) (fun o1 e1 => w_octet hc.1 _ (σ6 (-1) 4) hr8 o1 e1) q1817 q1819 qs60 q136 q1820 (by decide +kernel) ⟨by decide, by decide⟩ rfl (Nat.le_of_ble_eq_true rfl) rfl dX1_doctype_98 (fun r9 σ10 hr11 => ?_)
        refine zm_cSz h hc (n := 1) (As := [iv r9]) (fun o1 e1 => w_isS hc.1 _ r9 hr11 o1 e1) q1821 q1822 q136 q1823 (by decide +kernel) ⟨by decide, by decide⟩ rfl (Nat.le_of_ble_eq_true rfl) rfl dX1_doctype_101 (fun r12 σ13 hr14 => ?_)
        refine r_if_eq h hr14.r 114 dX1_doctype_104 rfl ?_ ?_
        · refine r_aload_n h 0 dX1_doctype_114 rfl rfl ?_
          refine r_ldc2 (x := 1008807213) h q1824 (by decide) dX1_doctype_115 ?_
          refine r_iconst h dX1_doctype_118 ?_
          refine zm_cVz h hc (n := 2) (As := [jv 1008807213, iv 4]) (fun o1 e1 => w_stands hc.1 _ 1008807213 4 (by decide) (by decide) o1 e1) q1825 q1827 qs61 q136 q1828 (by decide +kernel) ⟨by decide, by decide⟩ rfl (Nat.le_of_ble_eq_true rfl) rfl dX1_doctype_119 (fun r15 σ16 hr17 => ?_)
          refine r_if_eq h hr17.r 132 dX1_doctype_122 rfl ?_ ?_
          · refine r_aload_n h 0 dX1_doctype_132 rfl rfl ?_
            refine r_ldc2 (x := 4332820510389650766) h q1874 (by decide) dX1_doctype_133 ?_
            refine r_ldc2 (x := 84) h q1875 (by decide) dX1_doctype_136 ?_
            refine r_iconst h dX1_doctype_139 ?_
            refine zm_cVz h hc (n := 3) (As := [jv 4332820510389650766, jv 84, iv 1]) (fun o1 e1 => w_stands2 hc.1 _ 4332820510389650766 84 1 (by decide) (by decide) (by decide) o1 e1) q1846 q1848 qs64 q136 q1849 (by decide +kernel) ⟨by decide, by decide⟩ rfl (Nat.le_of_ble_eq_true rfl) rfl dX1_doctype_140 (fun r18 σ19 hr20 => ?_)
            refine r_if_eq h hr20.r 153 dX1_doctype_143 rfl ?_ ?_
            · refine r_aload_n h 0 dX1_doctype_153 rfl rfl ?_
              refine r_ldc2 (x := 4332816146954471763) h q1911 (by decide) dX1_doctype_154 ?_
              refine r_ldc2 (x := 84) h q1875 (by decide) dX1_doctype_157 ?_
              refine r_iconst h dX1_doctype_160 ?_
              refine zm_cVz h hc (n := 3) (As := [jv 4332816146954471763, jv 84, iv 1]) (fun o1 e1 => w_stands2 hc.1 _ 4332816146954471763 84 1 (by decide) (by decide) (by decide) o1 e1) q1846 q1848 qs64 q136 q1849 (by decide +kernel) ⟨by decide, by decide⟩ rfl (Nat.le_of_ble_eq_true rfl) rfl dX1_doctype_161 (fun r21 σ22 hr23 => ?_)
              refine r_if_eq h hr23.r 174 dX1_doctype_164 rfl ?_ ?_
              · refine r_aload_n h 0 dX1_doctype_174 rfl rfl ?_
                refine r_iconst h dX1_doctype_175 ?_
                refine r_aload_n h 0 dX1_doctype_176 rfl rfl ?_
                refine zm_getI h hc 4 4 (by decide) rfl rfl q1484 rfl dX1_doctype_177 (fun hr24 => ?_)
                refine zm_cVv h hc (n := 2) (As := [iv (-1), iv (σ22 (-1) 4)]) (fun o1 e1 => w_fail hc.1 _ (-1) (σ22 (-1) 4) (by decide) hr24 o1 e1) q1805 q1807 qs57 q136 q1808 (by decide +kernel) ⟨by decide, by decide⟩ rfl (Nat.le_of_ble_eq_true rfl) rfl dX1_doctype_180 (fun σ25  => ?_)
                refine r_goto h 73 dX1_doctype_183 rfl ?_
                exact r_lv [0] rfl (ih _)
              · refine r_aload_n h 0 dX1_doctype_167 rfl rfl ?_
                refine zm_cVv h hc (n := 0) (As := []) (fun o1 e1 => w_attributeList hc.1 _ o1 e1) q1912 q1914 qs76 q136 q1915 (by decide +kernel) ⟨by decide, by decide⟩ rfl (Nat.le_of_ble_eq_true rfl) rfl dX1_doctype_168 (fun σ26  => ?_)
                refine r_goto h 73 dX1_doctype_171 rfl ?_
                exact r_lv [0] rfl (ih _)
            · refine r_aload_n h 0 dX1_doctype_146 rfl rfl ?_
              refine zm_cVv h hc (n := 0) (As := []) (fun o1 e1 => w_declaration hc.1 _ o1 e1) q1876 q1878 qs68 q136 q1879 (by decide +kernel) ⟨by decide, by decide⟩ rfl (Nat.le_of_ble_eq_true rfl) rfl dX1_doctype_147 (fun σ27  => ?_)
              refine r_goto h 73 dX1_doctype_150 rfl ?_
              exact r_lv [0] rfl (ih _)
          · refine r_aload_n h 0 dX1_doctype_125 rfl rfl ?_
            refine zm_cVv h hc (n := 0) (As := []) (fun o1 e1 => w_comment hc.1 _ o1 e1) q1830 q1832 qs62 q136 q1833 (by decide +kernel) ⟨by decide, by decide⟩ rfl (Nat.le_of_ble_eq_true rfl) rfl dX1_doctype_126 (fun σ28  => ?_)
            refine r_goto h 73 dX1_doctype_129 rfl ?_
            exact r_lv [0] rfl (ih _)
        · refine r_aload_n h 0 dX1_doctype_107 rfl rfl ?_
          refine zm_cVv h hc (n := 0) (As := []) (fun o1 e1 => w_maybeS hc.1 _ o1 e1) q1813 q1815 qs59 q136 q1816 (by decide +kernel) ⟨by decide, by decide⟩ rfl (Nat.le_of_ble_eq_true rfl) rfl dX1_doctype_108 (fun σ29  => ?_)
          refine r_goto h 73 dX1_doctype_111 rfl ?_
          exact r_lv [0] rfl (ih _)
def m_doctype (σ : MEM) : Option zm_O := ck (0 ≤ (σ (-1) 8) ∧ (σ (-1) 8) < 2) (nu (mup σ 10 (σ (-1) 8) 1) (fun σ2 => ck (inR ((σ2 (-1) 4) + 9)) (nu (mup σ2 (-1) 4 ((σ2 (-1) 4) + 9)) (fun σ5 => bd (m_mustS σ5) (fun _ σ6 => bd (m_takeName σ6) (fun r7 σ8 => ck (inR ((6000 * (σ8 (-1) 8)) + r7)) (ck (0 ≤ (σ8 (-1) 8) ∧ (σ8 (-1) 8) < 2) (nu (mup σ8 24 (σ8 (-1) 8) ((6000 * (σ8 (-1) 8)) + r7)) (fun σ13 => ck (0 ≤ (σ13 (-1) 8) ∧ (σ13 (-1) 8) < 2) (nu (mup σ13 25 (σ13 (-1) 8) (σ13 (-1) 51)) (fun σ16 => bd (m_maybeS σ16) (fun _ σ17 => bd (m_passes σ17 91) (fun r18 σ19 => m_doctype_73 zF σ19)))))))))))))
theorem w_doctype {G : zm_G} (hD : zm_D G) (σ : MEM) (o : zm_O) (hd : m_doctype σ  = some o) : zm_Met G yX1_doctype cX1_doctype 3 (Option.none : Option FieldType) 0 7 165 σ [.ref (zm_h G)] o := by
  refine zm_intro hD hd (by decide) rfl (Nat.le_of_ble_eq_true rfl) rfl (fun C h hc => ?_)
  have hN : ∀ i, i < 3 → i < zv_n C := fun i q => by rw [hc.2.2.1]; exact q
  unfold m_doctype
  refine r_aload_n h 0 dX1_doctype_0 rfl rfl ?_
  refine zm_getA h hc 10 (by decide) rfl q1490 rfl dX1_doctype_1 ?_
  refine r_aload_n h 0 dX1_doctype_4 rfl rfl ?_
  refine zm_getI h hc 8 8 (by decide) rfl rfl q1488 rfl dX1_doctype_5 (fun hr1 => ?_)
  refine r_iconst h dX1_doctype_8 ?_
  refine zm_stZ h hc 10 10 2 (by decide) rfl rfl rfl (by decide) (by decide) dX1_doctype_9 (fun _ σ2 _ => ?_)
  refine r_aload_n h 0 dX1_doctype_10 rfl rfl ?_
  refine r_dup h dX1_doctype_11 rfl ?_
  refine zm_getI h hc 4 4 (by decide) rfl rfl q1484 rfl dX1_doctype_12 (fun hr3 => ?_)
  refine r_bipush h dX1_doctype_15 (by decide) ?_
  refine r_iadd h dX1_doctype_17 ?_
  refine r_ck (fun hk4 => ?_)
  refine zm_putI h hc 4 4 (by decide) rfl rfl q1484 ⟨rfl, rfl, by decide +kernel⟩ hk4 dX1_doctype_18 (fun σ5 _ => ?_)
  refine r_aload_n h 0 dX1_doctype_21 rfl rfl ?_
  refine zm_cVv h hc (n := 0) (As := []) (fun o1 e1 => w_mustS hc.1 _ o1 e1) q1854 q1856 qs66 q136 q1857 (by decide +kernel) ⟨by decide, by decide⟩ rfl (Nat.le_of_ble_eq_true rfl) rfl dX1_doctype_22 (fun σ6  => ?_)
  refine r_aload_n h 0 dX1_doctype_25 rfl rfl ?_
  refine zm_cVi h hc (n := 0) (As := []) (fun o1 e1 => w_takeName hc.1 _ o1 e1) q1858 q1860 qs67 q136 q1861 (by decide +kernel) ⟨by decide, by decide⟩ rfl (Nat.le_of_ble_eq_true rfl) rfl dX1_doctype_26 (fun r7 σ8 hr9 => ?_)
  refine r_istore_n (lv' := [(1, iv r7), (0, .ref (zm_h G))]) h dX1_doctype_29 rfl (hN _ (by decide)) rfl ?_
  refine r_aload_n h 1 dX1_doctype_30 rfl rfl ?_
  refine zm_getA h hc 24 (by decide) rfl q1504 rfl dX1_doctype_31 ?_
  refine r_aload_n h 1 dX1_doctype_34 rfl rfl ?_
  refine zm_getI h hc 8 8 (by decide) rfl rfl q1488 rfl dX1_doctype_35 (fun hr10 => ?_)
  refine r_sipush h dX1_doctype_38 (by decide) ?_
  refine r_aload_n h 1 dX1_doctype_41 rfl rfl ?_
  refine zm_getI h hc 8 8 (by decide) rfl rfl q1488 rfl dX1_doctype_42 (fun hr11 => ?_)
  refine r_imul h dX1_doctype_45 ?_
  refine r_iload_n h 0 dX1_doctype_46 rfl rfl ?_
  refine r_iadd h dX1_doctype_47 ?_
  refine r_ck (fun hk12 => ?_)
  refine zm_stI h hc 24 24 2 (by decide) rfl rfl rfl (by decide) hk12 dX1_doctype_48 (fun _ σ13 _ => ?_)
  refine r_aload_n h 1 dX1_doctype_49 rfl rfl ?_
  refine zm_getA h hc 25 (by decide) rfl q1505 rfl dX1_doctype_50 ?_
  refine r_aload_n h 1 dX1_doctype_53 rfl rfl ?_
  refine zm_getI h hc 8 8 (by decide) rfl rfl q1488 rfl dX1_doctype_54 (fun hr14 => ?_)
  refine r_aload_n h 1 dX1_doctype_57 rfl rfl ?_
  refine zm_getI h hc 51 51 (by decide) rfl rfl q1531 rfl dX1_doctype_58 (fun hr15 => ?_)
  refine zm_stI h hc 25 25 2 (by decide) rfl rfl rfl (by decide) hr15 dX1_doctype_61 (fun _ σ16 _ => ?_)
  refine r_aload_n h 1 dX1_doctype_62 rfl rfl ?_
  refine zm_cVv h hc (n := 0) (As := []) (fun o1 e1 => w_maybeS hc.1 _ o1 e1) q1813 q1815 qs59 q136 q1816 (by decide +kernel) ⟨by decide, by decide⟩ rfl (Nat.le_of_ble_eq_true rfl) rfl dX1_doctype_63 (fun σ17  => ?_)
  refine r_aload_n h 1 dX1_doctype_66 rfl rfl ?_
  refine r_bipush h dX1_doctype_67 (by decide) ?_
  refine zm_cVz h hc (n := 1) (As := [iv 91]) (fun o1 e1 => w_passes hc.1 _ 91 (by decide) o1 e1) q1840 q1842 qs63 q136 q1843 (by decide +kernel) ⟨by decide, by decide⟩ rfl (Nat.le_of_ble_eq_true rfl) rfl dX1_doctype_69 (fun r18 σ19 hr20 => ?_)
  refine r_istore_n (lv' := [(2, iv r18), (1, iv r7), (0, .ref (zm_h G))]) h dX1_doctype_72 rfl (hN _ (by decide)) rfl ?_
  exact r_lv [2] rfl (w_doctype_73 h hc zF _)
theorem dX1_hasAttribute_0 : decode cX1_hasAttribute 0 = .ok (.iconst 0, 1) := by decide +kernel
theorem dX1_hasAttribute_1 : decode cX1_hasAttribute 1 = .ok (.istore 4, 2) := by decide +kernel
theorem dX1_hasAttribute_3 : decode cX1_hasAttribute 3 = .ok (.sipush 600, 3) := by decide +kernel
theorem dX1_hasAttribute_6 : decode cX1_hasAttribute 6 = .ok (.aload_n 0, 1) := by decide +kernel
theorem dX1_hasAttribute_7 : decode cX1_hasAttribute 7 = .ok (.getfield 328, 3) := by decide +kernel
theorem dX1_hasAttribute_10 : decode cX1_hasAttribute 10 = .ok (.imul, 1) := by decide +kernel
theorem dX1_hasAttribute_11 : decode cX1_hasAttribute 11 = .ok (.iload_n 1, 1) := by decide +kernel
theorem dX1_hasAttribute_12 : decode cX1_hasAttribute 12 = .ok (.iadd, 1) := by decide +kernel
theorem dX1_hasAttribute_13 : decode cX1_hasAttribute 13 = .ok (.istore 5, 2) := by decide +kernel
theorem dX1_hasAttribute_15 : decode cX1_hasAttribute 15 = .ok (.iload 5, 2) := by decide +kernel
theorem dX1_hasAttribute_17 : decode cX1_hasAttribute 17 = .ok (.sipush 600, 3) := by decide +kernel
theorem dX1_hasAttribute_20 : decode cX1_hasAttribute 20 = .ok (.aload_n 0, 1) := by decide +kernel
theorem dX1_hasAttribute_21 : decode cX1_hasAttribute 21 = .ok (.getfield 328, 3) := by decide +kernel
theorem dX1_hasAttribute_24 : decode cX1_hasAttribute 24 = .ok (.imul, 1) := by decide +kernel
theorem dX1_hasAttribute_25 : decode cX1_hasAttribute 25 = .ok (.aload_n 0, 1) := by decide +kernel
theorem dX1_hasAttribute_26 : decode cX1_hasAttribute 26 = .ok (.getfield 27, 3) := by decide +kernel
theorem dX1_hasAttribute_29 : decode cX1_hasAttribute 29 = .ok (.aload_n 0, 1) := by decide +kernel
theorem dX1_hasAttribute_30 : decode cX1_hasAttribute 30 = .ok (.getfield 328, 3) := by decide +kernel
theorem dX1_hasAttribute_33 : decode cX1_hasAttribute 33 = .ok (.iaload, 1) := by decide +kernel
theorem dX1_hasAttribute_34 : decode cX1_hasAttribute 34 = .ok (.iadd, 1) := by decide +kernel
theorem dX1_hasAttribute_35 : decode cX1_hasAttribute 35 = .ok (.if_icmp .ge 66, 3) := by decide +kernel
theorem dX1_hasAttribute_38 : decode cX1_hasAttribute 38 = .ok (.iload 4, 2) := by decide +kernel
theorem dX1_hasAttribute_40 : decode cX1_hasAttribute 40 = .ok (.ifCond .ne 48, 3) := by decide +kernel
theorem dX1_hasAttribute_43 : decode cX1_hasAttribute 43 = .ok (.aload_n 0, 1) := by decide +kernel
theorem dX1_hasAttribute_44 : decode cX1_hasAttribute 44 = .ok (.getfield 31, 3) := by decide +kernel
theorem dX1_hasAttribute_47 : decode cX1_hasAttribute 47 = .ok (.iload 5, 2) := by decide +kernel
theorem dX1_hasAttribute_49 : decode cX1_hasAttribute 49 = .ok (.iaload, 1) := by decide +kernel
theorem dX1_hasAttribute_50 : decode cX1_hasAttribute 50 = .ok (.iconst 2, 1) := by decide +kernel
theorem dX1_hasAttribute_51 : decode cX1_hasAttribute 51 = .ok (.if_icmp .ne 41, 3) := by decide +kernel
theorem dX1_hasAttribute_54 : decode cX1_hasAttribute 54 = .ok (.aload_n 0, 1) := by decide +kernel
theorem dX1_hasAttribute_55 : decode cX1_hasAttribute 55 = .ok (.getfield 34, 3) := by decide +kernel
theorem dX1_hasAttribute_58 : decode cX1_hasAttribute 58 = .ok (.iload 5, 2) := by decide +kernel
theorem dX1_hasAttribute_60 : decode cX1_hasAttribute 60 = .ok (.iaload, 1) := by decide +kernel
theorem dX1_hasAttribute_61 : decode cX1_hasAttribute 61 = .ok (.iload_n 1, 1) := by decide +kernel
theorem dX1_hasAttribute_62 : decode cX1_hasAttribute 62 = .ok (.if_icmp .ne 30, 3) := by decide +kernel
theorem dX1_hasAttribute_65 : decode cX1_hasAttribute 65 = .ok (.aload_n 0, 1) := by decide +kernel
theorem dX1_hasAttribute_66 : decode cX1_hasAttribute 66 = .ok (.aload_n 0, 1) := by decide +kernel
theorem dX1_hasAttribute_67 : decode cX1_hasAttribute 67 = .ok (.getfield 37, 3) := by decide +kernel
theorem dX1_hasAttribute_70 : decode cX1_hasAttribute 70 = .ok (.iload 5, 2) := by decide +kernel
theorem dX1_hasAttribute_72 : decode cX1_hasAttribute 72 = .ok (.iaload, 1) := by decide +kernel
theorem dX1_hasAttribute_73 : decode cX1_hasAttribute 73 = .ok (.aload_n 0, 1) := by decide +kernel
theorem dX1_hasAttribute_74 : decode cX1_hasAttribute 74 = .ok (.getfield 40, 3) := by decide +kernel
theorem dX1_hasAttribute_77 : decode cX1_hasAttribute 77 = .ok (.iload 5, 2) := by decide +kernel
theorem dX1_hasAttribute_79 : decode cX1_hasAttribute 79 = .ok (.iaload, 1) := by decide +kernel
theorem dX1_hasAttribute_80 : decode cX1_hasAttribute 80 = .ok (.iload_n 2, 1) := by decide +kernel
theorem dX1_hasAttribute_81 : decode cX1_hasAttribute 81 = .ok (.iload_n 3, 1) := by decide +kernel
theorem dX1_hasAttribute_82 : decode cX1_hasAttribute 82 = .ok (.invokevirtual 412, 3) := by decide +kernel
theorem dX1_hasAttribute_85 : decode cX1_hasAttribute 85 = .ok (.ifCond .eq 7, 3) := by decide +kernel
theorem dX1_hasAttribute_88 : decode cX1_hasAttribute 88 = .ok (.iconst 1, 1) := by decide +kernel
theorem dX1_hasAttribute_89 : decode cX1_hasAttribute 89 = .ok (.goto 4, 3) := by decide +kernel
theorem dX1_hasAttribute_92 : decode cX1_hasAttribute 92 = .ok (.iconst 0, 1) := by decide +kernel
theorem dX1_hasAttribute_93 : decode cX1_hasAttribute 93 = .ok (.istore 4, 2) := by decide +kernel
theorem dX1_hasAttribute_95 : decode cX1_hasAttribute 95 = .ok (.iinc 5 1, 3) := by decide +kernel
theorem dX1_hasAttribute_98 : decode cX1_hasAttribute 98 = .ok (.goto (-83), 3) := by decide +kernel
theorem dX1_hasAttribute_101 : decode cX1_hasAttribute 101 = .ok (.iload 4, 2) := by decide +kernel
theorem dX1_hasAttribute_103 : decode cX1_hasAttribute 103 = .ok (.ireturn, 1) := by decide +kernel
def m_hasAttribute_15 : Nat → MEM → Int → Int → Int → Int → Int → Option zm_O
  | 0, _, _, _, _, _, _ => none
  | n + 1, σ, x1, x2, x3, x4, x5 => ck (0 ≤ (σ (-1) 8) ∧ (σ (-1) 8) < 2) (ck (inR ((600 * (σ (-1) 8)) + (σ 12 (σ (-1) 8)))) (if ((600 * (σ (-1) 8)) + (σ 12 (σ (-1) 8))) ≤ x5 then (some (x4, σ)) else (if x4 = 0 then (ck (0 ≤ x5 ∧ x5 < 1200) (if (σ 13 x5) = 2 then (ck (0 ≤ x5 ∧ x5 < 1200) (if (σ 14 x5) = x1 then (ck (0 ≤ x5 ∧ x5 < 1200) (ck (0 ≤ x5 ∧ x5 < 1200) (bd (m_isSame σ (σ 15 x5) (σ 16 x5) x2 x3) (fun r9 σ10 => if r9 = 0 then (ck (inR (x5 + 1)) (m_hasAttribute_15 n σ10 x1 x2 x3 0 (x5 + 1))) else (ck (inR (x5 + 1)) (m_hasAttribute_15 n σ10 x1 x2 x3 1 (x5 + 1))))))) else (ck (inR (x5 + 1)) (m_hasAttribute_15 n σ x1 x2 x3 0 (x5 + 1))))) else (ck (inR (x5 + 1)) (m_hasAttribute_15 n σ x1 x2 x3 0 (x5 + 1))))) else (ck (inR (x5 + 1)) (m_hasAttribute_15 n σ x1 x2 x3 1 (x5 + 1))))))
theorem w_hasAttribute_15 {C : zv_Cx zm_O} {G : zm_G} (h : zv_Ok C cX1_hasAttribute RX1) (hc : zm_C C G 6 (Option.some FieldType.boolean) 3 1 26) : ∀ (n : Nat) (σ : MEM) (x1 x2 x3 x4 x5 : Int), inR x1 → inR x2 → inR x3 → isB x4 → inR x5 → VV C (m_hasAttribute_15 n σ x1 x2 x3 x4 x5) σ [(0, .ref (zm_h G)), (1, iv x1), (2, iv x2), (3, iv x3), (4, iv x4), (5, iv x5)] [] 15 := by
  have hN : ∀ i, i < 6 → i < zv_n C := fun i q => by rw [hc.2.2.1]; exact q
  intro n
  induction n with
  | zero => intros; exact r_none
  | succ n ih =>
    intro σ x1 x2 x3 x4 x5 hx1 hx2 hx3 hx4 hx5
    rw [m_hasAttribute_15]
    refine r_iload h 5 dX1_hasAttribute_15 rfl ?_
    refine r_sipush h dX1_hasAttribute_17 (by decide) ?_
    refine r_aload_n h 0 dX1_hasAttribute_20 rfl rfl ?_
    refine zm_getI h hc 8 8 (by decide) rfl rfl q1488 rfl dX1_hasAttribute_21 (fun hr1 => ?_)
    refine r_imul h dX1_hasAttribute_24 ?_
    refine r_aload_n h 0 dX1_hasAttribute_25 rfl rfl ?_
    refine zm_getA h hc 12 (by decide) rfl q1492 rfl dX1_hasAttribute_26 ?_
    refine r_aload_n h 0 dX1_hasAttribute_29 rfl rfl ?_
    refine zm_getI h hc 8 8 (by decide) rfl rfl q1488 rfl dX1_hasAttribute_30 (fun hr2 => ?_)
    refine zm_ldI h hc 12 12 2 (by decide) rfl rfl rfl (by decide) dX1_hasAttribute_33 (fun _ hr3 => ?_)
    refine r_iadd h dX1_hasAttribute_34 ?_
    refine r_ck (fun hk4 => ?_)
    refine r_icmp_ge h hx5 hk4 101 dX1_hasAttribute_35 rfl ?_ ?_
    · refine r_iload h 4 dX1_hasAttribute_101 rfl ?_
      exact zm_zret h hc rfl hx4 dX1_hasAttribute_103
    · refine r_iload h 4 dX1_hasAttribute_38 rfl ?_
      refine r_if_ne h hx4.r 88 dX1_hasAttribute_40 rfl ?_ ?_
      · refine r_aload_n h 0 dX1_hasAttribute_43 rfl rfl ?_
        refine zm_getA h hc 13 (by decide) rfl q1493 rfl dX1_hasAttribute_44 ?_
        refine r_iload h 5 dX1_hasAttribute_47 rfl ?_
        refine zm_ldI h hc 13 13 1200 (by decide) rfl rfl rfl (by decide) dX1_hasAttribute_49 (fun _ hr5 => ?_)
        refine r_iconst h dX1_hasAttribute_50 ?_
        refine r_icmp_ne h hr5 (by decide) 92 dX1_hasAttribute_51 rfl ?_ ?_
        · refine r_aload_n h 0 dX1_hasAttribute_54 rfl rfl ?_
          refine zm_getA h hc 14 (by decide) rfl q1494 rfl dX1_hasAttribute_55 ?_
          refine r_iload h 5 dX1_hasAttribute_58 rfl ?_
          refine zm_ldI h hc 14 14 1200 (by decide) rfl rfl rfl (by decide) dX1_hasAttribute_60 (fun _ hr6 => ?_)
          refine r_iload_n h 1 dX1_hasAttribute_61 rfl rfl ?_
          refine r_icmp_ne h hr6 hx1 92 dX1_hasAttribute_62 rfl ?_ ?_
          · refine r_aload_n h 0 dX1_hasAttribute_65 rfl rfl ?_
            refine r_aload_n h 0 dX1_hasAttribute_66 rfl rfl ?_
            refine zm_getA h hc 15 (by decide) rfl q1495 rfl dX1_hasAttribute_67 ?_
            refine r_iload h 5 dX1_hasAttribute_70 rfl ?_
            refine zm_ldI h hc 15 15 1200 (by decide) rfl rfl rfl (by decide) dX1_hasAttribute_72 (fun _ hr7 => ?_)
            refine r_aload_n h 0 dX1_hasAttribute_73 rfl rfl ?_
            refine zm_getA h hc 16 (by decide) rfl q1496 rfl dX1_hasAttribute_74 ?_
            refine r_iload h 5 dX1_hasAttribute_77 rfl ?_
            refine zm_ldI h hc 16 16 1200 (by decide) rfl rfl rfl (by decide) dX1_hasAttribute_79 (fun _ hr8 => ?_)
            refine r_iload_n h 2 dX1_hasAttribute_80 rfl rfl ?_
            refine r_iload_n h 3 dX1_hasAttribute_81 rfl rfl ?_
            refine zm_cVz h hc (n := 4) (As := [iv (σ 15 x5), iv (σ 16 x5), iv x2, iv x3]) (fun o1 e1 => w_isSame hc.1 _ (σ 15 x5) (σ 16 x5) x2 x3 hr7 hr8 hx2 hx3 o1 e1) q1924 q1926 qs79 q136 q1927 (by decide +kernel) ⟨by decide, by decide⟩ rfl (Nat.le_of_ble_eq_true rfl) rfl dX1_hasAttribute_82 (fun r9 σ10 hr11 => ?_)
            refine r_if_eq h hr11.r 92 dX1_hasAttribute_85 rfl ?_ ?_
            · refine r_iconst h dX1_hasAttribute_92 ?_
              refine r_istore (lv' := [(4, iv 0), (0, .ref (zm_h G)), (1, iv x1), (2, iv x2), (3, iv x3), (5, iv x5)]) h dX1_hasAttribute_93 (hN _ (by decide)) rfl ?_
              refine r_iinc (lv' := [(5, iv (x5 + 1)), (4, iv 0), (0, .ref (zm_h G)), (1, iv x1), (2, iv x2), (3, iv x3)]) h 5 dX1_hasAttribute_95 rfl (hN _ (by decide)) rfl ?_
              refine r_goto h 15 dX1_hasAttribute_98 rfl ?_
              refine r_ck (fun hk12 => ?_)
              exact r_lv [2, 3, 4, 5, 1, 0] rfl (ih _ x1 x2 x3 0 (x5 + 1) hx1 hx2 hx3 (by decide) hk12)
            · refine r_iconst h dX1_hasAttribute_88 ?_
              refine r_goto h 93 dX1_hasAttribute_89 rfl ?_
              refine r_istore (lv' := [(4, iv 1), (0, .ref (zm_h G)), (1, iv x1), (2, iv x2), (3, iv x3), (5, iv x5)]) h dX1_hasAttribute_93 (hN _ (by decide)) rfl ?_
              refine r_iinc (lv' := [(5, iv (x5 + 1)), (4, iv 1), (0, .ref (zm_h G)), (1, iv x1), (2, iv x2), (3, iv x3)]) h 5 dX1_hasAttribute_95 rfl (hN _ (by decide)) rfl ?_
              refine r_goto h 15 dX1_hasAttribute_98 rfl ?_
              refine r_ck (fun hk13 => ?_)
              exact r_lv [2, 3, 4, 5, 1, 0] rfl (ih _ x1 x2 x3 1 (x5 + 1) hx1 hx2 hx3 (by decide) hk13)
          · refine r_iconst h dX1_hasAttribute_92 ?_
            refine r_istore (lv' := [(4, iv 0), (0, .ref (zm_h G)), (1, iv x1), (2, iv x2), (3, iv x3), (5, iv x5)]) h dX1_hasAttribute_93 (hN _ (by decide)) rfl ?_
            refine r_iinc (lv' := [(5, iv (x5 + 1)), (4, iv 0), (0, .ref (zm_h G)), (1, iv x1), (2, iv x2), (3, iv x3)]) h 5 dX1_hasAttribute_95 rfl (hN _ (by decide)) rfl ?_
            refine r_goto h 15 dX1_hasAttribute_98 rfl ?_
            refine r_ck (fun hk14 => ?_)
            exact r_lv [2, 3, 4, 5, 1, 0] rfl (ih _ x1 x2 x3 0 (x5 + 1) hx1 hx2 hx3 (by decide) hk14)
        · refine r_iconst h dX1_hasAttribute_92 ?_
          refine r_istore (lv' := [(4, iv 0), (0, .ref (zm_h G)), (1, iv x1), (2, iv x2), (3, iv x3), (5, iv x5)]) h dX1_hasAttribute_93 (hN _ (by decide)) rfl ?_
          refine r_iinc (lv' := [(5, iv (x5 + 1)), (4, iv 0), (0, .ref (zm_h G)), (1, iv x1), (2, iv x2), (3, iv x3)]) h 5 dX1_hasAttribute_95 rfl (hN _ (by decide)) rfl ?_
          refine r_goto h 15 dX1_hasAttribute_98 rfl ?_
          refine r_ck (fun hk15 => ?_)
          exact r_lv [2, 3, 4, 5, 1, 0] rfl (ih _ x1 x2 x3 0 (x5 + 1) hx1 hx2 hx3 (by decide) hk15)
      · refine r_iconst h dX1_hasAttribute_88 ?_
        refine r_goto h 93 dX1_hasAttribute_89 rfl ?_
        refine r_istore (lv' := [(4, iv 1), (0, .ref (zm_h G)), (1, iv x1), (2, iv x2), (3, iv x3), (5, iv x5)]) h dX1_hasAttribute_93 (hN _ (by decide)) rfl ?_
        refine r_iinc (lv' := [(5, iv (x5 + 1)), (4, iv 1), (0, .ref (zm_h G)), (1, iv x1), (2, iv x2), (3, iv x3)]) h 5 dX1_hasAttribute_95 rfl (hN _ (by decide)) rfl ?_
        refine r_goto h 15 dX1_hasAttribute_98 rfl ?_
        refine r_ck (fun hk16 => ?_)
        exact r_lv [2, 3, 4, 5, 1, 0] rfl (ih _ x1 x2 x3 1 (x5 + 1) hx1 hx2 hx3 (by decide) hk16)
def m_hasAttribute (σ : MEM) (a0 a1 a2 : Int) : Option zm_O := ck (inR ((600 * (σ (-1) 8)) + a0)) (m_hasAttribute_15 zF σ a0 a1 a2 0 ((600 * (σ (-1) 8)) + a0))
theorem w_hasAttribute {G : zm_G} (hD : zm_D G) (σ : MEM) (a0 a1 a2 : Int) (ha0 : inR a0) (ha1 : inR a1) (ha2 : inR a2) (o : zm_O) (hd : m_hasAttribute σ a0 a1 a2 = some o) : zm_Met G yX1_hasAttribute cX1_hasAttribute 6 (Option.some FieldType.boolean) 3 1 26 σ [.ref (zm_h G), iv a0, iv a1, iv a2] o := by
  refine zm_intro hD hd (by decide) rfl (Nat.le_of_ble_eq_true rfl) rfl (fun C h hc => ?_)
  have hN : ∀ i, i < 6 → i < zv_n C := fun i q => by rw [hc.2.2.1]; exact q
  unfold m_hasAttribute
  refine r_iconst h dX1_hasAttribute_0 ?_
  refine r_istore (lv' := [(4, iv 0), (0, .ref (zm_h G)), (1, iv a0), (2, iv a1), (3, iv a2)]) h dX1_hasAttribute_1 (hN _ (by decide)) rfl ?_
  refine r_sipush h dX1_hasAttribute_3 (by decide) ?_
  refine r_aload_n h 1 dX1_hasAttribute_6 rfl rfl ?_
  refine zm_getI h hc 8 8 (by decide) rfl rfl q1488 rfl dX1_hasAttribute_7 (fun hr1 => ?_)
  refine r_imul h dX1_hasAttribute_10 ?_
  refine r_iload_n h 2 dX1_hasAttribute_11 rfl rfl ?_
  refine r_iadd h dX1_hasAttribute_12 ?_
  refine r_istore (lv' := [(5, iv ((600 * (σ (-1) 8)) + a0)), (4, iv 0), (0, .ref (zm_h G)), (1, iv a0), (2, iv a1), (3, iv a2)]) h dX1_hasAttribute_13 (hN _ (by decide)) rfl ?_
  refine r_ck (fun hk2 => ?_)
  exact r_lv [2, 3, 4, 5, 1, 0] rfl (w_hasAttribute_15 h hc zF _ a0 a1 a2 0 ((600 * (σ (-1) 8)) + a0) ha0 ha1 ha2 (by decide) hk2)
theorem dX1_attributesOf_0 : decode cX1_attributesOf 0 = .ok (.iconst 0, 1) := by decide +kernel
theorem dX1_attributesOf_1 : decode cX1_attributesOf 1 = .ok (.istore_n 2, 1) := by decide +kernel
theorem dX1_attributesOf_2 : decode cX1_attributesOf 2 = .ok (.sipush 600, 3) := by decide +kernel
theorem dX1_attributesOf_5 : decode cX1_attributesOf 5 = .ok (.aload_n 0, 1) := by decide +kernel
theorem dX1_attributesOf_6 : decode cX1_attributesOf 6 = .ok (.getfield 328, 3) := by decide +kernel
theorem dX1_attributesOf_9 : decode cX1_attributesOf 9 = .ok (.imul, 1) := by decide +kernel
theorem dX1_attributesOf_10 : decode cX1_attributesOf 10 = .ok (.iload_n 1, 1) := by decide +kernel
theorem dX1_attributesOf_11 : decode cX1_attributesOf 11 = .ok (.iadd, 1) := by decide +kernel
theorem dX1_attributesOf_12 : decode cX1_attributesOf 12 = .ok (.istore_n 3, 1) := by decide +kernel
theorem dX1_attributesOf_13 : decode cX1_attributesOf 13 = .ok (.iload_n 3, 1) := by decide +kernel
theorem dX1_attributesOf_14 : decode cX1_attributesOf 14 = .ok (.sipush 600, 3) := by decide +kernel
theorem dX1_attributesOf_17 : decode cX1_attributesOf 17 = .ok (.aload_n 0, 1) := by decide +kernel
theorem dX1_attributesOf_18 : decode cX1_attributesOf 18 = .ok (.getfield 328, 3) := by decide +kernel
theorem dX1_attributesOf_21 : decode cX1_attributesOf 21 = .ok (.imul, 1) := by decide +kernel
theorem dX1_attributesOf_22 : decode cX1_attributesOf 22 = .ok (.aload_n 0, 1) := by decide +kernel
theorem dX1_attributesOf_23 : decode cX1_attributesOf 23 = .ok (.getfield 27, 3) := by decide +kernel
theorem dX1_attributesOf_26 : decode cX1_attributesOf 26 = .ok (.aload_n 0, 1) := by decide +kernel
theorem dX1_attributesOf_27 : decode cX1_attributesOf 27 = .ok (.getfield 328, 3) := by decide +kernel
theorem dX1_attributesOf_30 : decode cX1_attributesOf 30 = .ok (.iaload, 1) := by decide +kernel
theorem dX1_attributesOf_31 : decode cX1_attributesOf 31 = .ok (.iadd, 1) := by decide +kernel
theorem dX1_attributesOf_32 : decode cX1_attributesOf 32 = .ok (.if_icmp .ge 37, 3) := by decide +kernel
theorem dX1_attributesOf_35 : decode cX1_attributesOf 35 = .ok (.iload_n 2, 1) := by decide +kernel
theorem dX1_attributesOf_36 : decode cX1_attributesOf 36 = .ok (.aload_n 0, 1) := by decide +kernel
theorem dX1_attributesOf_37 : decode cX1_attributesOf 37 = .ok (.getfield 31, 3) := by decide +kernel
theorem dX1_attributesOf_40 : decode cX1_attributesOf 40 = .ok (.iload_n 3, 1) := by decide +kernel
theorem dX1_attributesOf_41 : decode cX1_attributesOf 41 = .ok (.iaload, 1) := by decide +kernel
theorem dX1_attributesOf_42 : decode cX1_attributesOf 42 = .ok (.iconst 2, 1) := by decide +kernel
theorem dX1_attributesOf_43 : decode cX1_attributesOf 43 = .ok (.if_icmp .ne 17, 3) := by decide +kernel
theorem dX1_attributesOf_46 : decode cX1_attributesOf 46 = .ok (.aload_n 0, 1) := by decide +kernel
theorem dX1_attributesOf_47 : decode cX1_attributesOf 47 = .ok (.getfield 34, 3) := by decide +kernel
theorem dX1_attributesOf_50 : decode cX1_attributesOf 50 = .ok (.iload_n 3, 1) := by decide +kernel
theorem dX1_attributesOf_51 : decode cX1_attributesOf 51 = .ok (.iaload, 1) := by decide +kernel
theorem dX1_attributesOf_52 : decode cX1_attributesOf 52 = .ok (.iload_n 1, 1) := by decide +kernel
theorem dX1_attributesOf_53 : decode cX1_attributesOf 53 = .ok (.if_icmp .ne 7, 3) := by decide +kernel
theorem dX1_attributesOf_56 : decode cX1_attributesOf 56 = .ok (.iconst 1, 1) := by decide +kernel
theorem dX1_attributesOf_57 : decode cX1_attributesOf 57 = .ok (.goto 4, 3) := by decide +kernel
theorem dX1_attributesOf_60 : decode cX1_attributesOf 60 = .ok (.iconst 0, 1) := by decide +kernel
theorem dX1_attributesOf_61 : decode cX1_attributesOf 61 = .ok (.iadd, 1) := by decide +kernel
theorem dX1_attributesOf_62 : decode cX1_attributesOf 62 = .ok (.istore_n 2, 1) := by decide +kernel
theorem dX1_attributesOf_63 : decode cX1_attributesOf 63 = .ok (.iinc 3 1, 3) := by decide +kernel
theorem dX1_attributesOf_66 : decode cX1_attributesOf 66 = .ok (.goto (-53), 3) := by decide +kernel
theorem dX1_attributesOf_69 : decode cX1_attributesOf 69 = .ok (.iload_n 2, 1) := by decide +kernel
theorem dX1_attributesOf_70 : decode cX1_attributesOf 70 = .ok (.ireturn, 1) := by decide +kernel
def m_attributesOf_13 : Nat → MEM → Int → Int → Int → Option zm_O
  | 0, _, _, _, _ => none
  | n + 1, σ, x1, x2, x3 => ck (0 ≤ (σ (-1) 8) ∧ (σ (-1) 8) < 2) (ck (inR ((600 * (σ (-1) 8)) + (σ 12 (σ (-1) 8)))) (if ((600 * (σ (-1) 8)) + (σ 12 (σ (-1) 8))) ≤ x3 then (some (x2, σ)) else (ck (0 ≤ x3 ∧ x3 < 1200) (if (σ 13 x3) = 2 then (ck (0 ≤ x3 ∧ x3 < 1200) (if (σ 14 x3) = x1 then (ck (inR (x2 + 1)) (ck (inR (x3 + 1)) (m_attributesOf_13 n σ x1 (x2 + 1) (x3 + 1)))) else (ck (inR (x2 + 0)) (ck (inR (x3 + 1)) (m_attributesOf_13 n σ x1 (x2 + 0) (x3 + 1)))))) else (ck (inR (x2 + 0)) (ck (inR (x3 + 1)) (m_attributesOf_13 n σ x1 (x2 + 0) (x3 + 1))))))))
theorem w_attributesOf_13 {C : zv_Cx zm_O} {G : zm_G} (h : zv_Ok C cX1_attributesOf RX1) (hc : zm_C C G 4 (Option.some FieldType.int) 1 0 0) : ∀ (n : Nat) (σ : MEM) (x1 x2 x3 : Int), inR x1 → inR x2 → inR x3 → VV C (m_attributesOf_13 n σ x1 x2 x3) σ [(0, .ref (zm_h G)), (1, iv x1), (2, iv x2), (3, iv x3)] [] 13 := by
  have hN : ∀ i, i < 4 → i < zv_n C := fun i q => by rw [hc.2.2.1]; exact q
  intro n
  induction n with
  | zero => intros; exact r_none
  | succ n ih =>
    intro σ x1 x2 x3 hx1 hx2 hx3
    rw [m_attributesOf_13]
    refine r_iload_n h 3 dX1_attributesOf_13 rfl rfl ?_
    refine r_sipush h dX1_attributesOf_14 (by decide) ?_
    refine r_aload_n h 0 dX1_attributesOf_17 rfl rfl ?_
    refine zm_getI h hc 8 8 (by decide) rfl rfl q1488 rfl dX1_attributesOf_18 (fun hr1 => ?_)
    refine r_imul h dX1_attributesOf_21 ?_
    refine r_aload_n h 0 dX1_attributesOf_22 rfl rfl ?_
    refine zm_getA h hc 12 (by decide) rfl q1492 rfl dX1_attributesOf_23 ?_
    refine r_aload_n h 0 dX1_attributesOf_26 rfl rfl ?_
    refine zm_getI h hc 8 8 (by decide) rfl rfl q1488 rfl dX1_attributesOf_27 (fun hr2 => ?_)
    refine zm_ldI h hc 12 12 2 (by decide) rfl rfl rfl (by decide) dX1_attributesOf_30 (fun _ hr3 => ?_)
    refine r_iadd h dX1_attributesOf_31 ?_
    refine r_ck (fun hk4 => ?_)
    refine r_icmp_ge h hx3 hk4 69 dX1_attributesOf_32 rfl ?_ ?_
    · refine r_iload_n h 2 dX1_attributesOf_69 rfl rfl ?_
      exact zm_iret h hc rfl hx2 dX1_attributesOf_70
    · refine r_iload_n h 2 dX1_attributesOf_35 rfl rfl ?_
      refine r_aload_n h 0 dX1_attributesOf_36 rfl rfl ?_
      refine zm_getA h hc 13 (by decide) rfl q1493 rfl dX1_attributesOf_37 ?_
      refine r_iload_n h 3 dX1_attributesOf_40 rfl rfl ?_
      refine zm_ldI h hc 13 13 1200 (by decide) rfl rfl rfl (by decide) dX1_attributesOf_41 (fun _ hr5 => ?_)
      refine r_iconst h dX1_attributesOf_42 ?_
      refine r_icmp_ne h hr5 (by decide) 60 dX1_attributesOf_43 rfl ?_ ?_
      · refine r_aload_n h 0 dX1_attributesOf_46 rfl rfl ?_
        refine zm_getA h hc 14 (by decide) rfl q1494 rfl dX1_attributesOf_47 ?_
        refine r_iload_n h 3 dX1_attributesOf_50 rfl rfl ?_
        refine zm_ldI h hc 14 14 1200 (by decide) rfl rfl rfl (by decide) dX1_attributesOf_51 (fun _ hr6 => ?_)
        refine r_iload_n h 1 dX1_attributesOf_52 rfl rfl ?_
        refine r_icmp_ne h hr6 hx1 60 dX1_attributesOf_53 rfl ?_ ?_
        · refine r_iconst h dX1_attributesOf_56 ?_
          refine r_goto h 61 dX1_attributesOf_57 rfl ?_
          refine r_iadd h dX1_attributesOf_61 ?_
          refine r_istore_n (lv' := [(2, iv (x2 + 1)), (0, .ref (zm_h G)), (1, iv x1), (3, iv x3)]) h dX1_attributesOf_62 rfl (hN _ (by decide)) rfl ?_
          refine r_iinc (lv' := [(3, iv (x3 + 1)), (2, iv (x2 + 1)), (0, .ref (zm_h G)), (1, iv x1)]) h 3 dX1_attributesOf_63 rfl (hN _ (by decide)) rfl ?_
          refine r_goto h 13 dX1_attributesOf_66 rfl ?_
          refine r_ck (fun hk7 => ?_)
          refine r_ck (fun hk8 => ?_)
          exact r_lv [2, 3, 1, 0] rfl (ih _ x1 (x2 + 1) (x3 + 1) hx1 hk7 hk8)
        · refine r_iconst h dX1_attributesOf_60 ?_
          refine r_iadd h dX1_attributesOf_61 ?_
          refine r_istore_n (lv' := [(2, iv (x2 + 0)), (0, .ref (zm_h G)), (1, iv x1), (3, iv x3)]) h dX1_attributesOf_62 rfl (hN _ (by decide)) rfl ?_
          refine r_iinc (lv' := [(3, iv (x3 + 1)), (2, iv (x2 + 0)), (0, .ref (zm_h G)), (1, iv x1)]) h 3 dX1_attributesOf_63 rfl (hN _ (by decide)) rfl ?_
          refine r_goto h 13 dX1_attributesOf_66 rfl ?_
          refine r_ck (fun hk9 => ?_)
          refine r_ck (fun hk10 => ?_)
          exact r_lv [2, 3, 1, 0] rfl (ih _ x1 (x2 + 0) (x3 + 1) hx1 hk9 hk10)
      · refine r_iconst h dX1_attributesOf_60 ?_
        refine r_iadd h dX1_attributesOf_61 ?_
        refine r_istore_n (lv' := [(2, iv (x2 + 0)), (0, .ref (zm_h G)), (1, iv x1), (3, iv x3)]) h dX1_attributesOf_62 rfl (hN _ (by decide)) rfl ?_
        refine r_iinc (lv' := [(3, iv (x3 + 1)), (2, iv (x2 + 0)), (0, .ref (zm_h G)), (1, iv x1)]) h 3 dX1_attributesOf_63 rfl (hN _ (by decide)) rfl ?_
        refine r_goto h 13 dX1_attributesOf_66 rfl ?_
        refine r_ck (fun hk11 => ?_)
        refine r_ck (fun hk12 => ?_)
        exact r_lv [2, 3, 1, 0] rfl (ih _ x1 (x2 + 0) (x3 + 1) hx1 hk11 hk12)
def m_attributesOf (σ : MEM) (a0 : Int) : Option zm_O := ck (inR ((600 * (σ (-1) 8)) + a0)) (m_attributesOf_13 zF σ a0 0 ((600 * (σ (-1) 8)) + a0))
theorem w_attributesOf {G : zm_G} (hD : zm_D G) (σ : MEM) (a0 : Int) (ha0 : inR a0) (o : zm_O) (hd : m_attributesOf σ a0 = some o) : zm_Met G yX1_attributesOf cX1_attributesOf 4 (Option.some FieldType.int) 1 0 0 σ [.ref (zm_h G), iv a0] o := by
  refine zm_intro hD hd (by decide) rfl (Nat.le_of_ble_eq_true rfl) rfl (fun C h hc => ?_)
  have hN : ∀ i, i < 4 → i < zv_n C := fun i q => by rw [hc.2.2.1]; exact q
  unfold m_attributesOf
  refine r_iconst h dX1_attributesOf_0 ?_
  refine r_istore_n (lv' := [(2, iv 0), (0, .ref (zm_h G)), (1, iv a0)]) h dX1_attributesOf_1 rfl (hN _ (by decide)) rfl ?_
  refine r_sipush h dX1_attributesOf_2 (by decide) ?_
  refine r_aload_n h 1 dX1_attributesOf_5 rfl rfl ?_
  refine zm_getI h hc 8 8 (by decide) rfl rfl q1488 rfl dX1_attributesOf_6 (fun hr1 => ?_)
  refine r_imul h dX1_attributesOf_9 ?_
  refine r_iload_n h 2 dX1_attributesOf_10 rfl rfl ?_
  refine r_iadd h dX1_attributesOf_11 ?_
  refine r_istore_n (lv' := [(3, iv ((600 * (σ (-1) 8)) + a0)), (2, iv 0), (0, .ref (zm_h G)), (1, iv a0)]) h dX1_attributesOf_12 rfl (hN _ (by decide)) rfl ?_
  refine r_ck (fun hk2 => ?_)
  exact r_lv [2, 3, 1, 0] rfl (w_attributesOf_13 h hc zF _ a0 0 ((600 * (σ (-1) 8)) + a0) ha0 (by decide) hk2)
theorem dX1_attribute_0 : decode cX1_attribute 0 = .ok (.aload_n 0, 1) := by decide +kernel
theorem dX1_attribute_1 : decode cX1_attribute 1 = .ok (.invokevirtual 351, 3) := by decide +kernel
theorem dX1_attribute_4 : decode cX1_attribute 4 = .ok (.istore_n 2, 1) := by decide +kernel
theorem dX1_attribute_5 : decode cX1_attribute 5 = .ok (.aload_n 0, 1) := by decide +kernel
theorem dX1_attribute_6 : decode cX1_attribute 6 = .ok (.getfield 306, 3) := by decide +kernel
theorem dX1_attribute_9 : decode cX1_attribute 9 = .ok (.istore_n 3, 1) := by decide +kernel
theorem dX1_attribute_10 : decode cX1_attribute 10 = .ok (.aload_n 0, 1) := by decide +kernel
theorem dX1_attribute_11 : decode cX1_attribute 11 = .ok (.invokevirtual 289, 3) := by decide +kernel
theorem dX1_attribute_14 : decode cX1_attribute 14 = .ok (.ifCond .eq 29, 3) := by decide +kernel
theorem dX1_attribute_17 : decode cX1_attribute 17 = .ok (.aload_n 0, 1) := by decide +kernel
theorem dX1_attribute_18 : decode cX1_attribute 18 = .ok (.iload_n 1, 1) := by decide +kernel
theorem dX1_attribute_19 : decode cX1_attribute 19 = .ok (.sipush 6000, 3) := by decide +kernel
theorem dX1_attribute_22 : decode cX1_attribute 22 = .ok (.aload_n 0, 1) := by decide +kernel
theorem dX1_attribute_23 : decode cX1_attribute 23 = .ok (.getfield 328, 3) := by decide +kernel
theorem dX1_attribute_26 : decode cX1_attribute 26 = .ok (.imul, 1) := by decide +kernel
theorem dX1_attribute_27 : decode cX1_attribute 27 = .ok (.iload_n 2, 1) := by decide +kernel
theorem dX1_attribute_28 : decode cX1_attribute 28 = .ok (.iadd, 1) := by decide +kernel
theorem dX1_attribute_29 : decode cX1_attribute 29 = .ok (.iload_n 3, 1) := by decide +kernel
theorem dX1_attribute_30 : decode cX1_attribute 30 = .ok (.invokevirtual 458, 3) := by decide +kernel
theorem dX1_attribute_33 : decode cX1_attribute 33 = .ok (.ifCond .eq 10, 3) := by decide +kernel
theorem dX1_attribute_36 : decode cX1_attribute 36 = .ok (.aload_n 0, 1) := by decide +kernel
theorem dX1_attribute_37 : decode cX1_attribute 37 = .ok (.bipush (-2), 2) := by decide +kernel
theorem dX1_attribute_39 : decode cX1_attribute 39 = .ok (.iload_n 2, 1) := by decide +kernel
theorem dX1_attribute_40 : decode cX1_attribute 40 = .ok (.invokevirtual 293, 3) := by decide +kernel
theorem dX1_attribute_43 : decode cX1_attribute 43 = .ok (.aload_n 0, 1) := by decide +kernel
theorem dX1_attribute_44 : decode cX1_attribute 44 = .ok (.invokevirtual 289, 3) := by decide +kernel
theorem dX1_attribute_47 : decode cX1_attribute 47 = .ok (.ifCond .eq 20, 3) := by decide +kernel
theorem dX1_attribute_50 : decode cX1_attribute 50 = .ok (.aload_n 0, 1) := by decide +kernel
theorem dX1_attribute_51 : decode cX1_attribute 51 = .ok (.iload_n 1, 1) := by decide +kernel
theorem dX1_attribute_52 : decode cX1_attribute 52 = .ok (.invokevirtual 462, 3) := by decide +kernel
theorem dX1_attribute_55 : decode cX1_attribute 55 = .ok (.bipush 8, 2) := by decide +kernel
theorem dX1_attribute_57 : decode cX1_attribute 57 = .ok (.if_icmp .ne 10, 3) := by decide +kernel
theorem dX1_attribute_60 : decode cX1_attribute 60 = .ok (.aload_n 0, 1) := by decide +kernel
theorem dX1_attribute_61 : decode cX1_attribute 61 = .ok (.bipush (-3), 2) := by decide +kernel
theorem dX1_attribute_63 : decode cX1_attribute 63 = .ok (.iload_n 2, 1) := by decide +kernel
theorem dX1_attribute_64 : decode cX1_attribute 64 = .ok (.invokevirtual 293, 3) := by decide +kernel
theorem dX1_attribute_67 : decode cX1_attribute 67 = .ok (.aload_n 0, 1) := by decide +kernel
theorem dX1_attribute_68 : decode cX1_attribute 68 = .ok (.iconst 2, 1) := by decide +kernel
theorem dX1_attribute_69 : decode cX1_attribute 69 = .ok (.iload_n 2, 1) := by decide +kernel
theorem dX1_attribute_70 : decode cX1_attribute 70 = .ok (.invokevirtual 446, 3) := by decide +kernel
theorem dX1_attribute_73 : decode cX1_attribute 73 = .ok (.istore 4, 2) := by decide +kernel
theorem dX1_attribute_75 : decode cX1_attribute 75 = .ok (.aload_n 0, 1) := by decide +kernel
theorem dX1_attribute_76 : decode cX1_attribute 76 = .ok (.invokevirtual 289, 3) := by decide +kernel
theorem dX1_attribute_79 : decode cX1_attribute 79 = .ok (.ifCond .ne 4, 3) := by decide +kernel
theorem dX1_attribute_82 : decode cX1_attribute 82 = .ok (.return_, 1) := by decide +kernel
theorem dX1_attribute_83 : decode cX1_attribute 83 = .ok (.aload_n 0, 1) := by decide +kernel
theorem dX1_attribute_84 : decode cX1_attribute 84 = .ok (.invokevirtual 300, 3) := by decide +kernel
theorem dX1_attribute_87 : decode cX1_attribute 87 = .ok (.aload_n 0, 1) := by decide +kernel
theorem dX1_attribute_88 : decode cX1_attribute 88 = .ok (.bipush 61, 2) := by decide +kernel
theorem dX1_attribute_90 : decode cX1_attribute 90 = .ok (.invokevirtual 340, 3) := by decide +kernel
theorem dX1_attribute_93 : decode cX1_attribute 93 = .ok (.istore 5, 2) := by decide +kernel
theorem dX1_attribute_95 : decode cX1_attribute 95 = .ok (.aload_n 0, 1) := by decide +kernel
theorem dX1_attribute_96 : decode cX1_attribute 96 = .ok (.invokevirtual 300, 3) := by decide +kernel
theorem dX1_attribute_99 : decode cX1_attribute 99 = .ok (.aload_n 0, 1) := by decide +kernel
theorem dX1_attribute_100 : decode cX1_attribute 100 = .ok (.invokevirtual 440, 3) := by decide +kernel
theorem dX1_attribute_103 : decode cX1_attribute 103 = .ok (.istore 6, 2) := by decide +kernel
theorem dX1_attribute_105 : decode cX1_attribute 105 = .ok (.aload_n 0, 1) := by decide +kernel
theorem dX1_attribute_106 : decode cX1_attribute 106 = .ok (.getfield 37, 3) := by decide +kernel
theorem dX1_attribute_109 : decode cX1_attribute 109 = .ok (.sipush 600, 3) := by decide +kernel
theorem dX1_attribute_112 : decode cX1_attribute 112 = .ok (.aload_n 0, 1) := by decide +kernel
theorem dX1_attribute_113 : decode cX1_attribute 113 = .ok (.getfield 328, 3) := by decide +kernel
theorem dX1_attribute_116 : decode cX1_attribute 116 = .ok (.imul, 1) := by decide +kernel
theorem dX1_attribute_117 : decode cX1_attribute 117 = .ok (.iload 4, 2) := by decide +kernel
theorem dX1_attribute_119 : decode cX1_attribute 119 = .ok (.iadd, 1) := by decide +kernel
theorem dX1_attribute_120 : decode cX1_attribute 120 = .ok (.sipush 6000, 3) := by decide +kernel
theorem dX1_attribute_123 : decode cX1_attribute 123 = .ok (.aload_n 0, 1) := by decide +kernel
theorem dX1_attribute_124 : decode cX1_attribute 124 = .ok (.getfield 328, 3) := by decide +kernel
theorem dX1_attribute_127 : decode cX1_attribute 127 = .ok (.imul, 1) := by decide +kernel
theorem dX1_attribute_128 : decode cX1_attribute 128 = .ok (.iload_n 2, 1) := by decide +kernel
theorem dX1_attribute_129 : decode cX1_attribute 129 = .ok (.iadd, 1) := by decide +kernel
theorem dX1_attribute_130 : decode cX1_attribute 130 = .ok (.iastore, 1) := by decide +kernel
theorem dX1_attribute_131 : decode cX1_attribute 131 = .ok (.aload_n 0, 1) := by decide +kernel
theorem dX1_attribute_132 : decode cX1_attribute 132 = .ok (.getfield 40, 3) := by decide +kernel
theorem dX1_attribute_135 : decode cX1_attribute 135 = .ok (.sipush 600, 3) := by decide +kernel
theorem dX1_attribute_138 : decode cX1_attribute 138 = .ok (.aload_n 0, 1) := by decide +kernel
theorem dX1_attribute_139 : decode cX1_attribute 139 = .ok (.getfield 328, 3) := by decide +kernel
theorem dX1_attribute_142 : decode cX1_attribute 142 = .ok (.imul, 1) := by decide +kernel
theorem dX1_attribute_143 : decode cX1_attribute 143 = .ok (.iload 4, 2) := by decide +kernel
theorem dX1_attribute_145 : decode cX1_attribute 145 = .ok (.iadd, 1) := by decide +kernel
theorem dX1_attribute_146 : decode cX1_attribute 146 = .ok (.iload_n 3, 1) := by decide +kernel
theorem dX1_attribute_147 : decode cX1_attribute 147 = .ok (.iastore, 1) := by decide +kernel
theorem dX1_attribute_148 : decode cX1_attribute 148 = .ok (.aload_n 0, 1) := by decide +kernel
theorem dX1_attribute_149 : decode cX1_attribute 149 = .ok (.getfield 43, 3) := by decide +kernel
theorem dX1_attribute_152 : decode cX1_attribute 152 = .ok (.sipush 600, 3) := by decide +kernel
theorem dX1_attribute_155 : decode cX1_attribute 155 = .ok (.aload_n 0, 1) := by decide +kernel
theorem dX1_attribute_156 : decode cX1_attribute 156 = .ok (.getfield 328, 3) := by decide +kernel
theorem dX1_attribute_159 : decode cX1_attribute 159 = .ok (.imul, 1) := by decide +kernel
theorem dX1_attribute_160 : decode cX1_attribute 160 = .ok (.iload 4, 2) := by decide +kernel
theorem dX1_attribute_162 : decode cX1_attribute 162 = .ok (.iadd, 1) := by decide +kernel
theorem dX1_attribute_163 : decode cX1_attribute 163 = .ok (.iload 6, 2) := by decide +kernel
theorem dX1_attribute_165 : decode cX1_attribute 165 = .ok (.iastore, 1) := by decide +kernel
theorem dX1_attribute_166 : decode cX1_attribute 166 = .ok (.aload_n 0, 1) := by decide +kernel
theorem dX1_attribute_167 : decode cX1_attribute 167 = .ok (.getfield 46, 3) := by decide +kernel
theorem dX1_attribute_170 : decode cX1_attribute 170 = .ok (.sipush 600, 3) := by decide +kernel
theorem dX1_attribute_173 : decode cX1_attribute 173 = .ok (.aload_n 0, 1) := by decide +kernel
theorem dX1_attribute_174 : decode cX1_attribute 174 = .ok (.getfield 328, 3) := by decide +kernel
theorem dX1_attribute_177 : decode cX1_attribute 177 = .ok (.imul, 1) := by decide +kernel
theorem dX1_attribute_178 : decode cX1_attribute 178 = .ok (.iload 4, 2) := by decide +kernel
theorem dX1_attribute_180 : decode cX1_attribute 180 = .ok (.iadd, 1) := by decide +kernel
theorem dX1_attribute_181 : decode cX1_attribute 181 = .ok (.aload_n 0, 1) := by decide +kernel
theorem dX1_attribute_182 : decode cX1_attribute 182 = .ok (.getfield 306, 3) := by decide +kernel
theorem dX1_attribute_185 : decode cX1_attribute 185 = .ok (.iastore, 1) := by decide +kernel
theorem dX1_attribute_186 : decode cX1_attribute 186 = .ok (.return_, 1) := by decide +kernel
def m_attribute_67 (σ : MEM) (x2 x3 : Int) : Option zm_O := bd (m_newNode σ 2 x2) (fun r1 σ2 => bd (m_isGood σ2) (fun r4 σ5 => if r4 = 0 then (some (0, σ5)) else (bd (m_maybeS σ5) (fun _ σ7 => bd (m_passes σ7 61) (fun r8 σ9 => bd (m_maybeS σ9) (fun _ σ11 => bd (m_value σ11) (fun r12 σ13 => ck (inR ((6000 * (σ13 (-1) 8)) + x2)) (ck (0 ≤ ((600 * (σ13 (-1) 8)) + r1) ∧ ((600 * (σ13 (-1) 8)) + r1) < 1200) (nu (mup σ13 15 ((600 * (σ13 (-1) 8)) + r1) ((6000 * (σ13 (-1) 8)) + x2)) (fun σ18 => ck (0 ≤ ((600 * (σ18 (-1) 8)) + r1) ∧ ((600 * (σ18 (-1) 8)) + r1) < 1200) (nu (mup σ18 16 ((600 * (σ18 (-1) 8)) + r1) x3) (fun σ20 => ck (0 ≤ ((600 * (σ20 (-1) 8)) + r1) ∧ ((600 * (σ20 (-1) 8)) + r1) < 1200) (nu (mup σ20 17 ((600 * (σ20 (-1) 8)) + r1) r12) (fun σ22 => ck (0 ≤ ((600 * (σ22 (-1) 8)) + r1) ∧ ((600 * (σ22 (-1) 8)) + r1) < 1200) (nu (mup σ22 18 ((600 * (σ22 (-1) 8)) + r1) (σ22 (-1) 51)) (fun σ25 => some (0, σ25)))))))))))))))))
theorem w_attribute_67 {C : zv_Cx zm_O} {G : zm_G} (h : zv_Ok C cX1_attribute RX1) (hc : zm_C C G 7 (Option.none : Option FieldType) 0 4 94) (σ : MEM) (x2 x3 : Int) (hx2 : inR x2) (hx3 : inR x3) : VV C (m_attribute_67 σ x2 x3) σ [(0, .ref (zm_h G)), (2, iv x2), (3, iv x3)] [] 67 := by
  have hN : ∀ i, i < 7 → i < zv_n C := fun i q => by rw [hc.2.2.1]; exact q
  unfold m_attribute_67
  refine r_aload_n h 0 dX1_attribute_67 rfl rfl ?_
  refine r_iconst h dX1_attribute_68 ?_
  refine r_iload_n h 1 dX1_attribute_69 rfl rfl ?_
  refine zm_cVi h hc (n := 2) (As := [iv 2, iv x2]) (fun o1 e1 => w_newNode hc.1 _ 2 x2 (by decide) hx2 o1 e1) q1797 q1799 qs55 q136 q1800 (by decide +kernel) ⟨by decide, by decide⟩ rfl (Nat.le_of_ble_eq_true rfl) rfl dX1_attribute_70 (fun r1 σ2 hr3 => ?_)
  refine r_istore (lv' := [(4, iv r1), (0, .ref (zm_h G)), (2, iv x2), (3, iv x3)]) h dX1_attribute_73 (hN _ (by decide)) rfl ?_
  refine r_aload_n h 1 dX1_attribute_75 rfl rfl ?_
  refine zm_cVz h hc (n := 0) (As := []) (fun o1 e1 => w_isGood hc.1 _ o1 e1) q1801 q1803 qs56 q136 q1804 (by decide +kernel) ⟨by decide, by decide⟩ rfl (Nat.le_of_ble_eq_true rfl) rfl dX1_attribute_76 (fun r4 σ5 hr6 => ?_)
  refine r_if_ne h hr6.r 83 dX1_attribute_79 rfl ?_ ?_
  · exact zm_vret h hc rfl dX1_attribute_82
  · refine r_aload_n h 1 dX1_attribute_83 rfl rfl ?_
    refine zm_cVv h hc (n := 0) (As := []) (fun o1 e1 => w_maybeS hc.1 _ o1 e1) q1813 q1815 qs59 q136 q1816 (by decide +kernel) ⟨by decide, by decide⟩ rfl (Nat.le_of_ble_eq_true rfl) rfl dX1_attribute_84 (fun σ7  => ?_)
    refine r_aload_n h 1 dX1_attribute_87 rfl rfl ?_
    refine r_bipush h dX1_attribute_88 (by decide) ?_
    refine zm_cVz h hc (n := 1) (As := [iv 61]) (fun o1 e1 => w_passes hc.1 _ 61 (by decide) o1 e1) q1840 q1842 qs63 q136 q1843 (by decide +kernel) ⟨by decide, by decide⟩ rfl (Nat.le_of_ble_eq_true rfl) rfl dX1_attribute_90 (fun r8 σ9 hr10 => ?_)
    refine r_istore (lv' := [(5, iv r8), (4, iv r1), (0, .ref (zm_h G)), (2, iv x2), (3, iv x3)]) h dX1_attribute_93 (hN _ (by decide)) rfl ?_
    refine r_aload_n h 2 dX1_attribute_95 rfl rfl ?_
    refine zm_cVv h hc (n := 0) (As := []) (fun o1 e1 => w_maybeS hc.1 _ o1 e1) q1813 q1815 qs59 q136 q1816 (by decide +kernel) ⟨by decide, by decide⟩ rfl (Nat.le_of_ble_eq_true rfl) rfl dX1_attribute_96 (fun σ11  => ?_)
    refine r_aload_n h 2 dX1_attribute_99 rfl rfl ?_
    refine zm_cVi h hc (n := 0) (As := []) (fun o1 e1 => w_value hc.1 _ o1 e1) q1942 q1944 qs82 q136 q1945 (by decide +kernel) ⟨by decide, by decide⟩ rfl (Nat.le_of_ble_eq_true rfl) rfl dX1_attribute_100 (fun r12 σ13 hr14 => ?_)
    refine r_istore (lv' := [(6, iv r12), (5, iv r8), (4, iv r1), (0, .ref (zm_h G)), (2, iv x2), (3, iv x3)]) h dX1_attribute_103 (hN _ (by decide)) rfl ?_
    refine r_aload_n h 3 dX1_attribute_105 rfl rfl ?_
    refine zm_getA h hc 15 (by decide) rfl q1495 rfl dX1_attribute_106 ?_
    refine r_sipush h dX1_attribute_109 (by decide) ?_
    refine r_aload_n h 3 dX1_attribute_112 rfl rfl ?_
    refine zm_getI h hc 8 8 (by decide) rfl rfl q1488 rfl dX1_attribute_113 (fun hr15 => ?_)
    refine r_imul h dX1_attribute_116 ?_
    refine r_iload h 2 dX1_attribute_117 rfl ?_
    refine r_iadd h dX1_attribute_119 ?_
    refine r_sipush h dX1_attribute_120 (by decide) ?_
    refine r_aload_n h 3 dX1_attribute_123 rfl rfl ?_
    refine zm_getI h hc 8 8 (by decide) rfl rfl q1488 rfl dX1_attribute_124 (fun hr16 => ?_)
    refine r_imul h dX1_attribute_127 ?_
    refine r_iload_n h 4 dX1_attribute_128 rfl rfl ?_
    refine r_iadd h dX1_attribute_129 ?_
    refine r_ck (fun hk17 => ?_)
    refine zm_stI h hc 15 15 1200 (by decide) rfl rfl rfl (by decide) hk17 dX1_attribute_130 (fun _ σ18 _ => ?_)
    refine r_aload_n h 3 dX1_attribute_131 rfl rfl ?_
    refine zm_getA h hc 16 (by decide) rfl q1496 rfl dX1_attribute_132 ?_
    refine r_sipush h dX1_attribute_135 (by decide) ?_
    refine r_aload_n h 3 dX1_attribute_138 rfl rfl ?_
    refine zm_getI h hc 8 8 (by decide) rfl rfl q1488 rfl dX1_attribute_139 (fun hr19 => ?_)
    refine r_imul h dX1_attribute_142 ?_
    refine r_iload h 2 dX1_attribute_143 rfl ?_
    refine r_iadd h dX1_attribute_145 ?_
    refine r_iload_n h 5 dX1_attribute_146 rfl rfl ?_
    refine zm_stI h hc 16 16 1200 (by decide) rfl rfl rfl (by decide) hx3 dX1_attribute_147 (fun _ σ20 _ => ?_)
    refine r_aload_n h 3 dX1_attribute_148 rfl rfl ?_
    refine zm_getA h hc 17 (by decide) rfl q1497 rfl dX1_attribute_149 ?_
    refine r_sipush h dX1_attribute_152 (by decide) ?_
    refine r_aload_n h 3 dX1_attribute_155 rfl rfl ?_
    refine zm_getI h hc 8 8 (by decide) rfl rfl q1488 rfl dX1_attribute_156 (fun hr21 => ?_)
    refine r_imul h dX1_attribute_159 ?_
    refine r_iload h 2 dX1_attribute_160 rfl ?_
    refine r_iadd h dX1_attribute_162 ?_
    refine r_iload h 0 dX1_attribute_163 rfl ?_
    refine zm_stI h hc 17 17 1200 (by decide) rfl rfl rfl (by decide) hr14 dX1_attribute_165 (fun _ σ22 _ => ?_)
    refine r_aload_n h 3 dX1_attribute_166 rfl rfl ?_
    refine zm_getA h hc 18 (by decide) rfl q1498 rfl dX1_attribute_167 ?_
    refine r_sipush h dX1_attribute_170 (by decide) ?_
    refine r_aload_n h 3 dX1_attribute_173 rfl rfl ?_
    refine zm_getI h hc 8 8 (by decide) rfl rfl q1488 rfl dX1_attribute_174 (fun hr23 => ?_)
    refine r_imul h dX1_attribute_177 ?_
    refine r_iload h 2 dX1_attribute_178 rfl ?_
    refine r_iadd h dX1_attribute_180 ?_
    refine r_aload_n h 3 dX1_attribute_181 rfl rfl ?_
    refine zm_getI h hc 51 51 (by decide) rfl rfl q1531 rfl dX1_attribute_182 (fun hr24 => ?_)
    refine zm_stI h hc 18 18 1200 (by decide) rfl rfl rfl (by decide) hr24 dX1_attribute_185 (fun _ σ25 _ => ?_)
    exact zm_vret h hc rfl dX1_attribute_186
def m_attribute_43 (σ : MEM) (x1 x2 x3 : Int) : Option zm_O := bd (m_isGood σ) (fun r1 σ2 => if r1 = 0 then (m_attribute_67 σ2 x2 x3) else (bd (m_attributesOf σ2 x1) (fun r4 σ5 => if r4 = 8 then (bd (m_fail σ5 (-3) x2) (fun _ σ7 => m_attribute_67 σ7 x2 x3)) else (m_attribute_67 σ5 x2 x3))))
theorem w_attribute_43 {C : zv_Cx zm_O} {G : zm_G} (h : zv_Ok C cX1_attribute RX1) (hc : zm_C C G 7 (Option.none : Option FieldType) 0 4 94) (σ : MEM) (x1 x2 x3 : Int) (hx1 : inR x1) (hx2 : inR x2) (hx3 : inR x3) : VV C (m_attribute_43 σ x1 x2 x3) σ [(0, .ref (zm_h G)), (1, iv x1), (2, iv x2), (3, iv x3)] [] 43 := by
  have hN : ∀ i, i < 7 → i < zv_n C := fun i q => by rw [hc.2.2.1]; exact q
  unfold m_attribute_43
  refine r_aload_n h 0 dX1_attribute_43 rfl rfl ?_
  refine zm_cVz h hc (n := 0) (As := []) (fun o1 e1 => w_isGood hc.1 _ o1 e1) q1801 q1803 qs56 q136 q1804 (by decide +kernel) ⟨by decide, by decide⟩ rfl (Nat.le_of_ble_eq_true rfl) rfl dX1_attribute_44 (fun r1 σ2 hr3 => ?_)
  refine r_if_eq h hr3.r 67 dX1_attribute_47 rfl ?_ ?_
  · exact r_lv [0, 2, 3] rfl (w_attribute_67 h hc _ x2 x3 hx2 hx3)
  · refine r_aload_n h 0 dX1_attribute_50 rfl rfl ?_
    refine r_iload_n h 1 dX1_attribute_51 rfl rfl ?_
    refine zm_cVi h hc (n := 1) (As := [iv x1]) (fun o1 e1 => w_attributesOf hc.1 _ x1 hx1 o1 e1) q1972 q1974 qs88 q136 q1975 (by decide +kernel) ⟨by decide, by decide⟩ rfl (Nat.le_of_ble_eq_true rfl) rfl dX1_attribute_52 (fun r4 σ5 hr6 => ?_)
    refine r_bipush h dX1_attribute_55 (by decide) ?_
    refine r_icmp_ne h hr6 (by decide) 67 dX1_attribute_57 rfl ?_ ?_
    · refine r_aload_n h 0 dX1_attribute_60 rfl rfl ?_
      refine r_bipush h dX1_attribute_61 (by decide) ?_
      refine r_iload_n h 2 dX1_attribute_63 rfl rfl ?_
      refine zm_cVv h hc (n := 2) (As := [iv (-3), iv x2]) (fun o1 e1 => w_fail hc.1 _ (-3) x2 (by decide) hx2 o1 e1) q1805 q1807 qs57 q136 q1808 (by decide +kernel) ⟨by decide, by decide⟩ rfl (Nat.le_of_ble_eq_true rfl) rfl dX1_attribute_64 (fun σ7  => ?_)
      exact r_lv [0, 2, 3] rfl (w_attribute_67 h hc _ x2 x3 hx2 hx3)
    · exact r_lv [0, 2, 3] rfl (w_attribute_67 h hc _ x2 x3 hx2 hx3)
def m_attribute (σ : MEM) (a0 : Int) : Option zm_O := bd (m_takeName σ) (fun r1 σ2 => bd (m_isGood σ2) (fun r5 σ6 => if r5 = 0 then (m_attribute_43 σ6 a0 r1 (σ2 (-1) 51)) else (ck (inR ((6000 * (σ6 (-1) 8)) + r1)) (bd (m_hasAttribute σ6 a0 ((6000 * (σ6 (-1) 8)) + r1) (σ2 (-1) 51)) (fun r10 σ11 => if r10 = 0 then (m_attribute_43 σ11 a0 r1 (σ2 (-1) 51)) else (bd (m_fail σ11 (-2) r1) (fun _ σ13 => m_attribute_43 σ13 a0 r1 (σ2 (-1) 51))))))))
theorem w_attribute {G : zm_G} (hD : zm_D G) (σ : MEM) (a0 : Int) (ha0 : inR a0) (o : zm_O) (hd : m_attribute σ a0 = some o) : zm_Met G yX1_attribute cX1_attribute 7 (Option.none : Option FieldType) 0 4 94 σ [.ref (zm_h G), iv a0] o := by
  refine zm_intro hD hd (by decide) rfl (Nat.le_of_ble_eq_true rfl) rfl (fun C h hc => ?_)
  have hN : ∀ i, i < 7 → i < zv_n C := fun i q => by rw [hc.2.2.1]; exact q
  unfold m_attribute
  refine r_aload_n h 0 dX1_attribute_0 rfl rfl ?_
  refine zm_cVi h hc (n := 0) (As := []) (fun o1 e1 => w_takeName hc.1 _ o1 e1) q1858 q1860 qs67 q136 q1861 (by decide +kernel) ⟨by decide, by decide⟩ rfl (Nat.le_of_ble_eq_true rfl) rfl dX1_attribute_1 (fun r1 σ2 hr3 => ?_)
  refine r_istore_n (lv' := [(2, iv r1), (0, .ref (zm_h G)), (1, iv a0)]) h dX1_attribute_4 rfl (hN _ (by decide)) rfl ?_
  refine r_aload_n h 1 dX1_attribute_5 rfl rfl ?_
  refine zm_getI h hc 51 51 (by decide) rfl rfl q1531 rfl dX1_attribute_6 (fun hr4 => ?_)
  refine r_istore_n (lv' := [(3, iv (σ2 (-1) 51)), (2, iv r1), (0, .ref (zm_h G)), (1, iv a0)]) h dX1_attribute_9 rfl (hN _ (by decide)) rfl ?_
  refine r_aload_n h 2 dX1_attribute_10 rfl rfl ?_
  refine zm_cVz h hc (n := 0) (As := []) (fun o1 e1 => w_isGood hc.1 _ o1 e1) q1801 q1803 qs56 q136 q1804 (by decide +kernel) ⟨by decide, by decide⟩ rfl (Nat.le_of_ble_eq_true rfl) rfl dX1_attribute_11 (fun r5 σ6 hr7 => ?_)
  refine r_if_eq h hr7.r 43 dX1_attribute_14 rfl ?_ ?_
  · exact r_lv [2, 3, 1, 0] rfl (w_attribute_43 h hc _ a0 r1 (σ2 (-1) 51) ha0 hr3 hr4)
  · refine r_aload_n h 2 dX1_attribute_17 rfl rfl ?_
    refine r_iload_n h 3 dX1_attribute_18 rfl rfl ?_
    refine r_sipush h dX1_attribute_19 (by decide) ?_
    refine r_aload_n h 2 dX1_attribute_22 rfl rfl ?_
    refine zm_getI h hc 8 8 (by decide) rfl rfl q1488 rfl dX1_attribute_23 (fun hr8 => ?_)
    refine r_imul h dX1_attribute_26 ?_
    refine r_iload_n h 1 dX1_attribute_27 rfl rfl ?_
    refine r_iadd h dX1_attribute_28 ?_
    refine r_iload_n h 0 dX1_attribute_29 rfl rfl ?_
    refine r_ck (fun hk9 => ?_)
    refine zm_cVz h hc (n := 3) (As := [iv a0, iv ((6000 * (σ6 (-1) 8)) + r1), iv (σ2 (-1) 51)]) (fun o1 e1 => w_hasAttribute hc.1 _ a0 ((6000 * (σ6 (-1) 8)) + r1) (σ2 (-1) 51) ha0 hk9 hr4 o1 e1) q1968 q1970 qs87 q136 q1971 (by decide +kernel) ⟨by decide, by decide⟩ rfl (Nat.le_of_ble_eq_true rfl) rfl dX1_attribute_30 (fun r10 σ11 hr12 => ?_)
    refine r_if_eq h hr12.r 43 dX1_attribute_33 rfl ?_ ?_
    · exact r_lv [2, 3, 1, 0] rfl (w_attribute_43 h hc _ a0 r1 (σ2 (-1) 51) ha0 hr3 hr4)
    · refine r_aload_n h 2 dX1_attribute_36 rfl rfl ?_
      refine r_bipush h dX1_attribute_37 (by decide) ?_
      refine r_iload_n h 1 dX1_attribute_39 rfl rfl ?_
      refine zm_cVv h hc (n := 2) (As := [iv (-2), iv r1]) (fun o1 e1 => w_fail hc.1 _ (-2) r1 (by decide) hr3 o1 e1) q1805 q1807 qs57 q136 q1808 (by decide +kernel) ⟨by decide, by decide⟩ rfl (Nat.le_of_ble_eq_true rfl) rfl dX1_attribute_40 (fun σ13  => ?_)
      exact r_lv [2, 3, 1, 0] rfl (w_attribute_43 h hc _ a0 r1 (σ2 (-1) 51) ha0 hr3 hr4)
