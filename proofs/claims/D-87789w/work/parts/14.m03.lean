set_option maxRecDepth 100000
set_option maxHeartbeats 1000000
/-! methods of the class side: decode rows, denotations c_.., walks u_.. (written by wip/gen/cmain.py) -/
theorem dX3_element_0 : decode cX3_element 0 = .ok (.aload_n 0, 1) := by decide +kernel
theorem dX3_element_1 : decode cX3_element 1 = .ok (.ldc_w 322, 3) := by decide +kernel
theorem dX3_element_4 : decode cX3_element 4 = .ok (.invokevirtual 57, 3) := by decide +kernel
theorem dX3_element_7 : decode cX3_element 7 = .ok (.aload_n 0, 1) := by decide +kernel
theorem dX3_element_8 : decode cX3_element 8 = .ok (.invokevirtual 31, 3) := by decide +kernel
theorem dX3_element_11 : decode cX3_element 11 = .ok (.istore_n 3, 1) := by decide +kernel
theorem dX3_element_12 : decode cX3_element 12 = .ok (.new 324, 3) := by decide +kernel
theorem dX3_element_15 : decode cX3_element 15 = .ok (.dup, 1) := by decide +kernel
theorem dX3_element_16 : decode cX3_element 16 = .ok (.aload_n 0, 1) := by decide +kernel
theorem dX3_element_17 : decode cX3_element 17 = .ok (.invokevirtual 113, 3) := by decide +kernel
theorem dX3_element_20 : decode cX3_element 20 = .ok (.invokespecial 326, 3) := by decide +kernel
theorem dX3_element_23 : decode cX3_element 23 = .ok (.astore 4, 2) := by decide +kernel
theorem dX3_element_25 : decode cX3_element 25 = .ok (.iload_n 2, 1) := by decide +kernel
theorem dX3_element_26 : decode cX3_element 26 = .ok (.bipush 30, 2) := by decide +kernel
theorem dX3_element_28 : decode cX3_element 28 = .ok (.if_icmp .le 14, 3) := by decide +kernel
theorem dX3_element_31 : decode cX3_element 31 = .ok (.new 50, 3) := by decide +kernel
theorem dX3_element_34 : decode cX3_element 34 = .ok (.dup, 1) := by decide +kernel
theorem dX3_element_35 : decode cX3_element 35 = .ok (.bipush (-3), 2) := by decide +kernel
theorem dX3_element_37 : decode cX3_element 37 = .ok (.iload_n 3, 1) := by decide +kernel
theorem dX3_element_38 : decode cX3_element 38 = .ok (.invokespecial 52, 3) := by decide +kernel
theorem dX3_element_41 : decode cX3_element 41 = .ok (.athrow, 1) := by decide +kernel
theorem dX3_element_42 : decode cX3_element 42 = .ok (.aload_n 0, 1) := by decide +kernel
theorem dX3_element_43 : decode cX3_element 43 = .ok (.aload 4, 2) := by decide +kernel
theorem dX3_element_45 : decode cX3_element 45 = .ok (.aload_n 1, 1) := by decide +kernel
theorem dX3_element_46 : decode cX3_element 46 = .ok (.iload_n 3, 1) := by decide +kernel
theorem dX3_element_47 : decode cX3_element 47 = .ok (.invokevirtual 327, 3) := by decide +kernel
theorem dX3_element_50 : decode cX3_element 50 = .ok (.aload_n 1, 1) := by decide +kernel
theorem dX3_element_51 : decode cX3_element 51 = .ok (.getfield 330, 3) := by decide +kernel
theorem dX3_element_54 : decode cX3_element 54 = .ok (.aload 4, 2) := by decide +kernel
theorem dX3_element_56 : decode cX3_element 56 = .ok (.invokevirtual 152, 3) := by decide +kernel
theorem dX3_element_59 : decode cX3_element 59 = .ok (.pop, 1) := by decide +kernel
theorem dX3_element_60 : decode cX3_element 60 = .ok (.aload_n 0, 1) := by decide +kernel
theorem dX3_element_61 : decode cX3_element 61 = .ok (.getfield 14, 3) := by decide +kernel
theorem dX3_element_64 : decode cX3_element 64 = .ok (.aload_n 0, 1) := by decide +kernel
theorem dX3_element_65 : decode cX3_element 65 = .ok (.getfield 14, 3) := by decide +kernel
theorem dX3_element_68 : decode cX3_element 68 = .ok (.getfield 331, 3) := by decide +kernel
theorem dX3_element_71 : decode cX3_element 71 = .ok (.iload_n 2, 1) := by decide +kernel
theorem dX3_element_72 : decode cX3_element 72 = .ok (.invokestatic 334, 3) := by decide +kernel
theorem dX3_element_75 : decode cX3_element 75 = .ok (.putfield 331, 3) := by decide +kernel
theorem dX3_element_78 : decode cX3_element 78 = .ok (.aload_n 0, 1) := by decide +kernel
theorem dX3_element_79 : decode cX3_element 79 = .ok (.invokevirtual 219, 3) := by decide +kernel
theorem dX3_element_82 : decode cX3_element 82 = .ok (.ifCond .eq 12, 3) := by decide +kernel
theorem dX3_element_85 : decode cX3_element 85 = .ok (.aload_n 0, 1) := by decide +kernel
theorem dX3_element_86 : decode cX3_element 86 = .ok (.aload 4, 2) := by decide +kernel
theorem dX3_element_88 : decode cX3_element 88 = .ok (.invokevirtual 340, 3) := by decide +kernel
theorem dX3_element_91 : decode cX3_element 91 = .ok (.goto (-13), 3) := by decide +kernel
theorem dX3_element_94 : decode cX3_element 94 = .ok (.aload_n 0, 1) := by decide +kernel
theorem dX3_element_95 : decode cX3_element 95 = .ok (.invokevirtual 46, 3) := by decide +kernel
theorem dX3_element_98 : decode cX3_element 98 = .ok (.pop, 1) := by decide +kernel
theorem dX3_element_99 : decode cX3_element 99 = .ok (.aload_n 0, 1) := by decide +kernel
theorem dX3_element_100 : decode cX3_element 100 = .ok (.invokevirtual 31, 3) := by decide +kernel
theorem dX3_element_103 : decode cX3_element 103 = .ok (.istore 5, 2) := by decide +kernel
theorem dX3_element_105 : decode cX3_element 105 = .ok (.aload_n 0, 1) := by decide +kernel
theorem dX3_element_106 : decode cX3_element 106 = .ok (.ldc_w 344, 3) := by decide +kernel
theorem dX3_element_109 : decode cX3_element 109 = .ok (.invokevirtual 140, 3) := by decide +kernel
theorem dX3_element_112 : decode cX3_element 112 = .ok (.istore 6, 2) := by decide +kernel
theorem dX3_element_114 : decode cX3_element 114 = .ok (.iload 6, 2) := by decide +kernel
theorem dX3_element_116 : decode cX3_element 116 = .ok (.ifCond .ne 9, 3) := by decide +kernel
theorem dX3_element_119 : decode cX3_element 119 = .ok (.aload_n 0, 1) := by decide +kernel
theorem dX3_element_120 : decode cX3_element 120 = .ok (.ldc 70, 2) := by decide +kernel
theorem dX3_element_122 : decode cX3_element 122 = .ok (.invokevirtual 57, 3) := by decide +kernel
theorem dX3_element_125 : decode cX3_element 125 = .ok (.aload_n 0, 1) := by decide +kernel
theorem dX3_element_126 : decode cX3_element 126 = .ok (.aload 4, 2) := by decide +kernel
theorem dX3_element_128 : decode cX3_element 128 = .ok (.iload 5, 2) := by decide +kernel
theorem dX3_element_130 : decode cX3_element 130 = .ok (.invokevirtual 346, 3) := by decide +kernel
theorem dX3_element_133 : decode cX3_element 133 = .ok (.aload 4, 2) := by decide +kernel
theorem dX3_element_135 : decode cX3_element 135 = .ok (.aload_n 0, 1) := by decide +kernel
theorem dX3_element_136 : decode cX3_element 136 = .ok (.getfield 14, 3) := by decide +kernel
theorem dX3_element_139 : decode cX3_element 139 = .ok (.getfield 91, 3) := by decide +kernel
theorem dX3_element_142 : decode cX3_element 142 = .ok (.invokevirtual 94, 3) := by decide +kernel
theorem dX3_element_145 : decode cX3_element 145 = .ok (.iconst 1, 1) := by decide +kernel
theorem dX3_element_146 : decode cX3_element 146 = .ok (.isub, 1) := by decide +kernel
theorem dX3_element_147 : decode cX3_element 147 = .ok (.putfield 350, 3) := by decide +kernel
theorem dX3_element_150 : decode cX3_element 150 = .ok (.iload 6, 2) := by decide +kernel
theorem dX3_element_152 : decode cX3_element 152 = .ok (.ifCond .eq 4, 3) := by decide +kernel
theorem dX3_element_155 : decode cX3_element 155 = .ok (.return_, 1) := by decide +kernel
theorem dX3_element_156 : decode cX3_element 156 = .ok (.aload_n 0, 1) := by decide +kernel
theorem dX3_element_157 : decode cX3_element 157 = .ok (.aload 4, 2) := by decide +kernel
theorem dX3_element_159 : decode cX3_element 159 = .ok (.iload_n 2, 1) := by decide +kernel
theorem dX3_element_160 : decode cX3_element 160 = .ok (.invokevirtual 351, 3) := by decide +kernel
theorem dX3_element_163 : decode cX3_element 163 = .ok (.aload 4, 2) := by decide +kernel
theorem dX3_element_165 : decode cX3_element 165 = .ok (.aload_n 0, 1) := by decide +kernel
theorem dX3_element_166 : decode cX3_element 166 = .ok (.getfield 14, 3) := by decide +kernel
theorem dX3_element_169 : decode cX3_element 169 = .ok (.getfield 91, 3) := by decide +kernel
theorem dX3_element_172 : decode cX3_element 172 = .ok (.invokevirtual 94, 3) := by decide +kernel
theorem dX3_element_175 : decode cX3_element 175 = .ok (.iconst 1, 1) := by decide +kernel
theorem dX3_element_176 : decode cX3_element 176 = .ok (.isub, 1) := by decide +kernel
theorem dX3_element_177 : decode cX3_element 177 = .ok (.putfield 350, 3) := by decide +kernel
theorem dX3_element_180 : decode cX3_element 180 = .ok (.aload_n 0, 1) := by decide +kernel
theorem dX3_element_181 : decode cX3_element 181 = .ok (.ldc_w 354, 3) := by decide +kernel
theorem dX3_element_184 : decode cX3_element 184 = .ok (.invokevirtual 57, 3) := by decide +kernel
theorem dX3_element_187 : decode cX3_element 187 = .ok (.aload_n 0, 1) := by decide +kernel
theorem dX3_element_188 : decode cX3_element 188 = .ok (.invokevirtual 31, 3) := by decide +kernel
theorem dX3_element_191 : decode cX3_element 191 = .ok (.istore 7, 2) := by decide +kernel
theorem dX3_element_193 : decode cX3_element 193 = .ok (.aload_n 0, 1) := by decide +kernel
theorem dX3_element_194 : decode cX3_element 194 = .ok (.invokevirtual 113, 3) := by decide +kernel
theorem dX3_element_197 : decode cX3_element 197 = .ok (.aload 4, 2) := by decide +kernel
theorem dX3_element_199 : decode cX3_element 199 = .ok (.getfield 356, 3) := by decide +kernel
theorem dX3_element_202 : decode cX3_element 202 = .ok (.invokestatic 236, 3) := by decide +kernel
theorem dX3_element_205 : decode cX3_element 205 = .ok (.ifCond .ne 15, 3) := by decide +kernel
theorem dX3_element_208 : decode cX3_element 208 = .ok (.new 50, 3) := by decide +kernel
theorem dX3_element_211 : decode cX3_element 211 = .ok (.dup, 1) := by decide +kernel
theorem dX3_element_212 : decode cX3_element 212 = .ok (.bipush (-2), 2) := by decide +kernel
theorem dX3_element_214 : decode cX3_element 214 = .ok (.iload 7, 2) := by decide +kernel
theorem dX3_element_216 : decode cX3_element 216 = .ok (.invokespecial 52, 3) := by decide +kernel
theorem dX3_element_219 : decode cX3_element 219 = .ok (.athrow, 1) := by decide +kernel
theorem dX3_element_220 : decode cX3_element 220 = .ok (.aload_n 0, 1) := by decide +kernel
theorem dX3_element_221 : decode cX3_element 221 = .ok (.invokevirtual 46, 3) := by decide +kernel
theorem dX3_element_224 : decode cX3_element 224 = .ok (.pop, 1) := by decide +kernel
theorem dX3_element_225 : decode cX3_element 225 = .ok (.aload_n 0, 1) := by decide +kernel
theorem dX3_element_226 : decode cX3_element 226 = .ok (.ldc 70, 2) := by decide +kernel
theorem dX3_element_228 : decode cX3_element 228 = .ok (.invokevirtual 57, 3) := by decide +kernel
theorem dX3_element_231 : decode cX3_element 231 = .ok (.return_, 1) := by decide +kernel
def c_X3_element_125 (relement : MEM → Int → Int → Int → Option zc_O) (μ : MEM) (x0 x2 x4 x5 x6 : Int) : Option zc_O := ck (zt [3] (μ x0 (-1)) = true) (bc (c_X3_byDefault μ x0 x4 x5) (fun _ μ2 => ck (zt [3] (μ2 x0 (-1)) = true) (ck (zt [4] (μ2 (μ2 x0 3) (-1)) = true) (ck (zt [40] (μ2 (μ2 (μ2 x0 3) 1) (-1)) = true) (bc (b_lsize μ2 (μ2 (μ2 x0 3) 1)) (fun r6 μ7 => ck (inR (r6 - 1)) (ck (zt [11] (μ7 x4 (-1)) = true) (nu (mup μ7 x4 3 (r6 - 1)) (fun μ11 => if x6 = 0 then (ck (zt [3] (μ11 x0 (-1)) = true) (bc (c_X3_inside relement μ11 x0 x4 x2) (fun _ μ14 => ck (zt [3] (μ14 x0 (-1)) = true) (ck (zt [4] (μ14 (μ14 x0 3) (-1)) = true) (ck (zt [40] (μ14 (μ14 (μ14 x0 3) 1) (-1)) = true) (bc (b_lsize μ14 (μ14 (μ14 x0 3) 1)) (fun r18 μ19 => ck (inR (r18 - 1)) (ck (zt [11] (μ19 x4 (-1)) = true) (nu (mup μ19 x4 3 (r18 - 1)) (fun μ23 => ck (zt [3] (μ23 x0 (-1)) = true) (bc (c_X2_must μ23 x0 (-31)) (fun _ μ26 => ck (zt [3] (μ26 x0 (-1)) = true) (bc (c_X2_place μ26 x0) (fun r28 μ29 => ck (zt [3] (μ29 x0 (-1)) = true) (bc (c_X2_name μ29 x0) (fun r32 μ33 => ck (zt [11] (μ33 x4 (-1)) = true) (bc (c_X0_isSame μ33 r32 (μ33 x4 4)) (fun r36 μ37 => if r36 = 0 then (ck (1 ≤ μ37 0 1 ∧ (8 : Int) ≤ μ37 0 2) (nu (mnew μ37 22 0 8) (fun μ39 => bc (b_finit μ39 (μ37 0 0) (-2) r28) (fun _ μ41 => ck (0 < (μ37 0 0)) (some (1, (μ37 0 0), μ41)))))) else (ck (zt [3] (μ37 x0 (-1)) = true) (bc (c_X3_space μ37 x0) (fun r43 μ44 => ck (zt [3] (μ44 x0 (-1)) = true) (bc (c_X2_must μ44 x0 (-3)) (fun _ μ47 => some (0, 0, μ47)))))))))))))))))))))))) else (some (0, 0, μ11)))))))))))
theorem u_X3_element_125 {C : zv_Cx zc_O} {G : zc_G} {μ0 : MEM} {F L FRv LOv : Nat} (hfr1 : F + 11 ≤ FRv) (hfr2 : 11 ≤ FRv) (hlo1 : L + 245 ≤ LOv) (hlo2 : 234 ≤ LOv) (h : zv_Ok C cX3_element "TreePress$Parser") (hc : zc_C C G μ0 8 (Option.none : Option FieldType) 0 FRv LOv "element" []) (relement : MEM → Int → Int → Int → Option zc_O) (hrelement : ∀ (μ : MEM) (a0 a1 a2 : Int), inR a2 → ∀ o, relement μ a0 a1 a2 = some o → zc_Met G yX3_element cX3_element 8 (Option.none : Option FieldType) 0 F L μ [zc_rv G a0, zc_rv G a1, iv a2] o) (μ : MEM) (x0 x2 x4 x5 x6 : Int) (hx2 : inR x2) (hx5 : inR x5) (hx6 : isB x6) : VV C (c_X3_element_125 relement μ x0 x2 x4 x5 x6) μ [(0, zc_rv G x0), (2, iv x2), (4, zc_rv G x4), (5, iv x5), (6, iv x6)] [] 125 := by
  have hN : ∀ i, i < 8 → i < zv_n C := fun i q => by rw [hc.2.1]; exact q
  unfold c_X3_element_125
  refine c_aload_n (x := x0) h 0 dX3_element_125 rfl rfl ?_
  refine c_aload (x := x4) h 2 dX3_element_126 rfl ?_
  refine r_iload h 3 dX3_element_128 rfl ?_
  refine r_ck (fun ht1 => ?_)
  refine c_callV (x := x0) h hc (As := [zc_rv G x4, iv x5]) (fun o1 e1 => u_X3_byDefault _ x0 x4 x5 hx5 o1 e1) [3] ht1 (by decide) q990 q992 (fun t ht => by cases List.mem_singleton.mp ht; exact qs28) q993 q138 (by omega) (by omega) zc_s0 (by omega) (fun z hz => by cases hz) ⟨by decide, by decide⟩ (n := 2) (by decide +kernel) rfl rfl dX3_element_130 (fun _ μ2 _ => r_k0 ?_)
  refine c_aload (x := x4) h 2 dX3_element_133 rfl ?_
  refine c_aload_n (x := x0) h 0 dX3_element_135 rfl rfl ?_
  refine r_ck (fun ht3 => ?_)
  refine c_getR (fin := true) h hc [3] 3 (zc_lk1 h q446) ht3 (by decide) dX3_element_136 ?_
  refine r_ck (fun ht4 => ?_)
  refine c_getR (fin := true) h hc [4] 1 (zc_lk3 hc (O := "TreePress$Document") (n := "nodes") (ds := "Ljava/util/ArrayList;") (host := "TreePress") (by decide)) ht4 (by decide) dX3_element_139 ?_
  refine r_ck (fun ht5 => ?_)
  refine c_callV (x := (μ2 (μ2 x0 3) 1)) h hc (As := []) (fun o1 e1 => w_lsize _ (μ2 (μ2 x0 3) 1) o1 e1) [40] ht5 (by decide) q695 q343 (fun t ht => by cases List.mem_singleton.mp ht; exact q344) q345 q135 (by omega) (by omega) (zc_sc (zc_rv_cat G _) zc_s0) (by omega) (fun z hz => by cases hz) ⟨by decide, by decide⟩ (n := 0) (by decide +kernel) rfl rfl dX3_element_142 (fun r6 μ7 hr8 => r_k1 ?_)
  refine r_iconst h dX3_element_145 ?_
  refine r_isub h dX3_element_146 ?_
  refine r_ck (fun hk9 => ?_)
  refine r_ck (fun ht10 => ?_)
  refine c_putI (x := x4) (y := (r6 - 1)) h hc [11] 3 false (zc_lk2 h q317 q318) ht10 (by decide) (Or.inl rfl) hk9 dX3_element_147 (fun μ11 he12 => ?_)
  refine r_iload h 4 dX3_element_150 rfl ?_
  refine r_if_eq (x := x6) h hx6.r 156 dX3_element_152 rfl ?_ ?_
  · refine c_aload_n (x := x0) h 0 dX3_element_156 rfl rfl ?_
    refine c_aload (x := x4) h 2 dX3_element_157 rfl ?_
    refine r_iload_n h 1 dX3_element_159 rfl rfl ?_
    refine r_ck (fun ht13 => ?_)
    refine c_callV (x := x0) h hc (As := [zc_rv G x4, iv x2]) (fun o1 e1 => u_X3_inside (FRv := F + 10) (LOv := L + 223) (by omega) (by omega) (by omega) (by omega) relement hrelement _ x0 x4 x2 hx2 o1 e1) [3] ht13 (by decide) q994 q996 (fun t ht => by cases List.mem_singleton.mp ht; exact qs29) q997 q138 (by omega) (by omega) zc_s0 (by omega) (fun z hz => by cases hz) ⟨by decide, by decide⟩ (n := 2) (by decide +kernel) rfl rfl dX3_element_160 (fun _ μ14 _ => r_k0 ?_)
    refine c_aload (x := x4) h 2 dX3_element_163 rfl ?_
    refine c_aload_n (x := x0) h 0 dX3_element_165 rfl rfl ?_
    refine r_ck (fun ht15 => ?_)
    refine c_getR (fin := true) h hc [3] 3 (zc_lk1 h q446) ht15 (by decide) dX3_element_166 ?_
    refine r_ck (fun ht16 => ?_)
    refine c_getR (fin := true) h hc [4] 1 (zc_lk3 hc (O := "TreePress$Document") (n := "nodes") (ds := "Ljava/util/ArrayList;") (host := "TreePress") (by decide)) ht16 (by decide) dX3_element_169 ?_
    refine r_ck (fun ht17 => ?_)
    refine c_callV (x := (μ14 (μ14 x0 3) 1)) h hc (As := []) (fun o1 e1 => w_lsize _ (μ14 (μ14 x0 3) 1) o1 e1) [40] ht17 (by decide) q695 q343 (fun t ht => by cases List.mem_singleton.mp ht; exact q344) q345 q135 (by omega) (by omega) (zc_sc (zc_rv_cat G _) zc_s0) (by omega) (fun z hz => by cases hz) ⟨by decide, by decide⟩ (n := 0) (by decide +kernel) rfl rfl dX3_element_172 (fun r18 μ19 hr20 => r_k1 ?_)
    refine r_iconst h dX3_element_175 ?_
    refine r_isub h dX3_element_176 ?_
    refine r_ck (fun hk21 => ?_)
    refine r_ck (fun ht22 => ?_)
    refine c_putI (x := x4) (y := (r18 - 1)) h hc [11] 3 false (zc_lk2 h q317 q318) ht22 (by decide) (Or.inl rfl) hk21 dX3_element_177 (fun μ23 he24 => ?_)
    refine c_aload_n (x := x0) h 0 dX3_element_180 rfl rfl ?_
    refine c_ldcws (tx := "</") h hc 31 (by decide) (-31) rfl (by decide) dX3_element_181 ?_
    refine r_ck (fun ht25 => ?_)
    refine c_callU (x := x0) (xm := ⟨"TreePress$Parser", "must", "(Ljava/lang/String;)V"⟩) (owner := "TreePress$Reader") h hc (As := [zc_rv G (-31)]) (fun o1 e1 => u_X2_must _ x0 (-31) o1 e1) [3] ht25 (by decide) q563 q564 (va_Decl.of (h.2.2.2.2 _ q567) (h.2.2.2.2 _ q568)) ⟨by decide, by decide⟩ q567 (fun t ht => by cases List.mem_singleton.mp ht; exact q566) q568 q137 (by omega) (by omega) zc_s0 (by omega) (fun z hz => by cases hz) (n := 1) (by decide +kernel) rfl rfl dX3_element_184 (fun _ μ26 _ => r_k0 ?_)
    refine c_aload_n (x := x0) h 0 dX3_element_187 rfl rfl ?_
    refine r_ck (fun ht27 => ?_)
    refine c_callU (x := x0) (xm := ⟨"TreePress$Parser", "place", "()I"⟩) (owner := "TreePress$Reader") h hc (As := []) (fun o1 e1 => u_X2_place _ x0 o1 e1) [3] ht27 (by decide) q483 q484 (va_Decl.of (h.2.2.2.2 _ q487) (h.2.2.2.2 _ q488)) ⟨by decide, by decide⟩ q487 (fun t ht => by cases List.mem_singleton.mp ht; exact q486) q488 q137 (by omega) (by omega) zc_s0 (by omega) (fun z hz => by cases hz) (n := 0) (by decide +kernel) rfl rfl dX3_element_188 (fun r28 μ29 hr30 => r_k1 ?_)
    refine r_istore (lv' := [(7, iv r28), (0, zc_rv G x0), (2, iv x2), (4, zc_rv G x4), (5, iv x5), (6, iv x6)]) h dX3_element_191 (hN _ (by decide)) rfl ?_
    refine c_aload_n (x := x0) h 1 dX3_element_193 rfl rfl ?_
    refine r_ck (fun ht31 => ?_)
    refine c_callU (x := x0) (xm := ⟨"TreePress$Parser", "name", "()[B"⟩) (owner := "TreePress$Reader") h hc (As := []) (fun o1 e1 => u_X2_name _ x0 o1 e1) [3] ht31 (by decide) q662 q663 (va_Decl.of (h.2.2.2.2 _ q666) (h.2.2.2.2 _ q667)) ⟨by decide, by decide⟩ q666 (fun t ht => by cases List.mem_singleton.mp ht; exact q665) q667 q137 (by omega) (by omega) zc_s0 (by omega) (fun z hz => by cases hz) (n := 0) (by decide +kernel) rfl rfl dX3_element_194 (fun r32 μ33 hr34 => r_k4 ?_)
    refine c_aload (x := x4) h 3 dX3_element_197 rfl ?_
    refine r_ck (fun ht35 => ?_)
    refine c_getR (fin := true) h hc [11] 4 (zc_lk3 hc (O := "TreePress$Element") (n := "name") (ds := "[B") (host := "TreePress") (by decide)) ht35 (by decide) dX3_element_199 ?_
    refine c_callSN h hc (As := [zc_rv G r32, zc_rv G (μ33 x4 4)]) (fun o1 e1 => u_X0_isSame _ r32 (μ33 x4 4) o1 e1) (host := "TreePress") (by decide) q856 q857 q132 (by omega) (by omega) zc_s0 (by omega) (fun z hz => by cases hz) ⟨by decide, by decide⟩ (n := 2) (by decide +kernel) rfl rfl dX3_element_202 (fun r36 μ37 hr38 => r_k3 ?_)
    refine r_if_ne (x := r36) h hr38.r 220 dX3_element_205 rfl ?_ ?_
    · refine c_newF h hc q650 q577 q153 dX3_element_208 (fun _ μ39 he40 => ?_)
      refine r_dup h dX3_element_211 (zc_rv_cat G _) ?_
      refine r_bipush h dX3_element_212 (by decide) ?_
      refine r_iload h 0 dX3_element_214 rfl ?_
      refine c_callI (x := (μ37 0 0)) h hc (As := [iv (-2), iv r28]) (fun o1 e1 => w_finit _ (μ37 0 0) (-2) r28 (by decide) hr30 o1 e1) [22] (zt_nw he40) (by decide) q651 q616 rfl q617 q153 (by omega) (by omega) (zc_sc (zc_rv_cat G _) zc_s0) (by omega) (fun z hz => by cases hz) ⟨by decide, by decide⟩ (n := 2) (by decide +kernel) rfl rfl dX3_element_216 (fun _ μ41 _ => r_k0 ?_)
      exact c_athrow h hc (fun z hz => by cases hz) dX3_element_219
    · refine c_aload_n (x := x0) h 1 dX3_element_220 rfl rfl ?_
      refine r_ck (fun ht42 => ?_)
      refine c_callV (x := x0) h hc (As := []) (fun o1 e1 => u_X3_space _ x0 o1 e1) [3] ht42 (by decide) q479 q481 (fun t ht => by cases List.mem_singleton.mp ht; exact qs5) q482 q138 (by omega) (by omega) zc_s0 (by omega) (fun z hz => by cases hz) ⟨by decide, by decide⟩ (n := 0) (by decide +kernel) rfl rfl dX3_element_221 (fun r43 μ44 hr45 => r_k3 ?_)
      refine r_pop h dX3_element_224 (iv_cat _) ?_
      refine c_aload_n (x := x0) h 1 dX3_element_225 rfl rfl ?_
      refine c_ldcs (tx := ">") h hc 3 (by decide) (-3) rfl (by decide) dX3_element_226 ?_
      refine r_ck (fun ht46 => ?_)
      refine c_callU (x := x0) (xm := ⟨"TreePress$Parser", "must", "(Ljava/lang/String;)V"⟩) (owner := "TreePress$Reader") h hc (As := [zc_rv G (-3)]) (fun o1 e1 => u_X2_must _ x0 (-3) o1 e1) [3] ht46 (by decide) q563 q564 (va_Decl.of (h.2.2.2.2 _ q567) (h.2.2.2.2 _ q568)) ⟨by decide, by decide⟩ q567 (fun t ht => by cases List.mem_singleton.mp ht; exact q566) q568 q137 (by omega) (by omega) zc_s0 (by omega) (fun z hz => by cases hz) (n := 1) (by decide +kernel) rfl rfl dX3_element_228 (fun _ μ47 _ => r_k0 ?_)
      exact c_vret h hc rfl dX3_element_231
  · exact c_vret h hc rfl dX3_element_155
def c_X3_element_78 (relement : MEM → Int → Int → Int → Option zc_O) : Nat → MEM → Int → Int → Int → Option zc_O
  | 0, _, _, _, _ => none
  | n + 1, μ, x0, x2, x4 => ck (zt [3] (μ x0 (-1)) = true) (bc (c_X3_isNameBehind μ x0) (fun r2 μ3 => if r2 = 0 then (ck (zt [3] (μ3 x0 (-1)) = true) (bc (c_X3_space μ3 x0) (fun r6 μ7 => ck (zt [3] (μ7 x0 (-1)) = true) (bc (c_X2_place μ7 x0) (fun r10 μ11 => ck (zt [3] (μ11 x0 (-1)) = true) (bc (c_X2_takes μ11 x0 (-30)) (fun r14 μ15 => if r14 = 0 then (ck (zt [3] (μ15 x0 (-1)) = true) (bc (c_X2_must μ15 x0 (-3)) (fun _ μ18 => c_X3_element_125 relement μ18 x0 x2 x4 r10 r14))) else (c_X3_element_125 relement μ15 x0 x2 x4 r10 r14)))))))) else (ck (zt [3] (μ3 x0 (-1)) = true) (bc (c_X3_attribute μ3 x0 x4) (fun _ μ20 => c_X3_element_78 relement n μ20 x0 x2 x4)))))
theorem u_X3_element_78 {C : zv_Cx zc_O} {G : zc_G} {μ0 : MEM} {F L FRv LOv : Nat} (hfr1 : F + 11 ≤ FRv) (hfr2 : 11 ≤ FRv) (hlo1 : L + 245 ≤ LOv) (hlo2 : 234 ≤ LOv) (h : zv_Ok C cX3_element "TreePress$Parser") (hc : zc_C C G μ0 8 (Option.none : Option FieldType) 0 FRv LOv "element" []) (relement : MEM → Int → Int → Int → Option zc_O) (hrelement : ∀ (μ : MEM) (a0 a1 a2 : Int), inR a2 → ∀ o, relement μ a0 a1 a2 = some o → zc_Met G yX3_element cX3_element 8 (Option.none : Option FieldType) 0 F L μ [zc_rv G a0, zc_rv G a1, iv a2] o) : ∀ (n : Nat) (μ : MEM) (x0 x2 x4 : Int), inR x2 → VV C (c_X3_element_78 relement n μ x0 x2 x4) μ [(0, zc_rv G x0), (2, iv x2), (4, zc_rv G x4)] [] 78 := by
  have hN : ∀ i, i < 8 → i < zv_n C := fun i q => by rw [hc.2.1]; exact q
  intro n
  induction n with
  | zero => intros; exact r_none
  | succ n ih =>
    intro μ x0 x2 x4 hx2
    rw [c_X3_element_78]
    refine c_aload_n (x := x0) h 0 dX3_element_78 rfl rfl ?_
    refine r_ck (fun ht1 => ?_)
    refine c_callV (x := x0) h hc (As := []) (fun o1 e1 => u_X3_isNameBehind _ x0 o1 e1) [3] ht1 (by decide) q796 q798 (fun t ht => by cases List.mem_singleton.mp ht; exact qs17) q799 q138 (by omega) (by omega) zc_s0 (by omega) (fun z hz => by cases hz) ⟨by decide, by decide⟩ (n := 0) (by decide +kernel) rfl rfl dX3_element_79 (fun r2 μ3 hr4 => r_k3 ?_)
    refine r_if_eq (x := r2) h hr4.r 94 dX3_element_82 rfl ?_ ?_
    · refine c_aload_n (x := x0) h 0 dX3_element_94 rfl rfl ?_
      refine r_ck (fun ht5 => ?_)
      refine c_callV (x := x0) h hc (As := []) (fun o1 e1 => u_X3_space _ x0 o1 e1) [3] ht5 (by decide) q479 q481 (fun t ht => by cases List.mem_singleton.mp ht; exact qs5) q482 q138 (by omega) (by omega) zc_s0 (by omega) (fun z hz => by cases hz) ⟨by decide, by decide⟩ (n := 0) (by decide +kernel) rfl rfl dX3_element_95 (fun r6 μ7 hr8 => r_k3 ?_)
      refine r_pop h dX3_element_98 (iv_cat _) ?_
      refine c_aload_n (x := x0) h 0 dX3_element_99 rfl rfl ?_
      refine r_ck (fun ht9 => ?_)
      refine c_callU (x := x0) (xm := ⟨"TreePress$Parser", "place", "()I"⟩) (owner := "TreePress$Reader") h hc (As := []) (fun o1 e1 => u_X2_place _ x0 o1 e1) [3] ht9 (by decide) q483 q484 (va_Decl.of (h.2.2.2.2 _ q487) (h.2.2.2.2 _ q488)) ⟨by decide, by decide⟩ q487 (fun t ht => by cases List.mem_singleton.mp ht; exact q486) q488 q137 (by omega) (by omega) zc_s0 (by omega) (fun z hz => by cases hz) (n := 0) (by decide +kernel) rfl rfl dX3_element_100 (fun r10 μ11 hr12 => r_k1 ?_)
      refine r_istore (lv' := [(5, iv r10), (0, zc_rv G x0), (2, iv x2), (4, zc_rv G x4)]) h dX3_element_103 (hN _ (by decide)) (by simp [zc_rv_cat]) ?_
      refine c_aload_n (x := x0) h 1 dX3_element_105 rfl rfl ?_
      refine c_ldcws (tx := "/>") h hc 30 (by decide) (-30) rfl (by decide) dX3_element_106 ?_
      refine r_ck (fun ht13 => ?_)
      refine c_callU (x := x0) (xm := ⟨"TreePress$Parser", "takes", "(Ljava/lang/String;)Z"⟩) (owner := "TreePress$Reader") h hc (As := [zc_rv G (-30)]) (fun o1 e1 => u_X2_takes _ x0 (-30) o1 e1) [3] ht13 (by decide) q735 q736 (va_Decl.of (h.2.2.2.2 _ q570) (h.2.2.2.2 _ q574)) ⟨by decide, by decide⟩ q570 (fun t ht => by cases List.mem_singleton.mp ht; exact q738) q574 q137 (by omega) (by omega) zc_s0 (by omega) (fun z hz => by cases hz) (n := 1) (by decide +kernel) rfl rfl dX3_element_109 (fun r14 μ15 hr16 => r_k3 ?_)
      refine r_istore (lv' := [(6, iv r14), (5, iv r10), (0, zc_rv G x0), (2, iv x2), (4, zc_rv G x4)]) h dX3_element_112 (hN _ (by decide)) rfl ?_
      refine r_iload h 0 dX3_element_114 rfl ?_
      refine r_if_ne (x := r14) h hr16.r 125 dX3_element_116 rfl ?_ ?_
      · refine c_aload_n (x := x0) h 2 dX3_element_119 rfl rfl ?_
        refine c_ldcs (tx := ">") h hc 3 (by decide) (-3) rfl (by decide) dX3_element_120 ?_
        refine r_ck (fun ht17 => ?_)
        refine c_callU (x := x0) (xm := ⟨"TreePress$Parser", "must", "(Ljava/lang/String;)V"⟩) (owner := "TreePress$Reader") h hc (As := [zc_rv G (-3)]) (fun o1 e1 => u_X2_must _ x0 (-3) o1 e1) [3] ht17 (by decide) q563 q564 (va_Decl.of (h.2.2.2.2 _ q567) (h.2.2.2.2 _ q568)) ⟨by decide, by decide⟩ q567 (fun t ht => by cases List.mem_singleton.mp ht; exact q566) q568 q137 (by omega) (by omega) zc_s0 (by omega) (fun z hz => by cases hz) (n := 1) (by decide +kernel) rfl rfl dX3_element_122 (fun _ μ18 _ => r_k0 ?_)
        exact r_lv [2, 3, 4, 1, 0] rfl (u_X3_element_125 hfr1 hfr2 hlo1 hlo2 h hc relement hrelement _ x0 x2 x4 r10 r14 hx2 hr12 hr16)
      · exact r_lv [2, 3, 4, 1, 0] rfl (u_X3_element_125 hfr1 hfr2 hlo1 hlo2 h hc relement hrelement _ x0 x2 x4 r10 r14 hx2 hr12 hr16)
    · refine c_aload_n (x := x0) h 0 dX3_element_85 rfl rfl ?_
      refine c_aload (x := x4) h 2 dX3_element_86 rfl ?_
      refine r_ck (fun ht19 => ?_)
      refine c_callV (x := x0) h hc (As := [zc_rv G x4]) (fun o1 e1 => u_X3_attribute _ x0 x4 o1 e1) [3] ht19 (by decide) q945 q947 (fun t ht => by cases List.mem_singleton.mp ht; exact qs27) q948 q138 (by omega) (by omega) zc_s0 (by omega) (fun z hz => by cases hz) ⟨by decide, by decide⟩ (n := 1) (by decide +kernel) rfl rfl dX3_element_88 (fun _ μ20 _ => r_k0 ?_)
      refine r_goto h 78 dX3_element_91 rfl ?_
      exact r_lv [0, 1, 2] rfl (ih _ x0 x2 x4 hx2)
def c_X3_element (relement : MEM → Int → Int → Int → Option zc_O) (μ : MEM) (a0 a1 a2 : Int) : Option zc_O := ck (zt [3] (μ a0 (-1)) = true) (bc (c_X2_must μ a0 (-28)) (fun _ μ2 => ck (zt [3] (μ2 a0 (-1)) = true) (bc (c_X2_place μ2 a0) (fun r4 μ5 => ck (1 ≤ μ5 0 1 ∧ (6 : Int) ≤ μ5 0 2) (nu (mnew μ5 11 0 6) (fun μ7 => ck (zt [3] (μ7 a0 (-1)) = true) (bc (c_X2_name μ7 a0) (fun r10 μ11 => ck (zt [11] (μ11 (μ5 0 0) (-1)) = true) (bc (c_X11_init μ11 (μ5 0 0) r10) (fun _ μ14 => if a2 ≤ 30 then (ck (zt [3] (μ14 a0 (-1)) = true) (bc (c_X3_add μ14 a0 (μ5 0 0) a1 r4) (fun _ μ16 => ck (zt [6, 11] (μ16 a1 (-1)) = true) (ck (zt [40] (μ16 (μ16 a1 2) (-1)) = true) (bc (b_ladd μ16 (μ16 a1 2) (μ5 0 0)) (fun r19 μ20 => ck (zt [3] (μ20 a0 (-1)) = true) (ck (zt [4] (μ20 (μ20 a0 3) (-1)) = true) (nu (mup μ20 (μ20 a0 3) 6 (zmax (μ20 (μ20 a0 3) 6) a2)) (fun μ25 => c_X3_element_78 relement zF μ25 a0 a2 (μ5 0 0)))))))))) else (ck (1 ≤ μ14 0 1 ∧ (8 : Int) ≤ μ14 0 2) (nu (mnew μ14 22 0 8) (fun μ27 => bc (b_finit μ27 (μ14 0 0) (-3) r4) (fun _ μ29 => ck (0 < (μ14 0 0)) (some (1, (μ14 0 0), μ29))))))))))))))))
theorem u_X3_element {G : zc_G} {F L FRv LOv : Nat} (hfr1 : F + 11 ≤ FRv) (hfr2 : 11 ≤ FRv) (hlo1 : L + 245 ≤ LOv) (hlo2 : 234 ≤ LOv) (relement : MEM → Int → Int → Int → Option zc_O) (hrelement : ∀ (μ : MEM) (a0 a1 a2 : Int), inR a2 → ∀ o, relement μ a0 a1 a2 = some o → zc_Met G yX3_element cX3_element 8 (Option.none : Option FieldType) 0 F L μ [zc_rv G a0, zc_rv G a1, iv a2] o) (μ : MEM) (a0 a1 a2 : Int) (ha2 : inR a2) (o : zc_O) (hd : c_X3_element relement μ a0 a1 a2 = some o) : zc_Met G yX3_element cX3_element 8 (Option.none : Option FieldType) 0 FRv LOv μ [zc_rv G a0, zc_rv G a1, iv a2] o := by
  refine zc_intro hd (by decide) (by simp [lg_sl, zc_rv_cat, iv_cat, jv_cat]) (lv := [(0, zc_rv G a0), (1, zc_rv G a1), (2, iv a2)]) (by simp [lv_args, zc_rv_cat, iv_cat, jv_cat]) (fun C h hc => ?_)
  have h : zv_Ok C cX3_element "TreePress$Parser" := h
  have hc : zc_C C G μ 8 (Option.none : Option FieldType) 0 FRv LOv "element" [] := hc
  have hN : ∀ i, i < 8 → i < zv_n C := fun i q => by rw [hc.2.1]; exact q
  unfold c_X3_element
  refine c_aload_n (x := a0) h 0 dX3_element_0 rfl rfl ?_
  refine c_ldcws (tx := "<") h hc 28 (by decide) (-28) rfl (by decide) dX3_element_1 ?_
  refine r_ck (fun ht1 => ?_)
  refine c_callU (x := a0) (xm := ⟨"TreePress$Parser", "must", "(Ljava/lang/String;)V"⟩) (owner := "TreePress$Reader") h hc (As := [zc_rv G (-28)]) (fun o1 e1 => u_X2_must _ a0 (-28) o1 e1) [3] ht1 (by decide) q563 q564 (va_Decl.of (h.2.2.2.2 _ q567) (h.2.2.2.2 _ q568)) ⟨by decide, by decide⟩ q567 (fun t ht => by cases List.mem_singleton.mp ht; exact q566) q568 q137 (by omega) (by omega) zc_s0 (by omega) (fun z hz => by cases hz) (n := 1) (by decide +kernel) rfl rfl dX3_element_4 (fun _ μ2 _ => r_k0 ?_)
  refine c_aload_n (x := a0) h 0 dX3_element_7 rfl rfl ?_
  refine r_ck (fun ht3 => ?_)
  refine c_callU (x := a0) (xm := ⟨"TreePress$Parser", "place", "()I"⟩) (owner := "TreePress$Reader") h hc (As := []) (fun o1 e1 => u_X2_place _ a0 o1 e1) [3] ht3 (by decide) q483 q484 (va_Decl.of (h.2.2.2.2 _ q487) (h.2.2.2.2 _ q488)) ⟨by decide, by decide⟩ q487 (fun t ht => by cases List.mem_singleton.mp ht; exact q486) q488 q137 (by omega) (by omega) zc_s0 (by omega) (fun z hz => by cases hz) (n := 0) (by decide +kernel) rfl rfl dX3_element_8 (fun r4 μ5 hr6 => r_k1 ?_)
  refine r_istore_n (i := 3) (lv' := [(3, iv r4), (0, zc_rv G a0), (1, zc_rv G a1), (2, iv a2)]) h dX3_element_11 rfl (hN _ (by decide)) rfl ?_
  refine c_new h hc 11 (N := 6) rfl (by decide) q915 q916 q158 dX3_element_12 (fun _ μ7 he8 => ?_)
  refine r_dup h dX3_element_15 (zc_rv_cat G _) ?_
  refine c_aload_n (x := a0) h 1 dX3_element_16 rfl rfl ?_
  refine r_ck (fun ht9 => ?_)
  refine c_callU (x := a0) (xm := ⟨"TreePress$Parser", "name", "()[B"⟩) (owner := "TreePress$Reader") h hc (As := []) (fun o1 e1 => u_X2_name _ a0 o1 e1) [3] ht9 (by decide) q662 q663 (va_Decl.of (h.2.2.2.2 _ q666) (h.2.2.2.2 _ q667)) ⟨by decide, by decide⟩ q666 (fun t ht => by cases List.mem_singleton.mp ht; exact q665) q667 q137 (by omega) (by omega) (zc_sc (zc_rv_cat G _) (zc_sc (zc_rv_cat G _) zc_s0)) (by omega) (fun z hz => by cases hz) (n := 0) (by decide +kernel) rfl rfl dX3_element_17 (fun r10 μ11 hr12 => r_k4 ?_)
  refine r_ck (fun ht13 => ?_)
  refine c_callI (x := (μ5 0 0)) h hc (As := [zc_rv G r10]) (fun o1 e1 => u_X11_init _ (μ5 0 0) r10 o1 e1) [11] ht13 (by decide) q917 q918 rfl q919 q158 (by omega) (by omega) (zc_sc (zc_rv_cat G _) zc_s0) (by omega) (fun z hz => by cases hz) ⟨by decide, by decide⟩ (n := 1) (by decide +kernel) rfl rfl dX3_element_20 (fun _ μ14 _ => r_k0 ?_)
  refine c_astore (lv' := [(4, zc_rv G (μ5 0 0)), (3, iv r4), (0, zc_rv G a0), (1, zc_rv G a1), (2, iv a2)]) h dX3_element_23 (hN _ (by decide)) rfl ?_
  refine r_iload_n h 4 dX3_element_25 rfl rfl ?_
  refine r_bipush h dX3_element_26 (by decide) ?_
  refine r_icmp_le (x := a2) (y := 30) h ha2 (by decide) 42 dX3_element_28 rfl ?_ ?_
  · refine c_aload_n (x := a0) h 2 dX3_element_42 rfl rfl ?_
    refine c_aload (x := (μ5 0 0)) h 0 dX3_element_43 rfl ?_
    refine c_aload_n (x := a1) h 3 dX3_element_45 rfl rfl ?_
    refine r_iload_n h 1 dX3_element_46 rfl rfl ?_
    refine r_ck (fun ht15 => ?_)
    refine c_callV (x := a0) h hc (As := [zc_rv G (μ5 0 0), zc_rv G a1, iv r4]) (fun o1 e1 => u_X3_add _ a0 (μ5 0 0) a1 r4 hr6 o1 e1) [3] ht15 (by decide) q939 q941 (fun t ht => by cases List.mem_singleton.mp ht; exact qs26) q942 q138 (by omega) (by omega) zc_s0 (by omega) (fun z hz => by cases hz) ⟨by decide, by decide⟩ (n := 3) (by decide +kernel) rfl rfl dX3_element_47 (fun _ μ16 _ => r_k0 ?_)
    refine c_aload_n (x := a1) h 3 dX3_element_50 rfl rfl ?_
    refine r_ck (fun ht17 => ?_)
    refine c_getR (fin := true) h hc [6, 11] 2 (zc_lk1 h q313) ht17 (by decide) dX3_element_51 ?_
    refine c_aload (x := (μ5 0 0)) h 0 dX3_element_54 rfl ?_
    refine r_ck (fun ht18 => ?_)
    refine c_callV (x := (μ16 a1 2)) h hc (As := [zc_rv G (μ5 0 0)]) (fun o1 e1 => w_ladd _ (μ16 a1 2) (μ5 0 0) o1 e1) [40] ht18 (by decide) q765 q347 (fun t ht => by cases List.mem_singleton.mp ht; exact q348) q349 q135 (by omega) (by omega) zc_s0 (by omega) (fun z hz => by cases hz) ⟨by decide, by decide⟩ (n := 1) (by decide +kernel) rfl rfl dX3_element_56 (fun r19 μ20 hr21 => r_k3 ?_)
    refine r_pop h dX3_element_59 (iv_cat _) ?_
    refine c_aload_n (x := a0) h 2 dX3_element_60 rfl rfl ?_
    refine r_ck (fun ht22 => ?_)
    refine c_getR (fin := true) h hc [3] 3 (zc_lk1 h q446) ht22 (by decide) dX3_element_61 ?_
    refine c_aload_n (x := a0) h 2 dX3_element_64 rfl rfl ?_
    refine c_getR (fin := true) h hc [3] 3 (zc_lk1 h q446) ht22 (by decide) dX3_element_65 ?_
    refine r_ck (fun ht23 => ?_)
    refine c_getI (fin := false) h hc [4] 6 (zc_lk3 hc (O := "TreePress$Document") (n := "deep") (ds := "I") (host := "TreePress") (by decide)) ht23 (by decide) dX3_element_68 (fun hr24 => ?_)
    refine r_iload_n h 4 dX3_element_71 rfl rfl ?_
    refine c_mmax (x := (μ20 (μ20 a0 3) 6)) (y := a2) h hc hr24 ha2 q944 (by omega) (zc_sc (zc_rv_cat G _) zc_s0) (by omega) dX3_element_72 ?_
    refine c_putI (x := (μ20 a0 3)) (y := (zmax (μ20 (μ20 a0 3) 6) a2)) h hc [4] 6 false (zc_lk3 hc (O := "TreePress$Document") (n := "deep") (ds := "I") (host := "TreePress") (by decide)) ht23 (by decide) (Or.inl rfl) (zmax_r hr24 ha2) dX3_element_75 (fun μ25 he26 => ?_)
    exact r_lv [2, 4, 0] rfl (u_X3_element_78 hfr1 hfr2 hlo1 hlo2 h hc relement hrelement zF _ a0 a2 (μ5 0 0) ha2)
  · refine c_newF h hc q650 q577 q153 dX3_element_31 (fun _ μ27 he28 => ?_)
    refine r_dup h dX3_element_34 (zc_rv_cat G _) ?_
    refine r_bipush h dX3_element_35 (by decide) ?_
    refine r_iload_n h 1 dX3_element_37 rfl rfl ?_
    refine c_callI (x := (μ14 0 0)) h hc (As := [iv (-3), iv r4]) (fun o1 e1 => w_finit _ (μ14 0 0) (-3) r4 (by decide) hr6 o1 e1) [22] (zt_nw he28) (by decide) q651 q616 rfl q617 q153 (by omega) (by omega) (zc_sc (zc_rv_cat G _) zc_s0) (by omega) (fun z hz => by cases hz) ⟨by decide, by decide⟩ (n := 2) (by decide +kernel) rfl rfl dX3_element_38 (fun _ μ29 _ => r_k0 ?_)
    exact c_athrow h hc (fun z hz => by cases hz) dX3_element_41
def fz_element : Nat → MEM → Int → Int → Int → Option zc_O
  | 0 => fun _ _ _ _ => none
  | n + 1 => c_X3_element (fz_element n)
theorem fm_element {G : zc_G} : ∀ (n : Nat) (μ : MEM) (a0 a1 a2 : Int), inR a2 → ∀ o, fz_element n μ a0 a1 a2 = some o → zc_Met G yX3_element cX3_element 8 (Option.none : Option FieldType) 0 (11 * n + 11) (245 * n + 234) μ [zc_rv G a0, zc_rv G a1, iv a2] o := by
  intro n
  induction n with
  | zero => intro μ a0 a1 a2 ha2 o ho; cases ho
  | succ n ih =>
    intro μ a0 a1 a2 ha2 o ho
    exact u_X3_element (FRv := 11 * (n + 1) + 11) (LOv := 245 * (n + 1) + 234) (by omega) (by omega) (by omega) (by omega) (fz_element n) ih _ _ _ _ ha2 _ ho
theorem dX18_init_0 : decode cX18_init 0 = .ok (.aload_n 0, 1) := by decide +kernel
theorem dX18_init_1 : decode cX18_init 1 = .ok (.invokespecial 1, 3) := by decide +kernel
theorem dX18_init_4 : decode cX18_init 4 = .ok (.aload_n 0, 1) := by decide +kernel
theorem dX18_init_5 : decode cX18_init 5 = .ok (.iload_n 1, 1) := by decide +kernel
theorem dX18_init_6 : decode cX18_init 6 = .ok (.newarray .byte, 2) := by decide +kernel
theorem dX18_init_8 : decode cX18_init 8 = .ok (.putfield 7, 3) := by decide +kernel
theorem dX18_init_11 : decode cX18_init 11 = .ok (.return_, 1) := by decide +kernel
def c_X18_init (μ : MEM) (a0 a1 : Int) : Option zc_O := ck (zt [18] (μ a0 (-1)) = true) (ck ((0 : Int) ≤ a1 ∧ a1 ≤ 1000000) (ck (1 ≤ μ 0 1 ∧ a1 ≤ μ 0 2) (nu (mnew μ 31 a1 a1) (fun μ2 => ck (zt [18] (μ2 a0 (-1)) = true) (nu (mup μ2 a0 0 (μ 0 0)) (fun μ5 => some (0, 0, μ5)))))))
theorem u_X18_init {G : zc_G} (μ : MEM) (a0 a1 : Int) (ha1 : inR a1) (o : zc_O) (hd : c_X18_init μ a0 a1 = some o) : zc_Met G yX18_init cX18_init 2 (Option.none : Option FieldType) 0 1 20 μ [zc_rv G a0, iv a1] o := by
  refine zc_intro hd (by decide) (by simp [lg_sl, zc_rv_cat, iv_cat, jv_cat]) (lv := [(0, zc_rv G a0), (1, iv a1)]) (by simp [lv_args, zc_rv_cat, iv_cat, jv_cat]) (fun C h hc => ?_)
  have h : zv_Ok C cX18_init "TreePress$Line" := h
  have hc : zc_C C G μ 2 (Option.none : Option FieldType) 0 1 20 "<init>" [] := hc
  have hN : ∀ i, i < 2 → i < zv_n C := fun i q => by rw [hc.2.1]; exact q
  unfold c_X18_init
  refine c_aload_n (x := a0) h 0 dX18_init_0 rfl rfl ?_
  refine r_ck (fun ht1 => ?_)
  refine c_oinit h hc [18] ht1 (by decide) q1410 q173 q174 (by omega) zc_s0 (by omega) dX18_init_1 ?_
  refine c_aload_n (x := a0) h 0 dX18_init_4 rfl rfl ?_
  refine r_iload_n h 1 dX18_init_5 rfl rfl ?_
  refine c_naB (x := a1) h hc rfl q203 ha1 dX18_init_6 (fun _ _ μ2 he3 => ?_)
  refine r_ck (fun ht4 => ?_)
  refine c_putR (x := a0) (y := (μ 0 0)) h hc [18] 0 true (zc_lk1 h q1411) ht4 (by decide) (Or.inr ⟨rfl, rfl, rfl⟩) (ty := (.array .byte)) (by decide +kernel) (Or.inr ⟨_, rfl⟩) dX18_init_8 (fun μ5 he6 => ?_)
  exact c_vret h hc rfl dX18_init_11
theorem dX0_puts_0 : decode cX0_puts 0 = .ok (.iload_n 3, 1) := by decide +kernel
theorem dX0_puts_1 : decode cX0_puts 1 = .ok (.ifCond .ne 46, 3) := by decide +kernel
theorem dX0_puts_4 : decode cX0_puts 4 = .ok (.aload_n 0, 1) := by decide +kernel
theorem dX0_puts_5 : decode cX0_puts 5 = .ok (.new 252, 3) := by decide +kernel
theorem dX0_puts_8 : decode cX0_puts 8 = .ok (.dup, 1) := by decide +kernel
theorem dX0_puts_9 : decode cX0_puts 9 = .ok (.aload_n 0, 1) := by decide +kernel
theorem dX0_puts_10 : decode cX0_puts 10 = .ok (.getfield 254, 3) := by decide +kernel
theorem dX0_puts_13 : decode cX0_puts 13 = .ok (.invokespecial 257, 3) := by decide +kernel
theorem dX0_puts_16 : decode cX0_puts 16 = .ok (.putfield 259, 3) := by decide +kernel
theorem dX0_puts_19 : decode cX0_puts 19 = .ok (.aload_n 0, 1) := by decide +kernel
theorem dX0_puts_20 : decode cX0_puts 20 = .ok (.getfield 259, 3) := by decide +kernel
theorem dX0_puts_23 : decode cX0_puts 23 = .ok (.aload_n 0, 1) := by decide +kernel
theorem dX0_puts_24 : decode cX0_puts 24 = .ok (.getfield 56, 3) := by decide +kernel
theorem dX0_puts_27 : decode cX0_puts 27 = .ok (.iload_n 1, 1) := by decide +kernel
theorem dX0_puts_28 : decode cX0_puts 28 = .ok (.aaload, 1) := by decide +kernel
theorem dX0_puts_29 : decode cX0_puts 29 = .ok (.putfield 263, 3) := by decide +kernel
theorem dX0_puts_32 : decode cX0_puts 32 = .ok (.aload_n 0, 1) := by decide +kernel
theorem dX0_puts_33 : decode cX0_puts 33 = .ok (.getfield 46, 3) := by decide +kernel
theorem dX0_puts_36 : decode cX0_puts 36 = .ok (.aload_n 0, 1) := by decide +kernel
theorem dX0_puts_37 : decode cX0_puts 37 = .ok (.getfield 259, 3) := by decide +kernel
theorem dX0_puts_40 : decode cX0_puts 40 = .ok (.invokevirtual 267, 3) := by decide +kernel
theorem dX0_puts_43 : decode cX0_puts 43 = .ok (.pop, 1) := by decide +kernel
theorem dX0_puts_44 : decode cX0_puts 44 = .ok (.goto 33, 3) := by decide +kernel
theorem dX0_puts_47 : decode cX0_puts 47 = .ok (.aload_n 0, 1) := by decide +kernel
theorem dX0_puts_48 : decode cX0_puts 48 = .ok (.getfield 259, 3) := by decide +kernel
theorem dX0_puts_51 : decode cX0_puts 51 = .ok (.getfield 271, 3) := by decide +kernel
theorem dX0_puts_54 : decode cX0_puts 54 = .ok (.aload_n 0, 1) := by decide +kernel
theorem dX0_puts_55 : decode cX0_puts 55 = .ok (.getfield 259, 3) := by decide +kernel
theorem dX0_puts_58 : decode cX0_puts 58 = .ok (.getfield 274, 3) := by decide +kernel
theorem dX0_puts_61 : decode cX0_puts 61 = .ok (.bipush 32, 2) := by decide +kernel
theorem dX0_puts_63 : decode cX0_puts 63 = .ok (.bastore, 1) := by decide +kernel
theorem dX0_puts_64 : decode cX0_puts 64 = .ok (.aload_n 0, 1) := by decide +kernel
theorem dX0_puts_65 : decode cX0_puts 65 = .ok (.getfield 259, 3) := by decide +kernel
theorem dX0_puts_68 : decode cX0_puts 68 = .ok (.dup, 1) := by decide +kernel
theorem dX0_puts_69 : decode cX0_puts 69 = .ok (.getfield 274, 3) := by decide +kernel
theorem dX0_puts_72 : decode cX0_puts 72 = .ok (.iconst 1, 1) := by decide +kernel
theorem dX0_puts_73 : decode cX0_puts 73 = .ok (.iadd, 1) := by decide +kernel
theorem dX0_puts_74 : decode cX0_puts 74 = .ok (.putfield 274, 3) := by decide +kernel
theorem dX0_puts_77 : decode cX0_puts 77 = .ok (.iconst 0, 1) := by decide +kernel
theorem dX0_puts_78 : decode cX0_puts 78 = .ok (.istore 4, 2) := by decide +kernel
theorem dX0_puts_80 : decode cX0_puts 80 = .ok (.iload 4, 2) := by decide +kernel
theorem dX0_puts_82 : decode cX0_puts 82 = .ok (.iload_n 2, 1) := by decide +kernel
theorem dX0_puts_83 : decode cX0_puts 83 = .ok (.if_icmp .ge 46, 3) := by decide +kernel
theorem dX0_puts_86 : decode cX0_puts 86 = .ok (.aload_n 0, 1) := by decide +kernel
theorem dX0_puts_87 : decode cX0_puts 87 = .ok (.getfield 259, 3) := by decide +kernel
theorem dX0_puts_90 : decode cX0_puts 90 = .ok (.getfield 271, 3) := by decide +kernel
theorem dX0_puts_93 : decode cX0_puts 93 = .ok (.aload_n 0, 1) := by decide +kernel
theorem dX0_puts_94 : decode cX0_puts 94 = .ok (.getfield 259, 3) := by decide +kernel
theorem dX0_puts_97 : decode cX0_puts 97 = .ok (.getfield 274, 3) := by decide +kernel
theorem dX0_puts_100 : decode cX0_puts 100 = .ok (.aload_n 0, 1) := by decide +kernel
theorem dX0_puts_101 : decode cX0_puts 101 = .ok (.getfield 53, 3) := by decide +kernel
theorem dX0_puts_104 : decode cX0_puts 104 = .ok (.iload_n 1, 1) := by decide +kernel
theorem dX0_puts_105 : decode cX0_puts 105 = .ok (.iload 4, 2) := by decide +kernel
theorem dX0_puts_107 : decode cX0_puts 107 = .ok (.iadd, 1) := by decide +kernel
theorem dX0_puts_108 : decode cX0_puts 108 = .ok (.baload, 1) := by decide +kernel
theorem dX0_puts_109 : decode cX0_puts 109 = .ok (.bastore, 1) := by decide +kernel
theorem dX0_puts_110 : decode cX0_puts 110 = .ok (.aload_n 0, 1) := by decide +kernel
theorem dX0_puts_111 : decode cX0_puts 111 = .ok (.getfield 259, 3) := by decide +kernel
theorem dX0_puts_114 : decode cX0_puts 114 = .ok (.dup, 1) := by decide +kernel
theorem dX0_puts_115 : decode cX0_puts 115 = .ok (.getfield 274, 3) := by decide +kernel
theorem dX0_puts_118 : decode cX0_puts 118 = .ok (.iconst 1, 1) := by decide +kernel
theorem dX0_puts_119 : decode cX0_puts 119 = .ok (.iadd, 1) := by decide +kernel
theorem dX0_puts_120 : decode cX0_puts 120 = .ok (.putfield 274, 3) := by decide +kernel
theorem dX0_puts_123 : decode cX0_puts 123 = .ok (.iinc 4 1, 3) := by decide +kernel
theorem dX0_puts_126 : decode cX0_puts 126 = .ok (.goto (-46), 3) := by decide +kernel
theorem dX0_puts_129 : decode cX0_puts 129 = .ok (.return_, 1) := by decide +kernel
def c_X0_puts_80 : Nat → MEM → Int → Int → Int → Int → Option zc_O
  | 0, _, _, _, _, _ => none
  | n + 1, μ, x0, x1, x2, x4 => if x2 ≤ x4 then (some (0, 0, μ)) else (ck (zt [1] (μ x0 (-1)) = true) (ck (zt [18] (μ (μ x0 17) (-1)) = true) (ck (zt [30, 31] (μ (μ x0 13) (-1)) = true) (ck ((0 : Int) ≤ (x1 + x4) ∧ (x1 + x4) < μ (μ x0 13) (-2)) (ck (zt [31] (μ (μ (μ x0 17) 0) (-1)) = true) (ck ((0 : Int) ≤ (μ (μ x0 17) 1) ∧ (μ (μ x0 17) 1) < μ (μ (μ x0 17) 0) (-2)) (nu (mup μ (μ (μ x0 17) 0) (μ (μ x0 17) 1) (μ (μ x0 13) (x1 + x4))) (fun μ7 => ck (zt [18] (μ7 (μ7 x0 17) (-1)) = true) (ck (inR ((μ7 (μ7 x0 17) 1) + 1)) (nu (mup μ7 (μ7 x0 17) 1 ((μ7 (μ7 x0 17) 1) + 1)) (fun μ13 => ck (inR (x4 + 1)) (c_X0_puts_80 n μ13 x0 x1 x2 (x4 + 1)))))))))))))
theorem u_X0_puts_80 {C : zv_Cx zc_O} {G : zc_G} {μ0 : MEM} (h : zv_Ok C cX0_puts "TreePress") (hc : zc_C C G μ0 5 (Option.none : Option FieldType) 0 7 152 "puts" []) : ∀ (n : Nat) (μ : MEM) (x0 x1 x2 x4 : Int), inR x1 → inR x2 → inR x4 → VV C (c_X0_puts_80 n μ x0 x1 x2 x4) μ [(0, zc_rv G x0), (1, iv x1), (2, iv x2), (4, iv x4)] [] 80 := by
  have hN : ∀ i, i < 5 → i < zv_n C := fun i q => by rw [hc.2.1]; exact q
  intro n
  induction n with
  | zero => intros; exact r_none
  | succ n ih =>
    intro μ x0 x1 x2 x4 hx1 hx2 hx4
    rw [c_X0_puts_80]
    refine r_iload h 3 dX0_puts_80 rfl ?_
    refine r_iload_n h 2 dX0_puts_82 rfl rfl ?_
    refine r_icmp_ge (x := x4) (y := x2) h hx4 hx2 129 dX0_puts_83 rfl ?_ ?_
    · exact c_vret h hc rfl dX0_puts_129
    · refine c_aload_n (x := x0) h 0 dX0_puts_86 rfl rfl ?_
      refine r_ck (fun ht1 => ?_)
      refine c_getR (fin := false) h hc [1] 17 (zc_lk1 h q222) ht1 (by decide) dX0_puts_87 ?_
      refine r_ck (fun ht2 => ?_)
      refine c_getR (fin := true) h hc [18] 0 (zc_lk3 hc (O := "TreePress$Line") (n := "bytes") (ds := "[B") (host := "TreePress") (by decide)) ht2 (by decide) dX0_puts_90 ?_
      refine c_aload_n (x := x0) h 0 dX0_puts_93 rfl rfl ?_
      refine c_getR (fin := false) h hc [1] 17 (zc_lk1 h q222) ht1 (by decide) dX0_puts_94 ?_
      refine c_getI (fin := false) h hc [18] 1 (zc_lk3 hc (O := "TreePress$Line") (n := "many") (ds := "I") (host := "TreePress") (by decide)) ht2 (by decide) dX0_puts_97 (fun hr3 => ?_)
      refine c_aload_n (x := x0) h 0 dX0_puts_100 rfl rfl ?_
      refine c_getR (fin := true) h hc [1] 13 (zc_lk1 h q218) ht1 (by decide) dX0_puts_101 ?_
      refine r_iload_n h 1 dX0_puts_104 rfl rfl ?_
      refine r_iload h 3 dX0_puts_105 rfl ?_
      refine r_iadd h dX0_puts_107 ?_
      refine r_ck (fun ht4 => ?_)
      refine c_ldB h hc ht4 dX0_puts_108 (fun _ hr5 => ?_)
      refine r_ck (fun ht6 => ?_)
      refine c_stB (x := (μ (μ x0 17) 0)) (y := (μ (μ x0 17) 1)) (z := (μ (μ x0 13) (x1 + x4))) h hc ht6 hr5 dX0_puts_109 (fun hb9 μ7 he8 => ?_)
      refine c_aload_n (x := x0) h 0 dX0_puts_110 rfl rfl ?_
      refine c_getR (fin := false) h hc [1] 17 (zc_lk1 h q222) (zt_mup he8 hb9.1 ht1) (by decide) dX0_puts_111 ?_
      refine r_dup h dX0_puts_114 (zc_rv_cat G _) ?_
      refine r_ck (fun ht10 => ?_)
      refine c_getI (fin := false) h hc [18] 1 (zc_lk3 hc (O := "TreePress$Line") (n := "many") (ds := "I") (host := "TreePress") (by decide)) ht10 (by decide) dX0_puts_115 (fun hr11 => ?_)
      refine r_iconst h dX0_puts_118 ?_
      refine r_iadd h dX0_puts_119 ?_
      refine r_ck (fun hk12 => ?_)
      refine c_putI (x := (μ7 x0 17)) (y := ((μ7 (μ7 x0 17) 1) + 1)) h hc [18] 1 false (zc_lk3 hc (O := "TreePress$Line") (n := "many") (ds := "I") (host := "TreePress") (by decide)) ht10 (by decide) (Or.inl rfl) hk12 dX0_puts_120 (fun μ13 he14 => ?_)
      refine r_iinc (lv' := [(4, iv (x4 + 1)), (0, zc_rv G x0), (1, iv x1), (2, iv x2)]) h 3 dX0_puts_123 rfl (hN _ (by decide)) rfl ?_
      refine r_goto h 80 dX0_puts_126 rfl ?_
      refine r_ck (fun hk15 => ?_)
      exact r_lv [1, 2, 3, 0] rfl (ih _ x0 x1 x2 (x4 + 1) hx1 hx2 hk15)
def c_X0_puts (μ : MEM) (a0 a1 a2 a3 : Int) : Option zc_O := if a3 = 0 then (ck (1 ≤ μ 0 1 ∧ (5 : Int) ≤ μ 0 2) (nu (mnew μ 18 0 5) (fun μ1 => ck (zt [1] (μ1 a0 (-1)) = true) (bc (c_X18_init μ1 (μ 0 0) (μ1 a0 16)) (fun _ μ5 => ck (zt [1] (μ5 a0 (-1)) = true) (nu (mup μ5 a0 17 (μ 0 0)) (fun μ7 => ck (zt [35] (μ7 (μ7 a0 14) (-1)) = true) (ck ((0 : Int) ≤ a1 ∧ a1 < μ7 (μ7 a0 14) (-2)) (ck (zt [18] (μ7 (μ7 a0 17) (-1)) = true) (nu (mup μ7 (μ7 a0 17) 4 (μ7 (μ7 a0 14) a1)) (fun μ12 => ck (zt [40] (μ12 (μ12 a0 11) (-1)) = true) (bc (b_ladd μ12 (μ12 a0 11) (μ12 a0 17)) (fun r15 μ16 => c_X0_puts_80 zF μ16 a0 a1 a2 0))))))))))))) else (ck (zt [1] (μ a0 (-1)) = true) (ck (zt [18] (μ (μ a0 17) (-1)) = true) (ck (zt [31] (μ (μ (μ a0 17) 0) (-1)) = true) (ck ((0 : Int) ≤ (μ (μ a0 17) 1) ∧ (μ (μ a0 17) 1) < μ (μ (μ a0 17) 0) (-2)) (nu (mup μ (μ (μ a0 17) 0) (μ (μ a0 17) 1) 32) (fun μ22 => ck (zt [18] (μ22 (μ22 a0 17) (-1)) = true) (ck (inR ((μ22 (μ22 a0 17) 1) + 1)) (nu (mup μ22 (μ22 a0 17) 1 ((μ22 (μ22 a0 17) 1) + 1)) (fun μ28 => c_X0_puts_80 zF μ28 a0 a1 a2 0)))))))))
theorem u_X0_puts {G : zc_G} (μ : MEM) (a0 a1 a2 a3 : Int) (ha1 : inR a1) (ha2 : inR a2) (ha3 : isB a3) (o : zc_O) (hd : c_X0_puts μ a0 a1 a2 a3 = some o) : zc_Met G yX0_puts cX0_puts 5 (Option.none : Option FieldType) 0 7 152 μ [zc_rv G a0, iv a1, iv a2, iv a3] o := by
  refine zc_intro hd (by decide) (by simp [lg_sl, zc_rv_cat, iv_cat, jv_cat]) (lv := [(0, zc_rv G a0), (1, iv a1), (2, iv a2), (3, iv a3)]) (by simp [lv_args, zc_rv_cat, iv_cat, jv_cat]) (fun C h hc => ?_)
  have h : zv_Ok C cX0_puts "TreePress" := h
  have hc : zc_C C G μ 5 (Option.none : Option FieldType) 0 7 152 "puts" [] := hc
  have hN : ∀ i, i < 5 → i < zv_n C := fun i q => by rw [hc.2.1]; exact q
  unfold c_X0_puts
  refine r_iload_n h 3 dX0_puts_0 rfl rfl ?_
  refine r_if_ne (x := a3) h ha3.r 47 dX0_puts_1 rfl ?_ ?_
  · refine c_aload_n (x := a0) h 0 dX0_puts_4 rfl rfl ?_
    refine c_new h hc 18 (N := 5) rfl (by decide) q1405 q1406 q165 dX0_puts_5 (fun _ μ1 he2 => ?_)
    refine r_dup h dX0_puts_8 (zc_rv_cat G _) ?_
    refine c_aload_n (x := a0) h 0 dX0_puts_9 rfl rfl ?_
    refine r_ck (fun ht3 => ?_)
    refine c_getI (fin := false) h hc [1] 16 (zc_lk1 h q221) ht3 (by decide) dX0_puts_10 (fun hr4 => ?_)
    refine c_callI (x := (μ 0 0)) h hc (As := [iv (μ1 a0 16)]) (fun o1 e1 => u_X18_init _ (μ 0 0) (μ1 a0 16) hr4 o1 e1) [18] (zt_nw he2) (by decide) q1407 q1408 rfl q1409 q165 (by omega) (by omega) (zc_sc (zc_rv_cat G _) (zc_sc (zc_rv_cat G _) zc_s0)) (by omega) (fun z hz => by cases hz) ⟨by decide, by decide⟩ (n := 1) (by decide +kernel) rfl rfl dX0_puts_13 (fun _ μ5 _ => r_k0 ?_)
    refine r_ck (fun ht6 => ?_)
    refine c_putR (x := a0) (y := (μ 0 0)) h hc [1] 17 false (zc_lk1 h q222) ht6 (by decide) (Or.inl rfl) (ty := (.object "TreePress$Line")) (by decide +kernel) (Or.inl ⟨_, rfl⟩) dX0_puts_16 (fun μ7 he8 => ?_)
    refine c_aload_n (x := a0) h 0 dX0_puts_19 rfl rfl ?_
    refine c_getR (fin := false) h hc [1] 17 (zc_lk1 h q222) (zt_mup he8 (by decide) ht6) (by decide) dX0_puts_20 ?_
    refine c_aload_n (x := a0) h 0 dX0_puts_23 rfl rfl ?_
    refine c_getR (fin := true) h hc [1] 14 (zc_lk1 h q219) (zt_mup he8 (by decide) ht6) (by decide) dX0_puts_24 ?_
    refine r_iload_n h 1 dX0_puts_27 rfl rfl ?_
    refine r_ck (fun ht9 => ?_)
    refine c_ldR35 h hc ht9 dX0_puts_28 (fun _ => ?_)
    refine r_ck (fun ht11 => ?_)
    refine c_putR (x := (μ7 a0 17)) (y := (μ7 (μ7 a0 14) a1)) h hc [18] 4 false (zc_lk3 hc (O := "TreePress$Line") (n := "of") (ds := "LTreePress$Node;") (host := "TreePress") (by decide)) ht11 (by decide) (Or.inl rfl) (ty := (.object "TreePress$Node")) (by decide +kernel) (Or.inl ⟨_, rfl⟩) dX0_puts_29 (fun μ12 he13 => ?_)
    refine c_aload_n (x := a0) h 0 dX0_puts_32 rfl rfl ?_
    refine c_getR (fin := true) h hc [1] 11 (zc_lk1 h q216) (zt_mup he13 (by decide) (zt_mup he8 (by decide) ht6)) (by decide) dX0_puts_33 ?_
    refine c_aload_n (x := a0) h 0 dX0_puts_36 rfl rfl ?_
    refine c_getR (fin := false) h hc [1] 17 (zc_lk1 h q222) (zt_mup he13 (by decide) (zt_mup he8 (by decide) ht6)) (by decide) dX0_puts_37 ?_
    refine r_ck (fun ht14 => ?_)
    refine c_callV (x := (μ12 a0 11)) h hc (As := [zc_rv G (μ12 a0 17)]) (fun o1 e1 => w_ladd _ (μ12 a0 11) (μ12 a0 17) o1 e1) [40] ht14 (by decide) q1428 q347 (fun t ht => by cases List.mem_singleton.mp ht; exact q348) q349 q135 (by omega) (by omega) zc_s0 (by omega) (fun z hz => by cases hz) ⟨by decide, by decide⟩ (n := 1) (by decide +kernel) rfl rfl dX0_puts_40 (fun r15 μ16 hr17 => r_k3 ?_)
    refine r_pop h dX0_puts_43 (iv_cat _) ?_
    refine r_goto h 77 dX0_puts_44 rfl ?_
    refine r_iconst h dX0_puts_77 ?_
    refine r_istore (lv' := [(4, iv 0), (0, zc_rv G a0), (1, iv a1), (2, iv a2), (3, iv a3)]) h dX0_puts_78 (hN _ (by decide)) rfl ?_
    exact r_lv [1, 2, 3, 0] rfl (u_X0_puts_80 h hc zF _ a0 a1 a2 0 ha1 ha2 (by decide))
  · refine c_aload_n (x := a0) h 0 dX0_puts_47 rfl rfl ?_
    refine r_ck (fun ht18 => ?_)
    refine c_getR (fin := false) h hc [1] 17 (zc_lk1 h q222) ht18 (by decide) dX0_puts_48 ?_
    refine r_ck (fun ht19 => ?_)
    refine c_getR (fin := true) h hc [18] 0 (zc_lk3 hc (O := "TreePress$Line") (n := "bytes") (ds := "[B") (host := "TreePress") (by decide)) ht19 (by decide) dX0_puts_51 ?_
    refine c_aload_n (x := a0) h 0 dX0_puts_54 rfl rfl ?_
    refine c_getR (fin := false) h hc [1] 17 (zc_lk1 h q222) ht18 (by decide) dX0_puts_55 ?_
    refine c_getI (fin := false) h hc [18] 1 (zc_lk3 hc (O := "TreePress$Line") (n := "many") (ds := "I") (host := "TreePress") (by decide)) ht19 (by decide) dX0_puts_58 (fun hr20 => ?_)
    refine r_bipush h dX0_puts_61 (by decide) ?_
    refine r_ck (fun ht21 => ?_)
    refine c_stB (x := (μ (μ a0 17) 0)) (y := (μ (μ a0 17) 1)) (z := 32) h hc ht21 (by decide) dX0_puts_63 (fun hb24 μ22 he23 => ?_)
    refine c_aload_n (x := a0) h 0 dX0_puts_64 rfl rfl ?_
    refine c_getR (fin := false) h hc [1] 17 (zc_lk1 h q222) (zt_mup he23 hb24.1 ht18) (by decide) dX0_puts_65 ?_
    refine r_dup h dX0_puts_68 (zc_rv_cat G _) ?_
    refine r_ck (fun ht25 => ?_)
    refine c_getI (fin := false) h hc [18] 1 (zc_lk3 hc (O := "TreePress$Line") (n := "many") (ds := "I") (host := "TreePress") (by decide)) ht25 (by decide) dX0_puts_69 (fun hr26 => ?_)
    refine r_iconst h dX0_puts_72 ?_
    refine r_iadd h dX0_puts_73 ?_
    refine r_ck (fun hk27 => ?_)
    refine c_putI (x := (μ22 a0 17)) (y := ((μ22 (μ22 a0 17) 1) + 1)) h hc [18] 1 false (zc_lk3 hc (O := "TreePress$Line") (n := "many") (ds := "I") (host := "TreePress") (by decide)) ht25 (by decide) (Or.inl rfl) hk27 dX0_puts_74 (fun μ28 he29 => ?_)
    refine r_iconst h dX0_puts_77 ?_
    refine r_istore (lv' := [(4, iv 0), (0, zc_rv G a0), (1, iv a1), (2, iv a2), (3, iv a3)]) h dX0_puts_78 (hN _ (by decide)) rfl ?_
    exact r_lv [1, 2, 3, 0] rfl (u_X0_puts_80 h hc zF _ a0 a1 a2 0 ha1 ha2 (by decide))
theorem dX0_wordEnds_0 : decode cX0_wordEnds 0 = .ok (.iconst 0, 1) := by decide +kernel
theorem dX0_wordEnds_1 : decode cX0_wordEnds 1 = .ok (.istore_n 1, 1) := by decide +kernel
theorem dX0_wordEnds_2 : decode cX0_wordEnds 2 = .ok (.aload_n 0, 1) := by decide +kernel
theorem dX0_wordEnds_3 : decode cX0_wordEnds 3 = .ok (.getfield 277, 3) := by decide +kernel
theorem dX0_wordEnds_6 : decode cX0_wordEnds 6 = .ok (.iload_n 1, 1) := by decide +kernel
theorem dX0_wordEnds_7 : decode cX0_wordEnds 7 = .ok (.isub, 1) := by decide +kernel
theorem dX0_wordEnds_8 : decode cX0_wordEnds 8 = .ok (.aload_n 0, 1) := by decide +kernel
theorem dX0_wordEnds_9 : decode cX0_wordEnds 9 = .ok (.getfield 254, 3) := by decide +kernel
theorem dX0_wordEnds_12 : decode cX0_wordEnds 12 = .ok (.if_icmp .le 23, 3) := by decide +kernel
theorem dX0_wordEnds_15 : decode cX0_wordEnds 15 = .ok (.aload_n 0, 1) := by decide +kernel
theorem dX0_wordEnds_16 : decode cX0_wordEnds 16 = .ok (.iload_n 1, 1) := by decide +kernel
theorem dX0_wordEnds_17 : decode cX0_wordEnds 17 = .ok (.aload_n 0, 1) := by decide +kernel
theorem dX0_wordEnds_18 : decode cX0_wordEnds 18 = .ok (.getfield 254, 3) := by decide +kernel
theorem dX0_wordEnds_21 : decode cX0_wordEnds 21 = .ok (.iconst 0, 1) := by decide +kernel
theorem dX0_wordEnds_22 : decode cX0_wordEnds 22 = .ok (.invokevirtual 280, 3) := by decide +kernel
theorem dX0_wordEnds_25 : decode cX0_wordEnds 25 = .ok (.iload_n 1, 1) := by decide +kernel
theorem dX0_wordEnds_26 : decode cX0_wordEnds 26 = .ok (.aload_n 0, 1) := by decide +kernel
theorem dX0_wordEnds_27 : decode cX0_wordEnds 27 = .ok (.getfield 254, 3) := by decide +kernel
theorem dX0_wordEnds_30 : decode cX0_wordEnds 30 = .ok (.iadd, 1) := by decide +kernel
theorem dX0_wordEnds_31 : decode cX0_wordEnds 31 = .ok (.istore_n 1, 1) := by decide +kernel
theorem dX0_wordEnds_32 : decode cX0_wordEnds 32 = .ok (.goto (-30), 3) := by decide +kernel
theorem dX0_wordEnds_35 : decode cX0_wordEnds 35 = .ok (.aload_n 0, 1) := by decide +kernel
theorem dX0_wordEnds_36 : decode cX0_wordEnds 36 = .ok (.getfield 277, 3) := by decide +kernel
theorem dX0_wordEnds_39 : decode cX0_wordEnds 39 = .ok (.iload_n 1, 1) := by decide +kernel
theorem dX0_wordEnds_40 : decode cX0_wordEnds 40 = .ok (.isub, 1) := by decide +kernel
theorem dX0_wordEnds_41 : decode cX0_wordEnds 41 = .ok (.istore_n 2, 1) := by decide +kernel
theorem dX0_wordEnds_42 : decode cX0_wordEnds 42 = .ok (.iload_n 2, 1) := by decide +kernel
theorem dX0_wordEnds_43 : decode cX0_wordEnds 43 = .ok (.ifCond .le 39, 3) := by decide +kernel
theorem dX0_wordEnds_46 : decode cX0_wordEnds 46 = .ok (.aload_n 0, 1) := by decide +kernel
theorem dX0_wordEnds_47 : decode cX0_wordEnds 47 = .ok (.iload_n 1, 1) := by decide +kernel
theorem dX0_wordEnds_48 : decode cX0_wordEnds 48 = .ok (.iload_n 2, 1) := by decide +kernel
theorem dX0_wordEnds_49 : decode cX0_wordEnds 49 = .ok (.aload_n 0, 1) := by decide +kernel
theorem dX0_wordEnds_50 : decode cX0_wordEnds 50 = .ok (.getfield 259, 3) := by decide +kernel
theorem dX0_wordEnds_53 : decode cX0_wordEnds 53 = .ok (.ifnull 25, 3) := by decide +kernel
theorem dX0_wordEnds_56 : decode cX0_wordEnds 56 = .ok (.aload_n 0, 1) := by decide +kernel
theorem dX0_wordEnds_57 : decode cX0_wordEnds 57 = .ok (.getfield 259, 3) := by decide +kernel
theorem dX0_wordEnds_60 : decode cX0_wordEnds 60 = .ok (.getfield 274, 3) := by decide +kernel
theorem dX0_wordEnds_63 : decode cX0_wordEnds 63 = .ok (.iconst 1, 1) := by decide +kernel
theorem dX0_wordEnds_64 : decode cX0_wordEnds 64 = .ok (.iadd, 1) := by decide +kernel
theorem dX0_wordEnds_65 : decode cX0_wordEnds 65 = .ok (.iload_n 2, 1) := by decide +kernel
theorem dX0_wordEnds_66 : decode cX0_wordEnds 66 = .ok (.iadd, 1) := by decide +kernel
theorem dX0_wordEnds_67 : decode cX0_wordEnds 67 = .ok (.aload_n 0, 1) := by decide +kernel
theorem dX0_wordEnds_68 : decode cX0_wordEnds 68 = .ok (.getfield 254, 3) := by decide +kernel
theorem dX0_wordEnds_71 : decode cX0_wordEnds 71 = .ok (.if_icmp .gt 7, 3) := by decide +kernel
theorem dX0_wordEnds_74 : decode cX0_wordEnds 74 = .ok (.iconst 1, 1) := by decide +kernel
theorem dX0_wordEnds_75 : decode cX0_wordEnds 75 = .ok (.goto 4, 3) := by decide +kernel
theorem dX0_wordEnds_78 : decode cX0_wordEnds 78 = .ok (.iconst 0, 1) := by decide +kernel
theorem dX0_wordEnds_79 : decode cX0_wordEnds 79 = .ok (.invokevirtual 280, 3) := by decide +kernel
theorem dX0_wordEnds_82 : decode cX0_wordEnds 82 = .ok (.aload_n 0, 1) := by decide +kernel
theorem dX0_wordEnds_83 : decode cX0_wordEnds 83 = .ok (.iconst 0, 1) := by decide +kernel
theorem dX0_wordEnds_84 : decode cX0_wordEnds 84 = .ok (.putfield 277, 3) := by decide +kernel
theorem dX0_wordEnds_87 : decode cX0_wordEnds 87 = .ok (.return_, 1) := by decide +kernel
def c_X0_wordEnds_2 : Nat → MEM → Int → Int → Option zc_O
  | 0, _, _, _ => none
  | n + 1, μ, x0, x1 => ck (zt [1] (μ x0 (-1)) = true) (ck (inR ((μ x0 15) - x1)) (if ((μ x0 15) - x1) ≤ (μ x0 16) then (ck (inR ((μ x0 15) - x1)) (if ((μ x0 15) - x1) ≤ 0 then (nu (mup μ x0 15 0) (fun μ7 => some (0, 0, μ7))) else (if (μ x0 17) = 0 then (bc (c_X0_puts μ x0 x1 ((μ x0 15) - x1) 0) (fun _ μ9 => ck (zt [1] (μ9 x0 (-1)) = true) (nu (mup μ9 x0 15 0) (fun μ11 => some (0, 0, μ11))))) else (ck (zt [18] (μ (μ x0 17) (-1)) = true) (ck (inR (((μ (μ x0 17) 1) + 1) + ((μ x0 15) - x1))) (if (μ x0 16) < (((μ (μ x0 17) 1) + 1) + ((μ x0 15) - x1)) then (bc (c_X0_puts μ x0 x1 ((μ x0 15) - x1) 0) (fun _ μ17 => ck (zt [1] (μ17 x0 (-1)) = true) (nu (mup μ17 x0 15 0) (fun μ19 => some (0, 0, μ19))))) else (bc (c_X0_puts μ x0 x1 ((μ x0 15) - x1) 1) (fun _ μ21 => ck (zt [1] (μ21 x0 (-1)) = true) (nu (mup μ21 x0 15 0) (fun μ23 => some (0, 0, μ23))))))))))) else (bc (c_X0_puts μ x0 x1 (μ x0 16) 0) (fun _ μ26 => ck (zt [1] (μ26 x0 (-1)) = true) (ck (inR (x1 + (μ26 x0 16))) (c_X0_wordEnds_2 n μ26 x0 (x1 + (μ26 x0 16))))))))
theorem u_X0_wordEnds_2 {C : zv_Cx zc_O} {G : zc_G} {μ0 : MEM} (h : zv_Ok C cX0_wordEnds "TreePress") (hc : zc_C C G μ0 3 (Option.none : Option FieldType) 0 8 176 "wordEnds" []) : ∀ (n : Nat) (μ : MEM) (x0 x1 : Int), inR x1 → VV C (c_X0_wordEnds_2 n μ x0 x1) μ [(0, zc_rv G x0), (1, iv x1)] [] 2 := by
  have hN : ∀ i, i < 3 → i < zv_n C := fun i q => by rw [hc.2.1]; exact q
  intro n
  induction n with
  | zero => intros; exact r_none
  | succ n ih =>
    intro μ x0 x1 hx1
    rw [c_X0_wordEnds_2]
    refine c_aload_n (x := x0) h 0 dX0_wordEnds_2 rfl rfl ?_
    refine r_ck (fun ht1 => ?_)
    refine c_getI (fin := false) h hc [1] 15 (zc_lk1 h q220) ht1 (by decide) dX0_wordEnds_3 (fun hr2 => ?_)
    refine r_iload_n h 1 dX0_wordEnds_6 rfl rfl ?_
    refine r_isub h dX0_wordEnds_7 ?_
    refine c_aload_n (x := x0) h 0 dX0_wordEnds_8 rfl rfl ?_
    refine c_getI (fin := false) h hc [1] 16 (zc_lk1 h q221) ht1 (by decide) dX0_wordEnds_9 (fun hr3 => ?_)
    refine r_ck (fun hk4 => ?_)
    refine r_icmp_le (x := ((μ x0 15) - x1)) (y := (μ x0 16)) h hk4 hr3 35 dX0_wordEnds_12 rfl ?_ ?_
    · refine c_aload_n (x := x0) h 0 dX0_wordEnds_35 rfl rfl ?_
      refine c_getI (fin := false) h hc [1] 15 (zc_lk1 h q220) ht1 (by decide) dX0_wordEnds_36 (fun hr5 => ?_)
      refine r_iload_n h 1 dX0_wordEnds_39 rfl rfl ?_
      refine r_isub h dX0_wordEnds_40 ?_
      refine r_istore_n (i := 2) (lv' := [(2, iv ((μ x0 15) - x1)), (0, zc_rv G x0), (1, iv x1)]) h dX0_wordEnds_41 rfl (hN _ (by decide)) rfl ?_
      refine r_iload_n h 0 dX0_wordEnds_42 rfl rfl ?_
      refine r_ck (fun hk6 => ?_)
      refine r_if_le (x := ((μ x0 15) - x1)) h hk6 82 dX0_wordEnds_43 rfl ?_ ?_
      · refine c_aload_n (x := x0) h 1 dX0_wordEnds_82 rfl rfl ?_
        refine r_iconst h dX0_wordEnds_83 ?_
        refine c_putI (x := x0) (y := 0) h hc [1] 15 false (zc_lk1 h q220) ht1 (by decide) (Or.inl rfl) (by decide) dX0_wordEnds_84 (fun μ7 he8 => ?_)
        exact c_vret h hc rfl dX0_wordEnds_87
      · refine c_aload_n (x := x0) h 1 dX0_wordEnds_46 rfl rfl ?_
        refine r_iload_n h 2 dX0_wordEnds_47 rfl rfl ?_
        refine r_iload_n h 0 dX0_wordEnds_48 rfl rfl ?_
        refine c_aload_n (x := x0) h 1 dX0_wordEnds_49 rfl rfl ?_
        refine c_getR (fin := false) h hc [1] 17 (zc_lk1 h q222) ht1 (by decide) dX0_wordEnds_50 ?_
        refine c_ifnull (x := (μ x0 17)) h 78 dX0_wordEnds_53 rfl ?_ ?_
        · refine r_iconst h dX0_wordEnds_78 ?_
          refine c_callV (x := x0) h hc (As := [iv x1, iv ((μ x0 15) - x1), iv 0]) (fun o1 e1 => u_X0_puts _ x0 x1 ((μ x0 15) - x1) 0 hx1 hk6 (by decide) o1 e1) [1] ht1 (by decide) q1401 q1403 (fun t ht => by cases List.mem_singleton.mp ht; exact qs51) q1404 q132 (by omega) (by omega) zc_s0 (by omega) (fun z hz => by cases hz) ⟨by decide, by decide⟩ (n := 3) (by decide +kernel) rfl rfl dX0_wordEnds_79 (fun _ μ9 _ => r_k0 ?_)
          refine c_aload_n (x := x0) h 1 dX0_wordEnds_82 rfl rfl ?_
          refine r_iconst h dX0_wordEnds_83 ?_
          refine r_ck (fun ht10 => ?_)
          refine c_putI (x := x0) (y := 0) h hc [1] 15 false (zc_lk1 h q220) ht10 (by decide) (Or.inl rfl) (by decide) dX0_wordEnds_84 (fun μ11 he12 => ?_)
          exact c_vret h hc rfl dX0_wordEnds_87
        · refine c_aload_n (x := x0) h 1 dX0_wordEnds_56 rfl rfl ?_
          refine c_getR (fin := false) h hc [1] 17 (zc_lk1 h q222) ht1 (by decide) dX0_wordEnds_57 ?_
          refine r_ck (fun ht13 => ?_)
          refine c_getI (fin := false) h hc [18] 1 (zc_lk3 hc (O := "TreePress$Line") (n := "many") (ds := "I") (host := "TreePress") (by decide)) ht13 (by decide) dX0_wordEnds_60 (fun hr14 => ?_)
          refine r_iconst h dX0_wordEnds_63 ?_
          refine r_iadd h dX0_wordEnds_64 ?_
          refine r_iload_n h 0 dX0_wordEnds_65 rfl rfl ?_
          refine r_iadd h dX0_wordEnds_66 ?_
          refine c_aload_n (x := x0) h 1 dX0_wordEnds_67 rfl rfl ?_
          refine c_getI (fin := false) h hc [1] 16 (zc_lk1 h q221) ht1 (by decide) dX0_wordEnds_68 (fun hr15 => ?_)
          refine r_ck (fun hk16 => ?_)
          refine r_icmp_gt (x := (((μ (μ x0 17) 1) + 1) + ((μ x0 15) - x1))) (y := (μ x0 16)) h hk16 hr15 78 dX0_wordEnds_71 rfl ?_ ?_
          · refine r_iconst h dX0_wordEnds_78 ?_
            refine c_callV (x := x0) h hc (As := [iv x1, iv ((μ x0 15) - x1), iv 0]) (fun o1 e1 => u_X0_puts _ x0 x1 ((μ x0 15) - x1) 0 hx1 hk6 (by decide) o1 e1) [1] ht1 (by decide) q1401 q1403 (fun t ht => by cases List.mem_singleton.mp ht; exact qs51) q1404 q132 (by omega) (by omega) zc_s0 (by omega) (fun z hz => by cases hz) ⟨by decide, by decide⟩ (n := 3) (by decide +kernel) rfl rfl dX0_wordEnds_79 (fun _ μ17 _ => r_k0 ?_)
            refine c_aload_n (x := x0) h 1 dX0_wordEnds_82 rfl rfl ?_
            refine r_iconst h dX0_wordEnds_83 ?_
            refine r_ck (fun ht18 => ?_)
            refine c_putI (x := x0) (y := 0) h hc [1] 15 false (zc_lk1 h q220) ht18 (by decide) (Or.inl rfl) (by decide) dX0_wordEnds_84 (fun μ19 he20 => ?_)
            exact c_vret h hc rfl dX0_wordEnds_87
          · refine r_iconst h dX0_wordEnds_74 ?_
            refine r_goto h 79 dX0_wordEnds_75 rfl ?_
            refine c_callV (x := x0) h hc (As := [iv x1, iv ((μ x0 15) - x1), iv 1]) (fun o1 e1 => u_X0_puts _ x0 x1 ((μ x0 15) - x1) 1 hx1 hk6 (by decide) o1 e1) [1] ht1 (by decide) q1401 q1403 (fun t ht => by cases List.mem_singleton.mp ht; exact qs51) q1404 q132 (by omega) (by omega) zc_s0 (by omega) (fun z hz => by cases hz) ⟨by decide, by decide⟩ (n := 3) (by decide +kernel) rfl rfl dX0_wordEnds_79 (fun _ μ21 _ => r_k0 ?_)
            refine c_aload_n (x := x0) h 1 dX0_wordEnds_82 rfl rfl ?_
            refine r_iconst h dX0_wordEnds_83 ?_
            refine r_ck (fun ht22 => ?_)
            refine c_putI (x := x0) (y := 0) h hc [1] 15 false (zc_lk1 h q220) ht22 (by decide) (Or.inl rfl) (by decide) dX0_wordEnds_84 (fun μ23 he24 => ?_)
            exact c_vret h hc rfl dX0_wordEnds_87
    · refine c_aload_n (x := x0) h 0 dX0_wordEnds_15 rfl rfl ?_
      refine r_iload_n h 1 dX0_wordEnds_16 rfl rfl ?_
      refine c_aload_n (x := x0) h 0 dX0_wordEnds_17 rfl rfl ?_
      refine c_getI (fin := false) h hc [1] 16 (zc_lk1 h q221) ht1 (by decide) dX0_wordEnds_18 (fun hr25 => ?_)
      refine r_iconst h dX0_wordEnds_21 ?_
      refine c_callV (x := x0) h hc (As := [iv x1, iv (μ x0 16), iv 0]) (fun o1 e1 => u_X0_puts _ x0 x1 (μ x0 16) 0 hx1 hr25 (by decide) o1 e1) [1] ht1 (by decide) q1401 q1403 (fun t ht => by cases List.mem_singleton.mp ht; exact qs51) q1404 q132 (by omega) (by omega) zc_s0 (by omega) (fun z hz => by cases hz) ⟨by decide, by decide⟩ (n := 3) (by decide +kernel) rfl rfl dX0_wordEnds_22 (fun _ μ26 _ => r_k0 ?_)
      refine r_iload_n h 1 dX0_wordEnds_25 rfl rfl ?_
      refine c_aload_n (x := x0) h 0 dX0_wordEnds_26 rfl rfl ?_
      refine r_ck (fun ht27 => ?_)
      refine c_getI (fin := false) h hc [1] 16 (zc_lk1 h q221) ht27 (by decide) dX0_wordEnds_27 (fun hr28 => ?_)
      refine r_iadd h dX0_wordEnds_30 ?_
      refine r_istore_n (i := 1) (lv' := [(1, iv (x1 + (μ26 x0 16))), (0, zc_rv G x0)]) h dX0_wordEnds_31 rfl (hN _ (by decide)) (by simp [zc_rv_cat]) ?_
      refine r_goto h 2 dX0_wordEnds_32 rfl ?_
      refine r_ck (fun hk29 => ?_)
      exact r_lv [1, 0] rfl (ih _ x0 (x1 + (μ26 x0 16)) hk29)
def c_X0_wordEnds (μ : MEM) (a0 : Int) : Option zc_O := c_X0_wordEnds_2 zF μ a0 0
theorem u_X0_wordEnds {G : zc_G} (μ : MEM) (a0 : Int) (o : zc_O) (hd : c_X0_wordEnds μ a0 = some o) : zc_Met G yX0_wordEnds cX0_wordEnds 3 (Option.none : Option FieldType) 0 8 176 μ [zc_rv G a0] o := by
  refine zc_intro hd (by decide) (by simp [lg_sl, zc_rv_cat, iv_cat, jv_cat]) (lv := [(0, zc_rv G a0)]) (by simp [lv_args, zc_rv_cat, iv_cat, jv_cat]) (fun C h hc => ?_)
  have h : zv_Ok C cX0_wordEnds "TreePress" := h
  have hc : zc_C C G μ 3 (Option.none : Option FieldType) 0 8 176 "wordEnds" [] := hc
  have hN : ∀ i, i < 3 → i < zv_n C := fun i q => by rw [hc.2.1]; exact q
  unfold c_X0_wordEnds
  refine r_iconst h dX0_wordEnds_0 ?_
  refine r_istore_n (i := 1) (lv' := [(1, iv 0), (0, zc_rv G a0)]) h dX0_wordEnds_1 rfl (hN _ (by decide)) (by simp [zc_rv_cat]) ?_
  exact r_lv [1, 0] rfl (u_X0_wordEnds_2 h hc zF _ a0 0 (by decide))
theorem dX11_isBlock_0 : decode cX11_isBlock 0 = .ok (.aload_n 0, 1) := by decide +kernel
theorem dX11_isBlock_1 : decode cX11_isBlock 1 = .ok (.getfield 18, 3) := by decide +kernel
theorem dX11_isBlock_4 : decode cX11_isBlock 4 = .ok (.iconst 0, 1) := by decide +kernel
theorem dX11_isBlock_5 : decode cX11_isBlock 5 = .ok (.baload, 1) := by decide +kernel
theorem dX11_isBlock_6 : decode cX11_isBlock 6 = .ok (.bipush 65, 2) := by decide +kernel
theorem dX11_isBlock_8 : decode cX11_isBlock 8 = .ok (.if_icmp .lt 18, 3) := by decide +kernel
theorem dX11_isBlock_11 : decode cX11_isBlock 11 = .ok (.aload_n 0, 1) := by decide +kernel
theorem dX11_isBlock_12 : decode cX11_isBlock 12 = .ok (.getfield 18, 3) := by decide +kernel
theorem dX11_isBlock_15 : decode cX11_isBlock 15 = .ok (.iconst 0, 1) := by decide +kernel
theorem dX11_isBlock_16 : decode cX11_isBlock 16 = .ok (.baload, 1) := by decide +kernel
theorem dX11_isBlock_17 : decode cX11_isBlock 17 = .ok (.bipush 90, 2) := by decide +kernel
theorem dX11_isBlock_19 : decode cX11_isBlock 19 = .ok (.if_icmp .gt 7, 3) := by decide +kernel
theorem dX11_isBlock_22 : decode cX11_isBlock 22 = .ok (.iconst 1, 1) := by decide +kernel
theorem dX11_isBlock_23 : decode cX11_isBlock 23 = .ok (.goto 4, 3) := by decide +kernel
theorem dX11_isBlock_26 : decode cX11_isBlock 26 = .ok (.iconst 0, 1) := by decide +kernel
theorem dX11_isBlock_27 : decode cX11_isBlock 27 = .ok (.ireturn, 1) := by decide +kernel
def c_X11_isBlock (μ : MEM) (a0 : Int) : Option zc_O := ck (zt [11] (μ a0 (-1)) = true) (ck (zt [30, 31] (μ (μ a0 4) (-1)) = true) (ck ((0 : Int) ≤ 0 ∧ 0 < μ (μ a0 4) (-2)) (if (μ (μ a0 4) 0) < 65 then (some (0, 0, μ)) else (ck ((0 : Int) ≤ 0 ∧ 0 < μ (μ a0 4) (-2)) (if 90 < (μ (μ a0 4) 0) then (some (0, 0, μ)) else (some (0, 1, μ)))))))
theorem u_X11_isBlock {G : zc_G} (μ : MEM) (a0 : Int) (o : zc_O) (hd : c_X11_isBlock μ a0 = some o) : zc_Met G yX11_isBlock cX11_isBlock 1 (Option.some FieldType.boolean) 3 0 0 μ [zc_rv G a0] o := by
  refine zc_intro hd (by decide) (by simp [lg_sl, zc_rv_cat, iv_cat, jv_cat]) (lv := [(0, zc_rv G a0)]) (by simp [lv_args, zc_rv_cat, iv_cat, jv_cat]) (fun C h hc => ?_)
  have h : zv_Ok C cX11_isBlock "TreePress$Element" := h
  have hc : zc_C C G μ 1 (Option.some FieldType.boolean) 3 0 0 "isBlock" [] := hc
  have hN : ∀ i, i < 1 → i < zv_n C := fun i q => by rw [hc.2.1]; exact q
  unfold c_X11_isBlock
  refine c_aload_n (x := a0) h 0 dX11_isBlock_0 rfl rfl ?_
  refine r_ck (fun ht1 => ?_)
  refine c_getR (fin := true) h hc [11] 4 (zc_lk1 h q923) ht1 (by decide) dX11_isBlock_1 ?_
  refine r_iconst h dX11_isBlock_4 ?_
  refine r_ck (fun ht2 => ?_)
  refine c_ldB h hc ht2 dX11_isBlock_5 (fun _ hr3 => ?_)
  refine r_bipush h dX11_isBlock_6 (by decide) ?_
  refine r_icmp_lt (x := (μ (μ a0 4) 0)) (y := 65) h hr3.r (by decide) 26 dX11_isBlock_8 rfl ?_ ?_
  · refine r_iconst h dX11_isBlock_26 ?_
    exact c_zret h hc rfl (by decide) dX11_isBlock_27
  · refine c_aload_n (x := a0) h 0 dX11_isBlock_11 rfl rfl ?_
    refine c_getR (fin := true) h hc [11] 4 (zc_lk1 h q923) ht1 (by decide) dX11_isBlock_12 ?_
    refine r_iconst h dX11_isBlock_15 ?_
    refine c_ldB h hc ht2 dX11_isBlock_16 (fun _ hr4 => ?_)
    refine r_bipush h dX11_isBlock_17 (by decide) ?_
    refine r_icmp_gt (x := (μ (μ a0 4) 0)) (y := 90) h hr4.r (by decide) 26 dX11_isBlock_19 rfl ?_ ?_
    · refine r_iconst h dX11_isBlock_26 ?_
      exact c_zret h hc rfl (by decide) dX11_isBlock_27
    · refine r_iconst h dX11_isBlock_22 ?_
      refine r_goto h 27 dX11_isBlock_23 rfl ?_
      exact c_zret h hc rfl (by decide) dX11_isBlock_27
theorem dX0_lineEnds_0 : decode cX0_lineEnds 0 = .ok (.aload_n 0, 1) := by decide +kernel
theorem dX0_lineEnds_1 : decode cX0_lineEnds 1 = .ok (.invokevirtual 284, 3) := by decide +kernel
theorem dX0_lineEnds_4 : decode cX0_lineEnds 4 = .ok (.aload_n 0, 1) := by decide +kernel
theorem dX0_lineEnds_5 : decode cX0_lineEnds 5 = .ok (.aconst_null, 1) := by decide +kernel
theorem dX0_lineEnds_6 : decode cX0_lineEnds 6 = .ok (.putfield 259, 3) := by decide +kernel
theorem dX0_lineEnds_9 : decode cX0_lineEnds 9 = .ok (.return_, 1) := by decide +kernel
def c_X0_lineEnds (μ : MEM) (a0 : Int) : Option zc_O := ck (zt [1] (μ a0 (-1)) = true) (bc (c_X0_wordEnds μ a0) (fun _ μ2 => ck (zt [1] (μ2 a0 (-1)) = true) (nu (mup μ2 a0 17 0) (fun μ4 => some (0, 0, μ4)))))
theorem u_X0_lineEnds {G : zc_G} (μ : MEM) (a0 : Int) (o : zc_O) (hd : c_X0_lineEnds μ a0 = some o) : zc_Met G yX0_lineEnds cX0_lineEnds 1 (Option.none : Option FieldType) 0 9 198 μ [zc_rv G a0] o := by
  refine zc_intro hd (by decide) (by simp [lg_sl, zc_rv_cat, iv_cat, jv_cat]) (lv := [(0, zc_rv G a0)]) (by simp [lv_args, zc_rv_cat, iv_cat, jv_cat]) (fun C h hc => ?_)
  have h : zv_Ok C cX0_lineEnds "TreePress" := h
  have hc : zc_C C G μ 1 (Option.none : Option FieldType) 0 9 198 "lineEnds" [] := hc
  have hN : ∀ i, i < 1 → i < zv_n C := fun i q => by rw [hc.2.1]; exact q
  unfold c_X0_lineEnds
  refine c_aload_n (x := a0) h 0 dX0_lineEnds_0 rfl rfl ?_
  refine r_ck (fun ht1 => ?_)
  refine c_callV (x := a0) h hc (As := []) (fun o1 e1 => u_X0_wordEnds _ a0 o1 e1) [1] ht1 (by decide) q1397 q1399 (fun t ht => by cases List.mem_singleton.mp ht; exact qs50) q1400 q132 (by omega) (by omega) zc_s0 (by omega) (fun z hz => by cases hz) ⟨by decide, by decide⟩ (n := 0) (by decide +kernel) rfl rfl dX0_lineEnds_1 (fun _ μ2 _ => r_k0 ?_)
  refine c_aload_n (x := a0) h 0 dX0_lineEnds_4 rfl rfl ?_
  refine c_null G h dX0_lineEnds_5 ?_
  refine r_ck (fun ht3 => ?_)
  refine c_putR (x := a0) (y := 0) h hc [1] 17 false (zc_lk1 h q222) ht3 (by decide) (Or.inl rfl) (ty := (.object "TreePress$Line")) (by decide +kernel) (Or.inl ⟨_, rfl⟩) dX0_lineEnds_6 (fun μ4 he5 => ?_)
  exact c_vret h hc rfl dX0_lineEnds_9
theorem dX19_init_0 : decode cX19_init 0 = .ok (.aload_n 0, 1) := by decide +kernel
theorem dX19_init_1 : decode cX19_init 1 = .ok (.invokespecial 1, 3) := by decide +kernel
theorem dX19_init_4 : decode cX19_init 4 = .ok (.aload_n 0, 1) := by decide +kernel
theorem dX19_init_5 : decode cX19_init 5 = .ok (.iload_n 1, 1) := by decide +kernel
theorem dX19_init_6 : decode cX19_init 6 = .ok (.putfield 7, 3) := by decide +kernel
theorem dX19_init_9 : decode cX19_init 9 = .ok (.aload_n 0, 1) := by decide +kernel
theorem dX19_init_10 : decode cX19_init 10 = .ok (.iload_n 2, 1) := by decide +kernel
theorem dX19_init_11 : decode cX19_init 11 = .ok (.putfield 13, 3) := by decide +kernel
theorem dX19_init_14 : decode cX19_init 14 = .ok (.return_, 1) := by decide +kernel
def c_X19_init (μ : MEM) (a0 a1 a2 : Int) : Option zc_O := ck (zt [19] (μ a0 (-1)) = true) (nu (mup μ a0 0 a1) (fun μ2 => nu (mup μ2 a0 2 a2) (fun μ4 => some (0, 0, μ4))))
theorem u_X19_init {G : zc_G} (μ : MEM) (a0 a1 a2 : Int) (ha1 : inR a1) (ha2 : isB a2) (o : zc_O) (hd : c_X19_init μ a0 a1 a2 = some o) : zc_Met G yX19_init cX19_init 3 (Option.none : Option FieldType) 0 1 20 μ [zc_rv G a0, iv a1, iv a2] o := by
  refine zc_intro hd (by decide) (by simp [lg_sl, zc_rv_cat, iv_cat, jv_cat]) (lv := [(0, zc_rv G a0), (1, iv a1), (2, iv a2)]) (by simp [lv_args, zc_rv_cat, iv_cat, jv_cat]) (fun C h hc => ?_)
  have h : zv_Ok C cX19_init "TreePress$Block" := h
  have hc : zc_C C G μ 3 (Option.none : Option FieldType) 0 1 20 "<init>" [] := hc
  have hN : ∀ i, i < 3 → i < zv_n C := fun i q => by rw [hc.2.1]; exact q
  unfold c_X19_init
  refine c_aload_n (x := a0) h 0 dX19_init_0 rfl rfl ?_
  refine r_ck (fun ht1 => ?_)
  refine c_oinit h hc [19] ht1 (by decide) q1444 q173 q174 (by omega) zc_s0 (by omega) dX19_init_1 ?_
  refine c_aload_n (x := a0) h 0 dX19_init_4 rfl rfl ?_
  refine r_iload_n h 1 dX19_init_5 rfl rfl ?_
  refine c_putI (x := a0) (y := a1) h hc [19] 0 true (zc_lk1 h q1445) ht1 (by decide) (Or.inr ⟨rfl, rfl, rfl⟩) ha1 dX19_init_6 (fun μ2 he3 => ?_)
  refine c_aload_n (x := a0) h 0 dX19_init_9 rfl rfl ?_
  refine r_iload_n h 2 dX19_init_10 rfl rfl ?_
  refine c_putZ (x := a0) (y := a2) h hc [19] 2 true (zc_lk1 h q1448) (zt_mup he3 (by decide) ht1) (by decide) (Or.inr ⟨rfl, rfl, rfl⟩) ha2 dX19_init_11 (fun μ4 he5 => ?_)
  exact c_vret h hc rfl dX19_init_14
theorem dX0_sets_0 : decode cX0_sets 0 = .ok (.aload_n 1, 1) := by decide +kernel
theorem dX0_sets_1 : decode cX0_sets 1 = .ok (.instanceof 287, 3) := by decide +kernel
theorem dX0_sets_4 : decode cX0_sets 4 = .ok (.ifCond .eq 80, 3) := by decide +kernel
theorem dX0_sets_7 : decode cX0_sets 7 = .ok (.aload_n 1, 1) := by decide +kernel
theorem dX0_sets_8 : decode cX0_sets 8 = .ok (.checkcast 287, 3) := by decide +kernel
theorem dX0_sets_11 : decode cX0_sets 11 = .ok (.astore_n 2, 1) := by decide +kernel
theorem dX0_sets_12 : decode cX0_sets 12 = .ok (.iconst 0, 1) := by decide +kernel
theorem dX0_sets_13 : decode cX0_sets 13 = .ok (.istore_n 3, 1) := by decide +kernel
theorem dX0_sets_14 : decode cX0_sets 14 = .ok (.iload_n 3, 1) := by decide +kernel
theorem dX0_sets_15 : decode cX0_sets 15 = .ok (.aload_n 2, 1) := by decide +kernel
theorem dX0_sets_16 : decode cX0_sets 16 = .ok (.getfield 289, 3) := by decide +kernel
theorem dX0_sets_19 : decode cX0_sets 19 = .ok (.arraylength, 1) := by decide +kernel
theorem dX0_sets_20 : decode cX0_sets 20 = .ok (.if_icmp .ge 63, 3) := by decide +kernel
theorem dX0_sets_23 : decode cX0_sets 23 = .ok (.aload_n 2, 1) := by decide +kernel
theorem dX0_sets_24 : decode cX0_sets 24 = .ok (.getfield 289, 3) := by decide +kernel
theorem dX0_sets_27 : decode cX0_sets 27 = .ok (.iload_n 3, 1) := by decide +kernel
theorem dX0_sets_28 : decode cX0_sets 28 = .ok (.baload, 1) := by decide +kernel
theorem dX0_sets_29 : decode cX0_sets 29 = .ok (.invokestatic 1, 3) := by decide +kernel
theorem dX0_sets_32 : decode cX0_sets 32 = .ok (.ifCond .eq 10, 3) := by decide +kernel
theorem dX0_sets_35 : decode cX0_sets 35 = .ok (.aload_n 0, 1) := by decide +kernel
theorem dX0_sets_36 : decode cX0_sets 36 = .ok (.invokevirtual 284, 3) := by decide +kernel
theorem dX0_sets_39 : decode cX0_sets 39 = .ok (.goto 38, 3) := by decide +kernel
theorem dX0_sets_42 : decode cX0_sets 42 = .ok (.aload_n 0, 1) := by decide +kernel
theorem dX0_sets_43 : decode cX0_sets 43 = .ok (.getfield 53, 3) := by decide +kernel
theorem dX0_sets_46 : decode cX0_sets 46 = .ok (.aload_n 0, 1) := by decide +kernel
theorem dX0_sets_47 : decode cX0_sets 47 = .ok (.getfield 277, 3) := by decide +kernel
theorem dX0_sets_50 : decode cX0_sets 50 = .ok (.aload_n 2, 1) := by decide +kernel
theorem dX0_sets_51 : decode cX0_sets 51 = .ok (.getfield 289, 3) := by decide +kernel
theorem dX0_sets_54 : decode cX0_sets 54 = .ok (.iload_n 3, 1) := by decide +kernel
theorem dX0_sets_55 : decode cX0_sets 55 = .ok (.baload, 1) := by decide +kernel
theorem dX0_sets_56 : decode cX0_sets 56 = .ok (.bastore, 1) := by decide +kernel
theorem dX0_sets_57 : decode cX0_sets 57 = .ok (.aload_n 0, 1) := by decide +kernel
theorem dX0_sets_58 : decode cX0_sets 58 = .ok (.getfield 56, 3) := by decide +kernel
theorem dX0_sets_61 : decode cX0_sets 61 = .ok (.aload_n 0, 1) := by decide +kernel
theorem dX0_sets_62 : decode cX0_sets 62 = .ok (.getfield 277, 3) := by decide +kernel
theorem dX0_sets_65 : decode cX0_sets 65 = .ok (.aload_n 2, 1) := by decide +kernel
theorem dX0_sets_66 : decode cX0_sets 66 = .ok (.aastore, 1) := by decide +kernel
theorem dX0_sets_67 : decode cX0_sets 67 = .ok (.aload_n 0, 1) := by decide +kernel
theorem dX0_sets_68 : decode cX0_sets 68 = .ok (.dup, 1) := by decide +kernel
theorem dX0_sets_69 : decode cX0_sets 69 = .ok (.getfield 277, 3) := by decide +kernel
theorem dX0_sets_72 : decode cX0_sets 72 = .ok (.iconst 1, 1) := by decide +kernel
theorem dX0_sets_73 : decode cX0_sets 73 = .ok (.iadd, 1) := by decide +kernel
theorem dX0_sets_74 : decode cX0_sets 74 = .ok (.putfield 277, 3) := by decide +kernel
theorem dX0_sets_77 : decode cX0_sets 77 = .ok (.iinc 3 1, 3) := by decide +kernel
theorem dX0_sets_80 : decode cX0_sets 80 = .ok (.goto (-66), 3) := by decide +kernel
theorem dX0_sets_83 : decode cX0_sets 83 = .ok (.return_, 1) := by decide +kernel
theorem dX0_sets_84 : decode cX0_sets 84 = .ok (.aload_n 1, 1) := by decide +kernel
theorem dX0_sets_85 : decode cX0_sets 85 = .ok (.checkcast 177, 3) := by decide +kernel
theorem dX0_sets_88 : decode cX0_sets 88 = .ok (.astore_n 2, 1) := by decide +kernel
theorem dX0_sets_89 : decode cX0_sets 89 = .ok (.aload_n 2, 1) := by decide +kernel
theorem dX0_sets_90 : decode cX0_sets 90 = .ok (.instanceof 169, 3) := by decide +kernel
theorem dX0_sets_93 : decode cX0_sets 93 = .ok (.ifCond .eq 22, 3) := by decide +kernel
theorem dX0_sets_96 : decode cX0_sets 96 = .ok (.aload_n 2, 1) := by decide +kernel
theorem dX0_sets_97 : decode cX0_sets 97 = .ok (.checkcast 169, 3) := by decide +kernel
theorem dX0_sets_100 : decode cX0_sets 100 = .ok (.astore 4, 2) := by decide +kernel
theorem dX0_sets_102 : decode cX0_sets 102 = .ok (.aload 4, 2) := by decide +kernel
theorem dX0_sets_104 : decode cX0_sets 104 = .ok (.invokevirtual 290, 3) := by decide +kernel
theorem dX0_sets_107 : decode cX0_sets 107 = .ok (.ifCond .eq 8, 3) := by decide +kernel
theorem dX0_sets_110 : decode cX0_sets 110 = .ok (.aload 4, 2) := by decide +kernel
theorem dX0_sets_112 : decode cX0_sets 112 = .ok (.goto 4, 3) := by decide +kernel
theorem dX0_sets_115 : decode cX0_sets 115 = .ok (.aconst_null, 1) := by decide +kernel
theorem dX0_sets_116 : decode cX0_sets 116 = .ok (.astore_n 3, 1) := by decide +kernel
theorem dX0_sets_117 : decode cX0_sets 117 = .ok (.aconst_null, 1) := by decide +kernel
theorem dX0_sets_118 : decode cX0_sets 118 = .ok (.astore 4, 2) := by decide +kernel
theorem dX0_sets_120 : decode cX0_sets 120 = .ok (.aload_n 3, 1) := by decide +kernel
theorem dX0_sets_121 : decode cX0_sets 121 = .ok (.ifnull 74, 3) := by decide +kernel
theorem dX0_sets_124 : decode cX0_sets 124 = .ok (.aload_n 0, 1) := by decide +kernel
theorem dX0_sets_125 : decode cX0_sets 125 = .ok (.invokevirtual 294, 3) := by decide +kernel
theorem dX0_sets_128 : decode cX0_sets 128 = .ok (.aload_n 3, 1) := by decide +kernel
theorem dX0_sets_129 : decode cX0_sets 129 = .ok (.getstatic 297, 3) := by decide +kernel
theorem dX0_sets_132 : decode cX0_sets 132 = .ok (.invokevirtual 173, 3) := by decide +kernel
theorem dX0_sets_135 : decode cX0_sets 135 = .ok (.astore 5, 2) := by decide +kernel
theorem dX0_sets_137 : decode cX0_sets 137 = .ok (.new 300, 3) := by decide +kernel
theorem dX0_sets_140 : decode cX0_sets 140 = .ok (.dup, 1) := by decide +kernel
theorem dX0_sets_141 : decode cX0_sets 141 = .ok (.aload_n 0, 1) := by decide +kernel
theorem dX0_sets_142 : decode cX0_sets 142 = .ok (.getfield 46, 3) := by decide +kernel
theorem dX0_sets_145 : decode cX0_sets 145 = .ok (.invokevirtual 90, 3) := by decide +kernel
theorem dX0_sets_148 : decode cX0_sets 148 = .ok (.aload 5, 2) := by decide +kernel
theorem dX0_sets_150 : decode cX0_sets 150 = .ok (.ifnull 29, 3) := by decide +kernel
theorem dX0_sets_153 : decode cX0_sets 153 = .ok (.aload 5, 2) := by decide +kernel
theorem dX0_sets_155 : decode cX0_sets 155 = .ok (.getfield 302, 3) := by decide +kernel
theorem dX0_sets_158 : decode cX0_sets 158 = .ok (.arraylength, 1) := by decide +kernel
theorem dX0_sets_159 : decode cX0_sets 159 = .ok (.iconst 1, 1) := by decide +kernel
theorem dX0_sets_160 : decode cX0_sets 160 = .ok (.if_icmp .ne 19, 3) := by decide +kernel
theorem dX0_sets_163 : decode cX0_sets 163 = .ok (.aload 5, 2) := by decide +kernel
theorem dX0_sets_165 : decode cX0_sets 165 = .ok (.getfield 302, 3) := by decide +kernel
theorem dX0_sets_168 : decode cX0_sets 168 = .ok (.iconst 0, 1) := by decide +kernel
theorem dX0_sets_169 : decode cX0_sets 169 = .ok (.baload, 1) := by decide +kernel
theorem dX0_sets_170 : decode cX0_sets 170 = .ok (.bipush 49, 2) := by decide +kernel
theorem dX0_sets_172 : decode cX0_sets 172 = .ok (.if_icmp .ne 7, 3) := by decide +kernel
theorem dX0_sets_175 : decode cX0_sets 175 = .ok (.iconst 1, 1) := by decide +kernel
theorem dX0_sets_176 : decode cX0_sets 176 = .ok (.goto 4, 3) := by decide +kernel
theorem dX0_sets_179 : decode cX0_sets 179 = .ok (.iconst 0, 1) := by decide +kernel
theorem dX0_sets_180 : decode cX0_sets 180 = .ok (.invokespecial 303, 3) := by decide +kernel
theorem dX0_sets_183 : decode cX0_sets 183 = .ok (.astore 4, 2) := by decide +kernel
theorem dX0_sets_185 : decode cX0_sets 185 = .ok (.aload_n 0, 1) := by decide +kernel
theorem dX0_sets_186 : decode cX0_sets 186 = .ok (.getfield 50, 3) := by decide +kernel
theorem dX0_sets_189 : decode cX0_sets 189 = .ok (.aload 4, 2) := by decide +kernel
theorem dX0_sets_191 : decode cX0_sets 191 = .ok (.invokevirtual 267, 3) := by decide +kernel
theorem dX0_sets_194 : decode cX0_sets 194 = .ok (.pop, 1) := by decide +kernel
theorem dX0_sets_195 : decode cX0_sets 195 = .ok (.iconst 0, 1) := by decide +kernel
theorem dX0_sets_196 : decode cX0_sets 196 = .ok (.istore 5, 2) := by decide +kernel
theorem dX0_sets_198 : decode cX0_sets 198 = .ok (.iload 5, 2) := by decide +kernel
theorem dX0_sets_200 : decode cX0_sets 200 = .ok (.aload_n 2, 1) := by decide +kernel
theorem dX0_sets_201 : decode cX0_sets 201 = .ok (.getfield 179, 3) := by decide +kernel
theorem dX0_sets_204 : decode cX0_sets 204 = .ok (.invokevirtual 90, 3) := by decide +kernel
theorem dX0_sets_207 : decode cX0_sets 207 = .ok (.if_icmp .ge 25, 3) := by decide +kernel
theorem dX0_sets_210 : decode cX0_sets 210 = .ok (.aload_n 0, 1) := by decide +kernel
theorem dX0_sets_211 : decode cX0_sets 211 = .ok (.aload_n 2, 1) := by decide +kernel
theorem dX0_sets_212 : decode cX0_sets 212 = .ok (.getfield 179, 3) := by decide +kernel
theorem dX0_sets_215 : decode cX0_sets 215 = .ok (.iload 5, 2) := by decide +kernel
theorem dX0_sets_217 : decode cX0_sets 217 = .ok (.invokevirtual 103, 3) := by decide +kernel
theorem dX0_sets_220 : decode cX0_sets 220 = .ok (.checkcast 27, 3) := by decide +kernel
theorem dX0_sets_223 : decode cX0_sets 223 = .ok (.invokevirtual 306, 3) := by decide +kernel
theorem dX0_sets_226 : decode cX0_sets 226 = .ok (.iinc 5 1, 3) := by decide +kernel
theorem dX0_sets_229 : decode cX0_sets 229 = .ok (.goto (-31), 3) := by decide +kernel
theorem dX0_sets_232 : decode cX0_sets 232 = .ok (.aload 4, 2) := by decide +kernel
theorem dX0_sets_234 : decode cX0_sets 234 = .ok (.ifnonnull 4, 3) := by decide +kernel
theorem dX0_sets_237 : decode cX0_sets 237 = .ok (.return_, 1) := by decide +kernel
theorem dX0_sets_238 : decode cX0_sets 238 = .ok (.aload_n 0, 1) := by decide +kernel
theorem dX0_sets_239 : decode cX0_sets 239 = .ok (.invokevirtual 294, 3) := by decide +kernel
theorem dX0_sets_242 : decode cX0_sets 242 = .ok (.aload 4, 2) := by decide +kernel
theorem dX0_sets_244 : decode cX0_sets 244 = .ok (.aload_n 0, 1) := by decide +kernel
theorem dX0_sets_245 : decode cX0_sets 245 = .ok (.getfield 46, 3) := by decide +kernel
theorem dX0_sets_248 : decode cX0_sets 248 = .ok (.invokevirtual 90, 3) := by decide +kernel
theorem dX0_sets_251 : decode cX0_sets 251 = .ok (.putfield 309, 3) := by decide +kernel
theorem dX0_sets_254 : decode cX0_sets 254 = .ok (.return_, 1) := by decide +kernel
def c_X0_sets_198 (rsets : MEM → Int → Int → Option zc_O) : Nat → MEM → Int → Int → Int → Int → Option zc_O
  | 0, _, _, _, _, _ => none
  | n + 1, μ, x0, x2, x4, x5 => ck (zt [6, 11] (μ x2 (-1)) = true) (ck (zt [40] (μ (μ x2 2) (-1)) = true) (bc (b_lsize μ (μ x2 2)) (fun r3 μ4 => if r3 ≤ x5 then (if x4 = 0 then (some (0, 0, μ4)) else (ck (zt [1] (μ4 x0 (-1)) = true) (bc (c_X0_lineEnds μ4 x0) (fun _ μ7 => ck (zt [1] (μ7 x0 (-1)) = true) (ck (zt [40] (μ7 (μ7 x0 11) (-1)) = true) (bc (b_lsize μ7 (μ7 x0 11)) (fun r10 μ11 => ck (zt [19] (μ11 x4 (-1)) = true) (nu (mup μ11 x4 1 r10) (fun μ14 => some (0, 0, μ14)))))))))) else (ck (zt [6, 11] (μ4 x2 (-1)) = true) (ck (zt [40] (μ4 (μ4 x2 2) (-1)) = true) (bc (b_lget μ4 (μ4 x2 2) x5) (fun r18 μ19 => ck (zt [6, 11, 13, 14] (μ19 r18 (-1)) = true) (ck (zt [1] (μ19 x0 (-1)) = true) (bc (rsets μ19 x0 r18) (fun _ μ23 => ck (inR (x5 + 1)) (c_X0_sets_198 rsets n μ23 x0 x2 x4 (x5 + 1))))))))))))
theorem u_X0_sets_198 {C : zv_Cx zc_O} {G : zc_G} {μ0 : MEM} {F L FRv LOv : Nat} (hfr1 : F + 1 ≤ FRv) (hfr2 : 10 ≤ FRv) (hlo1 : L + 25 ≤ LOv) (hlo2 : 218 ≤ LOv) (h : zv_Ok C cX0_sets "TreePress") (hc : zc_C C G μ0 6 (Option.none : Option FieldType) 0 FRv LOv "sets" []) (rsets : MEM → Int → Int → Option zc_O) (hrsets : ∀ (μ : MEM) (a0 a1 : Int), ∀ o, rsets μ a0 a1 = some o → zc_Met G yX0_sets cX0_sets 6 (Option.none : Option FieldType) 0 F L μ [zc_rv G a0, zc_rv G a1] o) : ∀ (n : Nat) (μ : MEM) (x0 x2 x4 x5 : Int), inR x5 → VV C (c_X0_sets_198 rsets n μ x0 x2 x4 x5) μ [(0, zc_rv G x0), (2, zc_rv G x2), (4, zc_rv G x4), (5, iv x5)] [] 198 := by
  have hN : ∀ i, i < 6 → i < zv_n C := fun i q => by rw [hc.2.1]; exact q
  intro n
  induction n with
  | zero => intros; exact r_none
  | succ n ih =>
    intro μ x0 x2 x4 x5 hx5
    rw [c_X0_sets_198]
    refine r_iload h 3 dX0_sets_198 rfl ?_
    refine c_aload_n (x := x2) h 1 dX0_sets_200 rfl rfl ?_
    refine r_ck (fun ht1 => ?_)
    refine c_getR (fin := true) h hc [6, 11] 2 (zc_lk1 h q312) ht1 (by decide) dX0_sets_201 ?_
    refine r_ck (fun ht2 => ?_)
    refine c_callV (x := (μ x2 2)) h hc (As := []) (fun o1 e1 => w_lsize _ (μ x2 2) o1 e1) [40] ht2 (by decide) q1130 q343 (fun t ht => by cases List.mem_singleton.mp ht; exact q344) q345 q135 (by omega) (by omega) (zc_sc (iv_cat _) zc_s0) (by omega) (fun z hz => by cases hz) ⟨by decide, by decide⟩ (n := 0) (by decide +kernel) rfl rfl dX0_sets_204 (fun r3 μ4 hr5 => r_k1 ?_)
    refine r_icmp_ge (x := x5) (y := r3) h hx5 hr5 232 dX0_sets_207 rfl ?_ ?_
    · refine c_aload (x := x4) h 2 dX0_sets_232 rfl ?_
      refine c_ifnonnull (x := x4) h 238 dX0_sets_234 rfl ?_ ?_
      · exact c_vret h hc rfl dX0_sets_237
      · refine c_aload_n (x := x0) h 0 dX0_sets_238 rfl rfl ?_
        refine r_ck (fun ht6 => ?_)
        refine c_callV (x := x0) h hc (As := []) (fun o1 e1 => u_X0_lineEnds _ x0 o1 e1) [1] ht6 (by decide) q1433 q1435 (fun t ht => by cases List.mem_singleton.mp ht; exact qs52) q1436 q132 (by omega) (by omega) zc_s0 (by omega) (fun z hz => by cases hz) ⟨by decide, by decide⟩ (n := 0) (by decide +kernel) rfl rfl dX0_sets_239 (fun _ μ7 _ => r_k0 ?_)
        refine c_aload (x := x4) h 2 dX0_sets_242 rfl ?_
        refine c_aload_n (x := x0) h 0 dX0_sets_244 rfl rfl ?_
        refine r_ck (fun ht8 => ?_)
        refine c_getR (fin := true) h hc [1] 11 (zc_lk1 h q216) ht8 (by decide) dX0_sets_245 ?_
        refine r_ck (fun ht9 => ?_)
        refine c_callV (x := (μ7 x0 11)) h hc (As := []) (fun o1 e1 => w_lsize _ (μ7 x0 11) o1 e1) [40] ht9 (by decide) q1130 q343 (fun t ht => by cases List.mem_singleton.mp ht; exact q344) q345 q135 (by omega) (by omega) (zc_sc (zc_rv_cat G _) zc_s0) (by omega) (fun z hz => by cases hz) ⟨by decide, by decide⟩ (n := 0) (by decide +kernel) rfl rfl dX0_sets_248 (fun r10 μ11 hr12 => r_k1 ?_)
        refine r_ck (fun ht13 => ?_)
        refine c_putI (x := x4) (y := r10) h hc [19] 1 false (zc_lk3 hc (O := "TreePress$Block") (n := "last") (ds := "I") (host := "TreePress") (by decide)) ht13 (by decide) (Or.inl rfl) hr12 dX0_sets_251 (fun μ14 he15 => ?_)
        exact c_vret h hc rfl dX0_sets_254
    · refine c_aload_n (x := x0) h 0 dX0_sets_210 rfl rfl ?_
      refine c_aload_n (x := x2) h 1 dX0_sets_211 rfl rfl ?_
      refine r_ck (fun ht16 => ?_)
      refine c_getR (fin := true) h hc [6, 11] 2 (zc_lk1 h q312) ht16 (by decide) dX0_sets_212 ?_
      refine r_iload h 3 dX0_sets_215 rfl ?_
      refine r_ck (fun ht17 => ?_)
      refine c_callV (x := (μ4 x2 2)) h hc (As := [iv x5]) (fun o1 e1 => w_lget _ (μ4 x2 2) x5 hx5 o1 e1) [40] ht17 (by decide) q1146 q844 (fun t ht => by cases List.mem_singleton.mp ht; exact q845) q846 q135 (by omega) (by omega) (zc_sc (zc_rv_cat G _) zc_s0) (by omega) (fun z hz => by cases hz) ⟨by decide, by decide⟩ (n := 1) (by decide +kernel) rfl rfl dX0_sets_217 (fun r18 μ19 hr20 => r_k4 ?_)
      refine r_ck (fun ht21 => ?_)
      refine c_cast h hc [6, 11, 13, 14] q175 ht21 (by decide) dX0_sets_220 ?_
      refine r_ck (fun ht22 => ?_)
      refine c_callV (x := x0) h hc (As := [zc_rv G r18]) (fun o1 e1 => hrsets _ x0 r18 o1 e1) [1] ht22 (by decide) q1392 q1394 (fun t ht => by cases List.mem_singleton.mp ht; exact qs49) q1395 q132 (by omega) (by omega) zc_s0 (by omega) (fun z hz => by cases hz) ⟨by decide, by decide⟩ (n := 1) (by decide +kernel) rfl rfl dX0_sets_223 (fun _ μ23 _ => r_k0 ?_)
      refine r_iinc (lv' := [(5, iv (x5 + 1)), (0, zc_rv G x0), (2, zc_rv G x2), (4, zc_rv G x4)]) h 3 dX0_sets_226 rfl (hN _ (by decide)) (by simp [zc_rv_cat]) ?_
      refine r_goto h 198 dX0_sets_229 rfl ?_
      refine r_ck (fun hk24 => ?_)
      exact r_lv [1, 2, 3, 0] rfl (ih _ x0 x2 x4 (x5 + 1) hk24)
def c_X0_sets_180 (rsets : MEM → Int → Int → Option zc_O) (μ : MEM) (x0 x2 s0 s1 s2 s3 : Int) : Option zc_O := ck (zt [19] (μ s1 (-1)) = true) (bc (c_X19_init μ s1 s2 s3) (fun _ μ2 => ck (zt [1] (μ2 x0 (-1)) = true) (ck (zt [40] (μ2 (μ2 x0 12) (-1)) = true) (bc (b_ladd μ2 (μ2 x0 12) s0) (fun r5 μ6 => c_X0_sets_198 rsets zF μ6 x0 x2 s0 0)))))
theorem u_X0_sets_180 {C : zv_Cx zc_O} {G : zc_G} {μ0 : MEM} {F L FRv LOv : Nat} (hfr1 : F + 1 ≤ FRv) (hfr2 : 10 ≤ FRv) (hlo1 : L + 25 ≤ LOv) (hlo2 : 218 ≤ LOv) (h : zv_Ok C cX0_sets "TreePress") (hc : zc_C C G μ0 6 (Option.none : Option FieldType) 0 FRv LOv "sets" []) (rsets : MEM → Int → Int → Option zc_O) (hrsets : ∀ (μ : MEM) (a0 a1 : Int), ∀ o, rsets μ a0 a1 = some o → zc_Met G yX0_sets cX0_sets 6 (Option.none : Option FieldType) 0 F L μ [zc_rv G a0, zc_rv G a1] o) (μ : MEM) (x0 x2 s0 s1 s2 s3 : Int) (hs2 : inR s2) (hs3 : isB s3) : VV C (c_X0_sets_180 rsets μ x0 x2 s0 s1 s2 s3) μ [(0, zc_rv G x0), (2, zc_rv G x2)] [iv s3, iv s2, zc_rv G s1, zc_rv G s0] 180 := by
  have hN : ∀ i, i < 6 → i < zv_n C := fun i q => by rw [hc.2.1]; exact q
  unfold c_X0_sets_180
  refine r_ck (fun ht1 => ?_)
  refine c_callI (x := s1) h hc (As := [iv s2, iv s3]) (fun o1 e1 => u_X19_init _ s1 s2 s3 hs2 hs3 o1 e1) [19] ht1 (by decide) q1441 q1442 rfl q1443 q166 (by omega) (by omega) (zc_sc (zc_rv_cat G _) zc_s0) (by omega) (fun z hz => by cases hz) ⟨by decide, by decide⟩ (n := 2) (by decide +kernel) rfl rfl dX0_sets_180 (fun _ μ2 _ => r_k0 ?_)
  refine c_astore (lv' := [(4, zc_rv G s0), (0, zc_rv G x0), (2, zc_rv G x2)]) h dX0_sets_183 (hN _ (by decide)) rfl ?_
  refine c_aload_n (x := x0) h 1 dX0_sets_185 rfl rfl ?_
  refine r_ck (fun ht3 => ?_)
  refine c_getR (fin := true) h hc [1] 12 (zc_lk1 h q217) ht3 (by decide) dX0_sets_186 ?_
  refine c_aload (x := s0) h 0 dX0_sets_189 rfl ?_
  refine r_ck (fun ht4 => ?_)
  refine c_callV (x := (μ2 x0 12)) h hc (As := [zc_rv G s0]) (fun o1 e1 => w_ladd _ (μ2 x0 12) s0 o1 e1) [40] ht4 (by decide) q1428 q347 (fun t ht => by cases List.mem_singleton.mp ht; exact q348) q349 q135 (by omega) (by omega) zc_s0 (by omega) (fun z hz => by cases hz) ⟨by decide, by decide⟩ (n := 1) (by decide +kernel) rfl rfl dX0_sets_191 (fun r5 μ6 hr7 => r_k3 ?_)
  refine r_pop h dX0_sets_194 (iv_cat _) ?_
  refine r_iconst h dX0_sets_195 ?_
  refine r_istore (lv' := [(5, iv 0), (4, zc_rv G s0), (0, zc_rv G x0), (2, zc_rv G x2)]) h dX0_sets_196 (hN _ (by decide)) (by simp [zc_rv_cat]) ?_
  exact r_lv [2, 3, 1, 0] rfl (u_X0_sets_198 hfr1 hfr2 hlo1 hlo2 h hc rsets hrsets zF _ x0 x2 s0 0 (by decide))
def c_X0_sets_179 (rsets : MEM → Int → Int → Option zc_O) (μ : MEM) (x0 x2 s0 s1 s2 : Int) : Option zc_O := c_X0_sets_180 rsets μ x0 x2 s0 s1 s2 0
theorem u_X0_sets_179 {C : zv_Cx zc_O} {G : zc_G} {μ0 : MEM} {F L FRv LOv : Nat} (hfr1 : F + 1 ≤ FRv) (hfr2 : 10 ≤ FRv) (hlo1 : L + 25 ≤ LOv) (hlo2 : 218 ≤ LOv) (h : zv_Ok C cX0_sets "TreePress") (hc : zc_C C G μ0 6 (Option.none : Option FieldType) 0 FRv LOv "sets" []) (rsets : MEM → Int → Int → Option zc_O) (hrsets : ∀ (μ : MEM) (a0 a1 : Int), ∀ o, rsets μ a0 a1 = some o → zc_Met G yX0_sets cX0_sets 6 (Option.none : Option FieldType) 0 F L μ [zc_rv G a0, zc_rv G a1] o) (μ : MEM) (x0 x2 s0 s1 s2 : Int) (hs2 : inR s2) : VV C (c_X0_sets_179 rsets μ x0 x2 s0 s1 s2) μ [(0, zc_rv G x0), (2, zc_rv G x2)] [iv s2, zc_rv G s1, zc_rv G s0] 179 := by
  have hN : ∀ i, i < 6 → i < zv_n C := fun i q => by rw [hc.2.1]; exact q
  unfold c_X0_sets_179
  refine r_iconst h dX0_sets_179 ?_
  exact r_lv [0, 1] rfl (u_X0_sets_180 hfr1 hfr2 hlo1 hlo2 h hc rsets hrsets _ x0 x2 s0 s1 s2 0 hs2 (by decide))
def c_X0_sets_116 (rsets : MEM → Int → Int → Option zc_O) (μ : MEM) (x0 x2 s0 : Int) : Option zc_O := if s0 = 0 then (c_X0_sets_198 rsets zF μ x0 x2 0 0) else (ck (zt [1] (μ x0 (-1)) = true) (bc (c_X0_lineEnds μ x0) (fun _ μ2 => ck (zt [11] (μ2 s0 (-1)) = true) (bc (c_X11_attribute μ2 s0 (-50)) (fun r4 μ5 => ck (1 ≤ μ5 0 1 ∧ (3 : Int) ≤ μ5 0 2) (nu (mnew μ5 19 0 3) (fun μ7 => ck (zt [1] (μ7 x0 (-1)) = true) (ck (zt [40] (μ7 (μ7 x0 11) (-1)) = true) (bc (b_lsize μ7 (μ7 x0 11)) (fun r11 μ12 => if r4 = 0 then (c_X0_sets_179 rsets μ12 x0 x2 (μ5 0 0) (μ5 0 0) r11) else (ck (zt [13] (μ12 r4 (-1)) = true) (ck (zt [30, 31] (μ12 (μ12 r4 6) (-1)) = true) (if (μ12 (μ12 r4 6) (-2)) = 1 then (ck ((0 : Int) ≤ 0 ∧ 0 < μ12 (μ12 r4 6) (-2)) (if (μ12 (μ12 r4 6) 0) = 49 then (c_X0_sets_180 rsets μ12 x0 x2 (μ5 0 0) (μ5 0 0) r11 1) else (c_X0_sets_179 rsets μ12 x0 x2 (μ5 0 0) (μ5 0 0) r11))) else (c_X0_sets_179 rsets μ12 x0 x2 (μ5 0 0) (μ5 0 0) r11))))))))))))))
theorem u_X0_sets_116 {C : zv_Cx zc_O} {G : zc_G} {μ0 : MEM} {F L FRv LOv : Nat} (hfr1 : F + 1 ≤ FRv) (hfr2 : 10 ≤ FRv) (hlo1 : L + 25 ≤ LOv) (hlo2 : 218 ≤ LOv) (h : zv_Ok C cX0_sets "TreePress") (hc : zc_C C G μ0 6 (Option.none : Option FieldType) 0 FRv LOv "sets" []) (rsets : MEM → Int → Int → Option zc_O) (hrsets : ∀ (μ : MEM) (a0 a1 : Int), ∀ o, rsets μ a0 a1 = some o → zc_Met G yX0_sets cX0_sets 6 (Option.none : Option FieldType) 0 F L μ [zc_rv G a0, zc_rv G a1] o) (μ : MEM) (x0 x2 s0 : Int) : VV C (c_X0_sets_116 rsets μ x0 x2 s0) μ [(0, zc_rv G x0), (2, zc_rv G x2)] [zc_rv G s0] 116 := by
  have hN : ∀ i, i < 6 → i < zv_n C := fun i q => by rw [hc.2.1]; exact q
  unfold c_X0_sets_116
  refine c_astore_n (i := 3) (lv' := [(3, zc_rv G s0), (0, zc_rv G x0), (2, zc_rv G x2)]) h dX0_sets_116 rfl (hN _ (by decide)) (by simp [zc_rv_cat]) ?_
  refine c_null G h dX0_sets_117 ?_
  refine c_astore (lv' := [(4, zc_rv G 0), (3, zc_rv G s0), (0, zc_rv G x0), (2, zc_rv G x2)]) h dX0_sets_118 (hN _ (by decide)) (by simp [zc_rv_cat]) ?_
  refine c_aload_n (x := s0) h 1 dX0_sets_120 rfl rfl ?_
  refine c_ifnull (x := s0) h 195 dX0_sets_121 rfl ?_ ?_
  · refine r_iconst h dX0_sets_195 ?_
    refine r_istore (lv' := [(5, iv 0), (4, zc_rv G 0), (3, zc_rv G s0), (0, zc_rv G x0), (2, zc_rv G x2)]) h dX0_sets_196 (hN _ (by decide)) (by simp [zc_rv_cat]) ?_
    exact r_lv [3, 4, 1, 0] rfl (u_X0_sets_198 hfr1 hfr2 hlo1 hlo2 h hc rsets hrsets zF _ x0 x2 0 0 (by decide))
  · refine c_aload_n (x := x0) h 2 dX0_sets_124 rfl rfl ?_
    refine r_ck (fun ht1 => ?_)
    refine c_callV (x := x0) h hc (As := []) (fun o1 e1 => u_X0_lineEnds _ x0 o1 e1) [1] ht1 (by decide) q1433 q1435 (fun t ht => by cases List.mem_singleton.mp ht; exact qs52) q1436 q132 (by omega) (by omega) zc_s0 (by omega) (fun z hz => by cases hz) ⟨by decide, by decide⟩ (n := 0) (by decide +kernel) rfl rfl dX0_sets_125 (fun _ μ2 _ => r_k0 ?_)
    refine c_aload_n (x := s0) h 1 dX0_sets_128 rfl rfl ?_
    refine c_keep h hc q1437 dX0_sets_129 ?_
    refine r_ck (fun ht3 => ?_)
    refine c_callV (x := s0) h hc (As := [zc_rv G (-50)]) (fun o1 e1 => u_X11_attribute _ s0 (-50) o1 e1) [11] ht3 (by decide) q1382 q950 (fun t ht => by cases List.mem_singleton.mp ht; exact q951) q952 q158 (by omega) (by omega) zc_s0 (by omega) (fun z hz => by cases hz) ⟨by decide, by decide⟩ (n := 1) (by decide +kernel) rfl rfl dX0_sets_132 (fun r4 μ5 hr6 => r_k4 ?_)
    refine c_astore (lv' := [(5, zc_rv G r4), (4, zc_rv G 0), (3, zc_rv G s0), (0, zc_rv G x0), (2, zc_rv G x2)]) h dX0_sets_135 (hN _ (by decide)) (by simp [zc_rv_cat]) ?_
    refine c_new h hc 19 (N := 3) rfl (by decide) q1439 q1440 q166 dX0_sets_137 (fun _ μ7 he8 => ?_)
    refine r_dup h dX0_sets_140 (zc_rv_cat G _) ?_
    refine c_aload_n (x := x0) h 3 dX0_sets_141 rfl rfl ?_
    refine r_ck (fun ht9 => ?_)
    refine c_getR (fin := true) h hc [1] 11 (zc_lk1 h q216) ht9 (by decide) dX0_sets_142 ?_
    refine r_ck (fun ht10 => ?_)
    refine c_callV (x := (μ7 x0 11)) h hc (As := []) (fun o1 e1 => w_lsize _ (μ7 x0 11) o1 e1) [40] ht10 (by decide) q1130 q343 (fun t ht => by cases List.mem_singleton.mp ht; exact q344) q345 q135 (by omega) (by omega) (zc_sc (zc_rv_cat G _) (zc_sc (zc_rv_cat G _) zc_s0)) (by omega) (fun z hz => by cases hz) ⟨by decide, by decide⟩ (n := 0) (by decide +kernel) rfl rfl dX0_sets_145 (fun r11 μ12 hr13 => r_k1 ?_)
    refine c_aload (x := r4) h 0 dX0_sets_148 rfl ?_
    refine c_ifnull (x := r4) h 179 dX0_sets_150 rfl ?_ ?_
    · exact r_lv [3, 4] rfl (u_X0_sets_179 hfr1 hfr2 hlo1 hlo2 h hc rsets hrsets _ x0 x2 (μ5 0 0) (μ5 0 0) r11 hr13)
    · refine c_aload (x := r4) h 0 dX0_sets_153 rfl ?_
      refine r_ck (fun ht14 => ?_)
      refine c_getR (fin := true) h hc [13] 6 (zc_lk2 h q979 q976) ht14 (by decide) dX0_sets_155 ?_
      refine r_ck (fun ht15 => ?_)
      refine c_alen h hc [30, 31] ht15 (by decide) dX0_sets_158 (fun hr16 => ?_)
      refine r_iconst h dX0_sets_159 ?_
      refine r_icmp_ne (x := (μ12 (μ12 r4 6) (-2))) (y := 1) h hr16 (by decide) 179 dX0_sets_160 rfl ?_ ?_
      · refine c_aload (x := r4) h 0 dX0_sets_163 rfl ?_
        refine c_getR (fin := true) h hc [13] 6 (zc_lk2 h q979 q976) ht14 (by decide) dX0_sets_165 ?_
        refine r_iconst h dX0_sets_168 ?_
        refine c_ldB h hc ht15 dX0_sets_169 (fun _ hr17 => ?_)
        refine r_bipush h dX0_sets_170 (by decide) ?_
        refine r_icmp_ne (x := (μ12 (μ12 r4 6) 0)) (y := 49) h hr17.r (by decide) 179 dX0_sets_172 rfl ?_ ?_
        · refine r_iconst h dX0_sets_175 ?_
          refine r_goto h 180 dX0_sets_176 rfl ?_
          exact r_lv [3, 4] rfl (u_X0_sets_180 hfr1 hfr2 hlo1 hlo2 h hc rsets hrsets _ x0 x2 (μ5 0 0) (μ5 0 0) r11 1 hr13 (by decide))
        · exact r_lv [3, 4] rfl (u_X0_sets_179 hfr1 hfr2 hlo1 hlo2 h hc rsets hrsets _ x0 x2 (μ5 0 0) (μ5 0 0) r11 hr13)
      · exact r_lv [3, 4] rfl (u_X0_sets_179 hfr1 hfr2 hlo1 hlo2 h hc rsets hrsets _ x0 x2 (μ5 0 0) (μ5 0 0) r11 hr13)
def c_X0_sets_115 (rsets : MEM → Int → Int → Option zc_O) (μ : MEM) (x0 x2 : Int) : Option zc_O := c_X0_sets_116 rsets μ x0 x2 0
theorem u_X0_sets_115 {C : zv_Cx zc_O} {G : zc_G} {μ0 : MEM} {F L FRv LOv : Nat} (hfr1 : F + 1 ≤ FRv) (hfr2 : 10 ≤ FRv) (hlo1 : L + 25 ≤ LOv) (hlo2 : 218 ≤ LOv) (h : zv_Ok C cX0_sets "TreePress") (hc : zc_C C G μ0 6 (Option.none : Option FieldType) 0 FRv LOv "sets" []) (rsets : MEM → Int → Int → Option zc_O) (hrsets : ∀ (μ : MEM) (a0 a1 : Int), ∀ o, rsets μ a0 a1 = some o → zc_Met G yX0_sets cX0_sets 6 (Option.none : Option FieldType) 0 F L μ [zc_rv G a0, zc_rv G a1] o) (μ : MEM) (x0 x2 : Int) : VV C (c_X0_sets_115 rsets μ x0 x2) μ [(0, zc_rv G x0), (2, zc_rv G x2)] [] 115 := by
  have hN : ∀ i, i < 6 → i < zv_n C := fun i q => by rw [hc.2.1]; exact q
  unfold c_X0_sets_115
  refine c_null G h dX0_sets_115 ?_
  exact r_lv [0, 1] rfl (u_X0_sets_116 hfr1 hfr2 hlo1 hlo2 h hc rsets hrsets _ x0 x2 0)
def c_X0_sets_14 (rsets : MEM → Int → Int → Option zc_O) : Nat → MEM → Int → Int → Int → Option zc_O
  | 0, _, _, _, _ => none
  | n + 1, μ, x0, x2, x3 => ck (zt [14] (μ x2 (-1)) = true) (ck (zt [30, 31] (μ (μ x2 6) (-1)) = true) (if (μ (μ x2 6) (-2)) ≤ x3 then (some (0, 0, μ)) else (ck ((0 : Int) ≤ x3 ∧ x3 < μ (μ x2 6) (-2)) (bc (c_X0_isSpace μ (μ (μ x2 6) x3)) (fun r5 μ6 => if r5 = 0 then (ck (zt [1] (μ6 x0 (-1)) = true) (ck (zt [14] (μ6 x2 (-1)) = true) (ck (zt [30, 31] (μ6 (μ6 x2 6) (-1)) = true) (ck ((0 : Int) ≤ x3 ∧ x3 < μ6 (μ6 x2 6) (-2)) (ck (zt [31] (μ6 (μ6 x0 13) (-1)) = true) (ck ((0 : Int) ≤ (μ6 x0 15) ∧ (μ6 x0 15) < μ6 (μ6 x0 13) (-2)) (nu (mup μ6 (μ6 x0 13) (μ6 x0 15) (μ6 (μ6 x2 6) x3)) (fun μ14 => ck (zt [35] (μ14 (μ14 x0 14) (-1)) = true) (ck (x2 = 0 ∨ zt [6, 11, 13, 14] (μ14 x2 (-1)) = true) (ck ((0 : Int) ≤ (μ14 x0 15) ∧ (μ14 x0 15) < μ14 (μ14 x0 14) (-2)) (nu (mup μ14 (μ14 x0 14) (μ14 x0 15) x2) (fun μ19 => ck (inR ((μ19 x0 15) + 1)) (nu (mup μ19 x0 15 ((μ19 x0 15) + 1)) (fun μ24 => ck (inR (x3 + 1)) (c_X0_sets_14 rsets n μ24 x0 x2 (x3 + 1)))))))))))))))) else (ck (zt [1] (μ6 x0 (-1)) = true) (bc (c_X0_wordEnds μ6 x0) (fun _ μ28 => ck (inR (x3 + 1)) (c_X0_sets_14 rsets n μ28 x0 x2 (x3 + 1))))))))))
theorem u_X0_sets_14 {C : zv_Cx zc_O} {G : zc_G} {μ0 : MEM} {F L FRv LOv : Nat} (hfr1 : F + 1 ≤ FRv) (hfr2 : 10 ≤ FRv) (hlo1 : L + 25 ≤ LOv) (hlo2 : 218 ≤ LOv) (h : zv_Ok C cX0_sets "TreePress") (hc : zc_C C G μ0 6 (Option.none : Option FieldType) 0 FRv LOv "sets" []) (rsets : MEM → Int → Int → Option zc_O) (hrsets : ∀ (μ : MEM) (a0 a1 : Int), ∀ o, rsets μ a0 a1 = some o → zc_Met G yX0_sets cX0_sets 6 (Option.none : Option FieldType) 0 F L μ [zc_rv G a0, zc_rv G a1] o) : ∀ (n : Nat) (μ : MEM) (x0 x2 x3 : Int), inR x3 → VV C (c_X0_sets_14 rsets n μ x0 x2 x3) μ [(0, zc_rv G x0), (2, zc_rv G x2), (3, iv x3)] [] 14 := by
  have hN : ∀ i, i < 6 → i < zv_n C := fun i q => by rw [hc.2.1]; exact q
  intro n
  induction n with
  | zero => intros; exact r_none
  | succ n ih =>
    intro μ x0 x2 x3 hx3
    rw [c_X0_sets_14]
    refine r_iload_n h 2 dX0_sets_14 rfl rfl ?_
    refine c_aload_n (x := x2) h 1 dX0_sets_15 rfl rfl ?_
    refine r_ck (fun ht1 => ?_)
    refine c_getR (fin := true) h hc [14] 6 (zc_lk2 h q977 q978) ht1 (by decide) dX0_sets_16 ?_
    refine r_ck (fun ht2 => ?_)
    refine c_alen h hc [30, 31] ht2 (by decide) dX0_sets_19 (fun hr3 => ?_)
    refine r_icmp_ge (x := x3) (y := (μ (μ x2 6) (-2))) h hx3 hr3 83 dX0_sets_20 rfl ?_ ?_
    · exact c_vret h hc rfl dX0_sets_83
    · refine c_aload_n (x := x2) h 1 dX0_sets_23 rfl rfl ?_
      refine c_getR (fin := true) h hc [14] 6 (zc_lk2 h q977 q978) ht1 (by decide) dX0_sets_24 ?_
      refine r_iload_n h 2 dX0_sets_27 rfl rfl ?_
      refine c_ldB h hc ht2 dX0_sets_28 (fun _ hr4 => ?_)
      refine c_callS h hc (As := [iv (μ (μ x2 6) x3)]) (fun o1 e1 => u_X0_isSpace _ (μ (μ x2 6) x3) hr4.r o1 e1) q649 q496 q497 q132 (by omega) (by omega) zc_s0 (by omega) (fun z hz => by cases hz) ⟨by decide, by decide⟩ (n := 1) (by decide +kernel) rfl rfl dX0_sets_29 (fun r5 μ6 hr7 => r_k3 ?_)
      refine r_if_eq (x := r5) h hr7.r 42 dX0_sets_32 rfl ?_ ?_
      · refine c_aload_n (x := x0) h 0 dX0_sets_42 rfl rfl ?_
        refine r_ck (fun ht8 => ?_)
        refine c_getR (fin := true) h hc [1] 13 (zc_lk1 h q218) ht8 (by decide) dX0_sets_43 ?_
        refine c_aload_n (x := x0) h 0 dX0_sets_46 rfl rfl ?_
        refine c_getI (fin := false) h hc [1] 15 (zc_lk1 h q220) ht8 (by decide) dX0_sets_47 (fun hr9 => ?_)
        refine c_aload_n (x := x2) h 1 dX0_sets_50 rfl rfl ?_
        refine r_ck (fun ht10 => ?_)
        refine c_getR (fin := true) h hc [14] 6 (zc_lk2 h q977 q978) ht10 (by decide) dX0_sets_51 ?_
        refine r_iload_n h 2 dX0_sets_54 rfl rfl ?_
        refine r_ck (fun ht11 => ?_)
        refine c_ldB h hc ht11 dX0_sets_55 (fun _ hr12 => ?_)
        refine r_ck (fun ht13 => ?_)
        refine c_stB (x := (μ6 x0 13)) (y := (μ6 x0 15)) (z := (μ6 (μ6 x2 6) x3)) h hc ht13 hr12 dX0_sets_56 (fun hb16 μ14 he15 => ?_)
        refine c_aload_n (x := x0) h 0 dX0_sets_57 rfl rfl ?_
        refine c_getR (fin := true) h hc [1] 14 (zc_lk1 h q219) (zt_mup he15 hb16.1 ht8) (by decide) dX0_sets_58 ?_
        refine c_aload_n (x := x0) h 0 dX0_sets_61 rfl rfl ?_
        refine c_getI (fin := false) h hc [1] 15 (zc_lk1 h q220) (zt_mup he15 hb16.1 ht8) (by decide) dX0_sets_62 (fun hr17 => ?_)
        refine c_aload_n (x := x2) h 1 dX0_sets_65 rfl rfl ?_
        refine r_ck (fun ht18 => ?_)
        refine c_stR35 (x := (μ14 x0 14)) (y := (μ14 x0 15)) (z := x2) h hc ht18  dX0_sets_66 (fun hb21 μ19 he20 => ?_)
        refine c_aload_n (x := x0) h 0 dX0_sets_67 rfl rfl ?_
        refine r_dup h dX0_sets_68 (zc_rv_cat G _) ?_
        refine c_getI (fin := false) h hc [1] 15 (zc_lk1 h q220) (zt_mup he20 hb21.1 (zt_mup he15 hb16.1 ht8)) (by decide) dX0_sets_69 (fun hr22 => ?_)
        refine r_iconst h dX0_sets_72 ?_
        refine r_iadd h dX0_sets_73 ?_
        refine r_ck (fun hk23 => ?_)
        refine c_putI (x := x0) (y := ((μ19 x0 15) + 1)) h hc [1] 15 false (zc_lk1 h q220) (zt_mup he20 hb21.1 (zt_mup he15 hb16.1 ht8)) (by decide) (Or.inl rfl) hk23 dX0_sets_74 (fun μ24 he25 => ?_)
        refine r_iinc (lv' := [(3, iv (x3 + 1)), (0, zc_rv G x0), (2, zc_rv G x2)]) h 2 dX0_sets_77 rfl (hN _ (by decide)) (by simp [zc_rv_cat]) ?_
        refine r_goto h 14 dX0_sets_80 rfl ?_
        refine r_ck (fun hk26 => ?_)
        exact r_lv [1, 2, 0] rfl (ih _ x0 x2 (x3 + 1) hk26)
      · refine c_aload_n (x := x0) h 0 dX0_sets_35 rfl rfl ?_
        refine r_ck (fun ht27 => ?_)
        refine c_callV (x := x0) h hc (As := []) (fun o1 e1 => u_X0_wordEnds _ x0 o1 e1) [1] ht27 (by decide) q1397 q1399 (fun t ht => by cases List.mem_singleton.mp ht; exact qs50) q1400 q132 (by omega) (by omega) zc_s0 (by omega) (fun z hz => by cases hz) ⟨by decide, by decide⟩ (n := 0) (by decide +kernel) rfl rfl dX0_sets_36 (fun _ μ28 _ => r_k0 ?_)
        refine r_goto h 77 dX0_sets_39 rfl ?_
        refine r_iinc (lv' := [(3, iv (x3 + 1)), (0, zc_rv G x0), (2, zc_rv G x2)]) h 2 dX0_sets_77 rfl (hN _ (by decide)) (by simp [zc_rv_cat]) ?_
        refine r_goto h 14 dX0_sets_80 rfl ?_
        refine r_ck (fun hk29 => ?_)
        exact r_lv [1, 2, 0] rfl (ih _ x0 x2 (x3 + 1) hk29)
def c_X0_sets (rsets : MEM → Int → Int → Option zc_O) (μ : MEM) (a0 a1 : Int) : Option zc_O := ck (zt [6, 11, 13, 14] (μ a1 (-1)) = true) (if (zi [14] (μ a1 (-1))) = 0 then (ck (zt [6, 11] (μ a1 (-1)) = true) (if (zi [11] (μ a1 (-1))) = 0 then (c_X0_sets_115 rsets μ a0 a1) else (ck (zt [11] (μ a1 (-1)) = true) (bc (c_X11_isBlock μ a1) (fun r4 μ5 => if r4 = 0 then (c_X0_sets_115 rsets μ5 a0 a1) else (c_X0_sets_116 rsets μ5 a0 a1 a1)))))) else (ck (zt [14] (μ a1 (-1)) = true) (c_X0_sets_14 rsets zF μ a0 a1 0)))
theorem u_X0_sets {G : zc_G} {F L FRv LOv : Nat} (hfr1 : F + 1 ≤ FRv) (hfr2 : 10 ≤ FRv) (hlo1 : L + 25 ≤ LOv) (hlo2 : 218 ≤ LOv) (rsets : MEM → Int → Int → Option zc_O) (hrsets : ∀ (μ : MEM) (a0 a1 : Int), ∀ o, rsets μ a0 a1 = some o → zc_Met G yX0_sets cX0_sets 6 (Option.none : Option FieldType) 0 F L μ [zc_rv G a0, zc_rv G a1] o) (μ : MEM) (a0 a1 : Int) (o : zc_O) (hd : c_X0_sets rsets μ a0 a1 = some o) : zc_Met G yX0_sets cX0_sets 6 (Option.none : Option FieldType) 0 FRv LOv μ [zc_rv G a0, zc_rv G a1] o := by
  refine zc_intro hd (by decide) (by simp [lg_sl, zc_rv_cat, iv_cat, jv_cat]) (lv := [(0, zc_rv G a0), (1, zc_rv G a1)]) (by simp [lv_args, zc_rv_cat, iv_cat, jv_cat]) (fun C h hc => ?_)
  have h : zv_Ok C cX0_sets "TreePress" := h
  have hc : zc_C C G μ 6 (Option.none : Option FieldType) 0 FRv LOv "sets" [] := hc
  have hN : ∀ i, i < 6 → i < zv_n C := fun i q => by rw [hc.2.1]; exact q
  unfold c_X0_sets
  refine c_aload_n (x := a1) h 1 dX0_sets_0 rfl rfl ?_
  refine r_ck (fun ht1 => ?_)
  refine c_inst h hc [6, 11, 13, 14] [14] q1396 ht1 (by decide) dX0_sets_1 ?_
  refine r_if_eq (x := (zi [14] (μ a1 (-1)))) h ((zi_B _ _)).r 84 dX0_sets_4 rfl ?_ ?_
  · refine c_aload_n (x := a1) h 1 dX0_sets_84 rfl rfl ?_
    refine r_ck (fun ht2 => ?_)
    refine c_cast h hc [6, 11] q1357 ht2 (by decide) dX0_sets_85 ?_
    refine c_astore_n (i := 2) (lv' := [(2, zc_rv G a1), (0, zc_rv G a0), (1, zc_rv G a1)]) h dX0_sets_88 rfl (hN _ (by decide)) (by simp [zc_rv_cat]) ?_
    refine c_aload_n (x := a1) h 0 dX0_sets_89 rfl rfl ?_
    refine c_inst h hc [6, 11] [11] q1370 ht2 (by decide) dX0_sets_90 ?_
    refine r_if_eq (x := (zi [11] (μ a1 (-1)))) h ((zi_B _ _)).r 115 dX0_sets_93 rfl ?_ ?_
    · exact r_lv [1, 0] rfl (u_X0_sets_115 hfr1 hfr2 hlo1 hlo2 h hc rsets hrsets _ a0 a1)
    · refine c_aload_n (x := a1) h 0 dX0_sets_96 rfl rfl ?_
      refine r_ck (fun ht3 => ?_)
      refine c_cast h hc [11] q1370 ht3 (by decide) dX0_sets_97 ?_
      refine c_astore (lv' := [(4, zc_rv G a1), (2, zc_rv G a1), (0, zc_rv G a0), (1, zc_rv G a1)]) h dX0_sets_100 (hN _ (by decide)) rfl ?_
      refine c_aload (x := a1) h 0 dX0_sets_102 rfl ?_
      refine c_callV (x := a1) h hc (As := []) (fun o1 e1 => u_X11_isBlock _ a1 o1 e1) [11] ht3 (by decide) q1429 q1430 (fun t ht => by cases List.mem_singleton.mp ht; exact q1431) q1432 q158 (by omega) (by omega) zc_s0 (by omega) (fun z hz => by cases hz) ⟨by decide, by decide⟩ (n := 0) (by decide +kernel) rfl rfl dX0_sets_104 (fun r4 μ5 hr6 => r_k3 ?_)
      refine r_if_eq (x := r4) h hr6.r 115 dX0_sets_107 rfl ?_ ?_
      · exact r_lv [2, 1] rfl (u_X0_sets_115 hfr1 hfr2 hlo1 hlo2 h hc rsets hrsets _ a0 a1)
      · refine c_aload (x := a1) h 0 dX0_sets_110 rfl ?_
        refine r_goto h 116 dX0_sets_112 rfl ?_
        exact r_lv [2, 1] rfl (u_X0_sets_116 hfr1 hfr2 hlo1 hlo2 h hc rsets hrsets _ a0 a1 a1)
  · refine c_aload_n (x := a1) h 1 dX0_sets_7 rfl rfl ?_
    refine r_ck (fun ht7 => ?_)
    refine c_cast h hc [14] q1396 ht7 (by decide) dX0_sets_8 ?_
    refine c_astore_n (i := 2) (lv' := [(2, zc_rv G a1), (0, zc_rv G a0), (1, zc_rv G a1)]) h dX0_sets_11 rfl (hN _ (by decide)) (by simp [zc_rv_cat]) ?_
    refine r_iconst h dX0_sets_12 ?_
    refine r_istore_n (i := 3) (lv' := [(3, iv 0), (2, zc_rv G a1), (0, zc_rv G a0), (1, zc_rv G a1)]) h dX0_sets_13 rfl (hN _ (by decide)) (by simp [zc_rv_cat]) ?_
    exact r_lv [2, 1, 0] rfl (u_X0_sets_14 hfr1 hfr2 hlo1 hlo2 h hc rsets hrsets zF _ a0 a1 0 (by decide))
def fz_sets : Nat → MEM → Int → Int → Option zc_O
  | 0 => fun _ _ _ => none
  | n + 1 => c_X0_sets (fz_sets n)
theorem fm_sets {G : zc_G} : ∀ (n : Nat) (μ : MEM) (a0 a1 : Int), ∀ o, fz_sets n μ a0 a1 = some o → zc_Met G yX0_sets cX0_sets 6 (Option.none : Option FieldType) 0 (1 * n + 10) (25 * n + 218) μ [zc_rv G a0, zc_rv G a1] o := by
  intro n
  induction n with
  | zero => intro μ a0 a1 o ho; cases ho
  | succ n ih =>
    intro μ a0 a1 o ho
    exact u_X0_sets (FRv := 1 * (n + 1) + 10) (LOv := 25 * (n + 1) + 218) (by omega) (by omega) (by omega) (by omega) (fz_sets n) ih _ _ _ _ ho
theorem dX0_init_0 : decode cX0_init 0 = .ok (.aload_n 0, 1) := by decide +kernel
theorem dX0_init_1 : decode cX0_init 1 = .ok (.invokespecial 13, 3) := by decide +kernel
theorem dX0_init_4 : decode cX0_init 4 = .ok (.aload_n 0, 1) := by decide +kernel
theorem dX0_init_5 : decode cX0_init 5 = .ok (.sipush 6000, 3) := by decide +kernel
theorem dX0_init_8 : decode cX0_init 8 = .ok (.newarray .byte, 2) := by decide +kernel
theorem dX0_init_10 : decode cX0_init 10 = .ok (.putfield 19, 3) := by decide +kernel
theorem dX0_init_13 : decode cX0_init 13 = .ok (.aload_n 0, 1) := by decide +kernel
theorem dX0_init_14 : decode cX0_init 14 = .ok (.iconst (-1), 1) := by decide +kernel
theorem dX0_init_15 : decode cX0_init 15 = .ok (.putfield 23, 3) := by decide +kernel
theorem dX0_init_18 : decode cX0_init 18 = .ok (.aload_n 0, 1) := by decide +kernel
theorem dX0_init_19 : decode cX0_init 19 = .ok (.sipush 600, 3) := by decide +kernel
theorem dX0_init_22 : decode cX0_init 22 = .ok (.anewarray 27, 3) := by decide +kernel
theorem dX0_init_25 : decode cX0_init 25 = .ok (.putfield 29, 3) := by decide +kernel
theorem dX0_init_28 : decode cX0_init 28 = .ok (.aload_n 0, 1) := by decide +kernel
theorem dX0_init_29 : decode cX0_init 29 = .ok (.sipush 600, 3) := by decide +kernel
theorem dX0_init_32 : decode cX0_init 32 = .ok (.anewarray 27, 3) := by decide +kernel
theorem dX0_init_35 : decode cX0_init 35 = .ok (.putfield 33, 3) := by decide +kernel
theorem dX0_init_38 : decode cX0_init 38 = .ok (.aload_n 0, 1) := by decide +kernel
theorem dX0_init_39 : decode cX0_init 39 = .ok (.sipush 600, 3) := by decide +kernel
theorem dX0_init_42 : decode cX0_init 42 = .ok (.anewarray 27, 3) := by decide +kernel
theorem dX0_init_45 : decode cX0_init 45 = .ok (.putfield 36, 3) := by decide +kernel
theorem dX0_init_48 : decode cX0_init 48 = .ok (.aload_n 0, 1) := by decide +kernel
theorem dX0_init_49 : decode cX0_init 49 = .ok (.sipush 600, 3) := by decide +kernel
theorem dX0_init_52 : decode cX0_init 52 = .ok (.newarray .boolean, 2) := by decide +kernel
theorem dX0_init_54 : decode cX0_init 54 = .ok (.putfield 39, 3) := by decide +kernel
theorem dX0_init_57 : decode cX0_init 57 = .ok (.aload_n 0, 1) := by decide +kernel
theorem dX0_init_58 : decode cX0_init 58 = .ok (.new 43, 3) := by decide +kernel
theorem dX0_init_61 : decode cX0_init 61 = .ok (.dup, 1) := by decide +kernel
theorem dX0_init_62 : decode cX0_init 62 = .ok (.invokespecial 45, 3) := by decide +kernel
theorem dX0_init_65 : decode cX0_init 65 = .ok (.putfield 46, 3) := by decide +kernel
theorem dX0_init_68 : decode cX0_init 68 = .ok (.aload_n 0, 1) := by decide +kernel
theorem dX0_init_69 : decode cX0_init 69 = .ok (.new 43, 3) := by decide +kernel
theorem dX0_init_72 : decode cX0_init 72 = .ok (.dup, 1) := by decide +kernel
theorem dX0_init_73 : decode cX0_init 73 = .ok (.invokespecial 45, 3) := by decide +kernel
theorem dX0_init_76 : decode cX0_init 76 = .ok (.putfield 50, 3) := by decide +kernel
theorem dX0_init_79 : decode cX0_init 79 = .ok (.aload_n 0, 1) := by decide +kernel
theorem dX0_init_80 : decode cX0_init 80 = .ok (.sipush 2000, 3) := by decide +kernel
theorem dX0_init_83 : decode cX0_init 83 = .ok (.newarray .byte, 2) := by decide +kernel
theorem dX0_init_85 : decode cX0_init 85 = .ok (.putfield 53, 3) := by decide +kernel
theorem dX0_init_88 : decode cX0_init 88 = .ok (.aload_n 0, 1) := by decide +kernel
theorem dX0_init_89 : decode cX0_init 89 = .ok (.sipush 2000, 3) := by decide +kernel
theorem dX0_init_92 : decode cX0_init 92 = .ok (.anewarray 27, 3) := by decide +kernel
theorem dX0_init_95 : decode cX0_init 95 = .ok (.putfield 56, 3) := by decide +kernel
theorem dX0_init_98 : decode cX0_init 98 = .ok (.return_, 1) := by decide +kernel
def c_X0_init (μ : MEM) (a0 : Int) : Option zc_O := ck (zt [1] (μ a0 (-1)) = true) (ck ((0 : Int) ≤ 6000 ∧ 6000 ≤ 1000000) (ck (1 ≤ μ 0 1 ∧ 6000 ≤ μ 0 2) (nu (mnew μ 31 6000 6000) (fun μ2 => ck (zt [1] (μ2 a0 (-1)) = true) (nu (mup μ2 a0 0 (μ 0 0)) (fun μ5 => nu (mup μ5 a0 2 (-1)) (fun μ7 => ck ((0 : Int) ≤ 600 ∧ 600 ≤ 1000000) (ck (1 ≤ μ7 0 1 ∧ 600 ≤ μ7 0 2) (nu (mnew μ7 35 600 600) (fun μ9 => ck (zt [1] (μ9 a0 (-1)) = true) (nu (mup μ9 a0 4 (μ7 0 0)) (fun μ12 => ck ((0 : Int) ≤ 600 ∧ 600 ≤ 1000000) (ck (1 ≤ μ12 0 1 ∧ 600 ≤ μ12 0 2) (nu (mnew μ12 35 600 600) (fun μ14 => ck (zt [1] (μ14 a0 (-1)) = true) (nu (mup μ14 a0 5 (μ12 0 0)) (fun μ17 => ck ((0 : Int) ≤ 600 ∧ 600 ≤ 1000000) (ck (1 ≤ μ17 0 1 ∧ 600 ≤ μ17 0 2) (nu (mnew μ17 35 600 600) (fun μ19 => ck (zt [1] (μ19 a0 (-1)) = true) (nu (mup μ19 a0 6 (μ17 0 0)) (fun μ22 => ck ((0 : Int) ≤ 600 ∧ 600 ≤ 1000000) (ck (1 ≤ μ22 0 1 ∧ 600 ≤ μ22 0 2) (nu (mnew μ22 32 600 600) (fun μ24 => ck (zt [1] (μ24 a0 (-1)) = true) (nu (mup μ24 a0 7 (μ22 0 0)) (fun μ27 => ck (1 ≤ μ27 0 1 ∧ (3 : Int) ≤ μ27 0 2) (nu (mnew μ27 21 0 3) (fun μ29 => bc (b_linit μ29 (μ27 0 0)) (fun _ μ31 => ck (zt [1] (μ31 a0 (-1)) = true) (nu (mup μ31 a0 11 (μ27 0 0)) (fun μ33 => ck (1 ≤ μ33 0 1 ∧ (3 : Int) ≤ μ33 0 2) (nu (mnew μ33 21 0 3) (fun μ35 => bc (b_linit μ35 (μ33 0 0)) (fun _ μ37 => ck (zt [1] (μ37 a0 (-1)) = true) (nu (mup μ37 a0 12 (μ33 0 0)) (fun μ39 => ck ((0 : Int) ≤ 2000 ∧ 2000 ≤ 1000000) (ck (1 ≤ μ39 0 1 ∧ 2000 ≤ μ39 0 2) (nu (mnew μ39 31 2000 2000) (fun μ41 => ck (zt [1] (μ41 a0 (-1)) = true) (nu (mup μ41 a0 13 (μ39 0 0)) (fun μ44 => ck ((0 : Int) ≤ 2000 ∧ 2000 ≤ 1000000) (ck (1 ≤ μ44 0 1 ∧ 2000 ≤ μ44 0 2) (nu (mnew μ44 35 2000 2000) (fun μ46 => ck (zt [1] (μ46 a0 (-1)) = true) (nu (mup μ46 a0 14 (μ44 0 0)) (fun μ49 => some (0, 0, μ49))))))))))))))))))))))))))))))))))))))))))))))))
theorem u_X0_init {G : zc_G} (μ : MEM) (a0 : Int) (o : zc_O) (hd : c_X0_init μ a0 = some o) : zc_Met G yX0_init cX0_init 1 (Option.none : Option FieldType) 0 4 80 μ [zc_rv G a0] o := by
  refine zc_intro hd (by decide) (by simp [lg_sl, zc_rv_cat, iv_cat, jv_cat]) (lv := [(0, zc_rv G a0)]) (by simp [lv_args, zc_rv_cat, iv_cat, jv_cat]) (fun C h hc => ?_)
  have h : zv_Ok C cX0_init "TreePress" := h
  have hc : zc_C C G μ 1 (Option.none : Option FieldType) 0 4 80 "<init>" [] := hc
  have hN : ∀ i, i < 1 → i < zv_n C := fun i q => by rw [hc.2.1]; exact q
  unfold c_X0_init
  refine c_aload_n (x := a0) h 0 dX0_init_0 rfl rfl ?_
  refine r_ck (fun ht1 => ?_)
  refine c_oinit h hc [1] ht1 (by decide) q172 q173 q174 (by omega) zc_s0 (by omega) dX0_init_1 ?_
  refine c_aload_n (x := a0) h 0 dX0_init_4 rfl rfl ?_
  refine r_sipush h dX0_init_5 (by decide) ?_
  refine c_naB (x := 6000) h hc rfl q203 (by decide) dX0_init_8 (fun _ _ μ2 he3 => ?_)
  refine r_ck (fun ht4 => ?_)
  refine c_putR (x := a0) (y := (μ 0 0)) h hc [1] 0 true (zc_lk1 h q205) ht4 (by decide) (Or.inr ⟨rfl, rfl, rfl⟩) (ty := (.array .byte)) (by decide +kernel) (Or.inr ⟨_, rfl⟩) dX0_init_10 (fun μ5 he6 => ?_)
  refine c_aload_n (x := a0) h 0 dX0_init_13 rfl rfl ?_
  refine r_iconst h dX0_init_14 ?_
  refine c_putI (x := a0) (y := (-1)) h hc [1] 2 false (zc_lk1 h q207) (zt_mup he6 (by decide) ht4) (by decide) (Or.inl rfl) (by decide) dX0_init_15 (fun μ7 he8 => ?_)
  refine c_aload_n (x := a0) h 0 dX0_init_18 rfl rfl ?_
  refine r_sipush h dX0_init_19 (by decide) ?_
  refine c_na35 (x := 600) h hc q175 (by decide) dX0_init_22 (fun _ _ μ9 he10 => ?_)
  refine r_ck (fun ht11 => ?_)
  refine c_putR (x := a0) (y := (μ7 0 0)) h hc [1] 4 true (zc_lk1 h q209) ht11 (by decide) (Or.inr ⟨rfl, rfl, rfl⟩) (ty := (.array (.object "TreePress$Node"))) (by decide +kernel) (Or.inr ⟨_, rfl⟩) dX0_init_25 (fun μ12 he13 => ?_)
  refine c_aload_n (x := a0) h 0 dX0_init_28 rfl rfl ?_
  refine r_sipush h dX0_init_29 (by decide) ?_
  refine c_na35 (x := 600) h hc q175 (by decide) dX0_init_32 (fun _ _ μ14 he15 => ?_)
  refine r_ck (fun ht16 => ?_)
  refine c_putR (x := a0) (y := (μ12 0 0)) h hc [1] 5 true (zc_lk1 h q210) ht16 (by decide) (Or.inr ⟨rfl, rfl, rfl⟩) (ty := (.array (.object "TreePress$Node"))) (by decide +kernel) (Or.inr ⟨_, rfl⟩) dX0_init_35 (fun μ17 he18 => ?_)
  refine c_aload_n (x := a0) h 0 dX0_init_38 rfl rfl ?_
  refine r_sipush h dX0_init_39 (by decide) ?_
  refine c_na35 (x := 600) h hc q175 (by decide) dX0_init_42 (fun _ _ μ19 he20 => ?_)
  refine r_ck (fun ht21 => ?_)
  refine c_putR (x := a0) (y := (μ17 0 0)) h hc [1] 6 true (zc_lk1 h q211) ht21 (by decide) (Or.inr ⟨rfl, rfl, rfl⟩) (ty := (.array (.object "TreePress$Node"))) (by decide +kernel) (Or.inr ⟨_, rfl⟩) dX0_init_45 (fun μ22 he23 => ?_)
  refine c_aload_n (x := a0) h 0 dX0_init_48 rfl rfl ?_
  refine r_sipush h dX0_init_49 (by decide) ?_
  refine c_naZ (x := 600) h hc rfl q204 (by decide) dX0_init_52 (fun _ _ μ24 he25 => ?_)
  refine r_ck (fun ht26 => ?_)
  refine c_putR (x := a0) (y := (μ22 0 0)) h hc [1] 7 true (zc_lk1 h q212) ht26 (by decide) (Or.inr ⟨rfl, rfl, rfl⟩) (ty := (.array .boolean)) (by decide +kernel) (Or.inr ⟨_, rfl⟩) dX0_init_54 (fun μ27 he28 => ?_)
  refine c_aload_n (x := a0) h 0 dX0_init_57 rfl rfl ?_
  refine c_new h hc 21 (N := 3) rfl (by decide) q177 q178 q135 dX0_init_58 (fun _ μ29 he30 => ?_)
  refine r_dup h dX0_init_61 (zc_rv_cat G _) ?_
  refine c_callI (x := (μ27 0 0)) h hc (As := []) (fun o1 e1 => w_linit _ (μ27 0 0) o1 e1) [21] (zt_nw he30) (by decide) q179 q180 rfl q181 q135 (by omega) (by omega) (zc_sc (zc_rv_cat G _) (zc_sc (zc_rv_cat G _) zc_s0)) (by omega) (fun z hz => by cases hz) ⟨by decide, by decide⟩ (n := 0) (by decide +kernel) rfl rfl dX0_init_62 (fun _ μ31 _ => r_k0 ?_)
  refine r_ck (fun ht32 => ?_)
  refine c_putR (x := a0) (y := (μ27 0 0)) h hc [1] 11 true (zc_lk1 h q216) ht32 (by decide) (Or.inr ⟨rfl, rfl, rfl⟩) (ty := (.object "java/util/ArrayList")) (by decide +kernel) (Or.inl ⟨_, rfl⟩) dX0_init_65 (fun μ33 he34 => ?_)
  refine c_aload_n (x := a0) h 0 dX0_init_68 rfl rfl ?_
  refine c_new h hc 21 (N := 3) rfl (by decide) q177 q178 q135 dX0_init_69 (fun _ μ35 he36 => ?_)
  refine r_dup h dX0_init_72 (zc_rv_cat G _) ?_
  refine c_callI (x := (μ33 0 0)) h hc (As := []) (fun o1 e1 => w_linit _ (μ33 0 0) o1 e1) [21] (zt_nw he36) (by decide) q179 q180 rfl q181 q135 (by omega) (by omega) (zc_sc (zc_rv_cat G _) (zc_sc (zc_rv_cat G _) zc_s0)) (by omega) (fun z hz => by cases hz) ⟨by decide, by decide⟩ (n := 0) (by decide +kernel) rfl rfl dX0_init_73 (fun _ μ37 _ => r_k0 ?_)
  refine r_ck (fun ht38 => ?_)
  refine c_putR (x := a0) (y := (μ33 0 0)) h hc [1] 12 true (zc_lk1 h q217) ht38 (by decide) (Or.inr ⟨rfl, rfl, rfl⟩) (ty := (.object "java/util/ArrayList")) (by decide +kernel) (Or.inl ⟨_, rfl⟩) dX0_init_76 (fun μ39 he40 => ?_)
  refine c_aload_n (x := a0) h 0 dX0_init_79 rfl rfl ?_
  refine r_sipush h dX0_init_80 (by decide) ?_
  refine c_naB (x := 2000) h hc rfl q203 (by decide) dX0_init_83 (fun _ _ μ41 he42 => ?_)
  refine r_ck (fun ht43 => ?_)
  refine c_putR (x := a0) (y := (μ39 0 0)) h hc [1] 13 true (zc_lk1 h q218) ht43 (by decide) (Or.inr ⟨rfl, rfl, rfl⟩) (ty := (.array .byte)) (by decide +kernel) (Or.inr ⟨_, rfl⟩) dX0_init_85 (fun μ44 he45 => ?_)
  refine c_aload_n (x := a0) h 0 dX0_init_88 rfl rfl ?_
  refine r_sipush h dX0_init_89 (by decide) ?_
  refine c_na35 (x := 2000) h hc q175 (by decide) dX0_init_92 (fun _ _ μ46 he47 => ?_)
  refine r_ck (fun ht48 => ?_)
  refine c_putR (x := a0) (y := (μ44 0 0)) h hc [1] 14 true (zc_lk1 h q219) ht48 (by decide) (Or.inr ⟨rfl, rfl, rfl⟩) (ty := (.array (.object "TreePress$Node"))) (by decide +kernel) (Or.inr ⟨_, rfl⟩) dX0_init_95 (fun μ49 he50 => ?_)
  exact c_vret h hc rfl dX0_init_98
