set_option maxRecDepth 100000
set_option maxHeartbeats 1000000
/-! methods of the class side: decode rows, denotations c_.., walks u_.. (written by wip/gen/cmain.py) -/
theorem dX0_leads_0 : decode cX0_leads 0 = .ok (.aload_n 0, 1) := by decide +kernel
theorem dX0_leads_1 : decode cX0_leads 1 = .ok (.iconst 0, 1) := by decide +kernel
theorem dX0_leads_2 : decode cX0_leads 2 = .ok (.putfield 184, 3) := by decide +kernel
theorem dX0_leads_5 : decode cX0_leads 5 = .ok (.aload_n 1, 1) := by decide +kernel
theorem dX0_leads_6 : decode cX0_leads 6 = .ok (.getfield 187, 3) := by decide +kernel
theorem dX0_leads_9 : decode cX0_leads 9 = .ok (.ifCond .ne 8, 3) := by decide +kernel
theorem dX0_leads_12 : decode cX0_leads 12 = .ok (.aload_n 0, 1) := by decide +kernel
theorem dX0_leads_13 : decode cX0_leads 13 = .ok (.aload_n 2, 1) := by decide +kernel
theorem dX0_leads_14 : decode cX0_leads 14 = .ok (.invokevirtual 190, 3) := by decide +kernel
theorem dX0_leads_17 : decode cX0_leads 17 = .ok (.aload_n 1, 1) := by decide +kernel
theorem dX0_leads_18 : decode cX0_leads 18 = .ok (.getfield 187, 3) := by decide +kernel
theorem dX0_leads_21 : decode cX0_leads 21 = .ok (.iconst 1, 1) := by decide +kernel
theorem dX0_leads_22 : decode cX0_leads 22 = .ok (.if_icmp .ne 18, 3) := by decide +kernel
theorem dX0_leads_25 : decode cX0_leads 25 = .ok (.aload_n 2, 1) := by decide +kernel
theorem dX0_leads_26 : decode cX0_leads 26 = .ok (.getfield 113, 3) := by decide +kernel
theorem dX0_leads_29 : decode cX0_leads 29 = .ok (.ifnull 11, 3) := by decide +kernel
theorem dX0_leads_32 : decode cX0_leads 32 = .ok (.aload_n 0, 1) := by decide +kernel
theorem dX0_leads_33 : decode cX0_leads 33 = .ok (.aload_n 2, 1) := by decide +kernel
theorem dX0_leads_34 : decode cX0_leads 34 = .ok (.getfield 113, 3) := by decide +kernel
theorem dX0_leads_37 : decode cX0_leads 37 = .ok (.invokevirtual 190, 3) := by decide +kernel
theorem dX0_leads_40 : decode cX0_leads 40 = .ok (.aload_n 1, 1) := by decide +kernel
theorem dX0_leads_41 : decode cX0_leads 41 = .ok (.getfield 187, 3) := by decide +kernel
theorem dX0_leads_44 : decode cX0_leads 44 = .ok (.iconst 4, 1) := by decide +kernel
theorem dX0_leads_45 : decode cX0_leads 45 = .ok (.if_icmp .ne 84, 3) := by decide +kernel
theorem dX0_leads_48 : decode cX0_leads 48 = .ok (.aload_n 2, 1) := by decide +kernel
theorem dX0_leads_49 : decode cX0_leads 49 = .ok (.instanceof 169, 3) := by decide +kernel
theorem dX0_leads_52 : decode cX0_leads 52 = .ok (.ifCond .eq 77, 3) := by decide +kernel
theorem dX0_leads_55 : decode cX0_leads 55 = .ok (.aload_n 2, 1) := by decide +kernel
theorem dX0_leads_56 : decode cX0_leads 56 = .ok (.checkcast 169, 3) := by decide +kernel
theorem dX0_leads_59 : decode cX0_leads 59 = .ok (.astore_n 3, 1) := by decide +kernel
theorem dX0_leads_60 : decode cX0_leads 60 = .ok (.iconst 0, 1) := by decide +kernel
theorem dX0_leads_61 : decode cX0_leads 61 = .ok (.istore 4, 2) := by decide +kernel
theorem dX0_leads_63 : decode cX0_leads 63 = .ok (.iload 4, 2) := by decide +kernel
theorem dX0_leads_65 : decode cX0_leads 65 = .ok (.aload_n 3, 1) := by decide +kernel
theorem dX0_leads_66 : decode cX0_leads 66 = .ok (.getfield 194, 3) := by decide +kernel
theorem dX0_leads_69 : decode cX0_leads 69 = .ok (.invokevirtual 90, 3) := by decide +kernel
theorem dX0_leads_72 : decode cX0_leads 72 = .ok (.if_icmp .ge 57, 3) := by decide +kernel
theorem dX0_leads_75 : decode cX0_leads 75 = .ok (.aload_n 1, 1) := by decide +kernel
theorem dX0_leads_76 : decode cX0_leads 76 = .ok (.getfield 196, 3) := by decide +kernel
theorem dX0_leads_79 : decode cX0_leads 79 = .ok (.ifnull 28, 3) := by decide +kernel
theorem dX0_leads_82 : decode cX0_leads 82 = .ok (.aload_n 1, 1) := by decide +kernel
theorem dX0_leads_83 : decode cX0_leads 83 = .ok (.getfield 196, 3) := by decide +kernel
theorem dX0_leads_86 : decode cX0_leads 86 = .ok (.aload_n 3, 1) := by decide +kernel
theorem dX0_leads_87 : decode cX0_leads 87 = .ok (.getfield 194, 3) := by decide +kernel
theorem dX0_leads_90 : decode cX0_leads 90 = .ok (.iload 4, 2) := by decide +kernel
theorem dX0_leads_92 : decode cX0_leads 92 = .ok (.invokevirtual 103, 3) := by decide +kernel
theorem dX0_leads_95 : decode cX0_leads 95 = .ok (.checkcast 131, 3) := by decide +kernel
theorem dX0_leads_98 : decode cX0_leads 98 = .ok (.getfield 197, 3) := by decide +kernel
theorem dX0_leads_101 : decode cX0_leads 101 = .ok (.invokestatic 180, 3) := by decide +kernel
theorem dX0_leads_104 : decode cX0_leads 104 = .ok (.ifCond .eq 19, 3) := by decide +kernel
theorem dX0_leads_107 : decode cX0_leads 107 = .ok (.aload_n 0, 1) := by decide +kernel
theorem dX0_leads_108 : decode cX0_leads 108 = .ok (.aload_n 3, 1) := by decide +kernel
theorem dX0_leads_109 : decode cX0_leads 109 = .ok (.getfield 194, 3) := by decide +kernel
theorem dX0_leads_112 : decode cX0_leads 112 = .ok (.iload 4, 2) := by decide +kernel
theorem dX0_leads_114 : decode cX0_leads 114 = .ok (.invokevirtual 103, 3) := by decide +kernel
theorem dX0_leads_117 : decode cX0_leads 117 = .ok (.checkcast 27, 3) := by decide +kernel
theorem dX0_leads_120 : decode cX0_leads 120 = .ok (.invokevirtual 190, 3) := by decide +kernel
theorem dX0_leads_123 : decode cX0_leads 123 = .ok (.iinc 4 1, 3) := by decide +kernel
theorem dX0_leads_126 : decode cX0_leads 126 = .ok (.goto (-63), 3) := by decide +kernel
theorem dX0_leads_129 : decode cX0_leads 129 = .ok (.aload_n 1, 1) := by decide +kernel
theorem dX0_leads_130 : decode cX0_leads 130 = .ok (.getfield 187, 3) := by decide +kernel
theorem dX0_leads_133 : decode cX0_leads 133 = .ok (.iconst 3, 1) := by decide +kernel
theorem dX0_leads_134 : decode cX0_leads 134 = .ok (.if_icmp .eq 11, 3) := by decide +kernel
theorem dX0_leads_137 : decode cX0_leads 137 = .ok (.aload_n 1, 1) := by decide +kernel
theorem dX0_leads_138 : decode cX0_leads 138 = .ok (.getfield 187, 3) := by decide +kernel
theorem dX0_leads_141 : decode cX0_leads 141 = .ok (.iconst 2, 1) := by decide +kernel
theorem dX0_leads_142 : decode cX0_leads 142 = .ok (.if_icmp .ne 107, 3) := by decide +kernel
theorem dX0_leads_145 : decode cX0_leads 145 = .ok (.aload_n 2, 1) := by decide +kernel
theorem dX0_leads_146 : decode cX0_leads 146 = .ok (.instanceof 177, 3) := by decide +kernel
theorem dX0_leads_149 : decode cX0_leads 149 = .ok (.ifCond .eq 100, 3) := by decide +kernel
theorem dX0_leads_152 : decode cX0_leads 152 = .ok (.aload_n 2, 1) := by decide +kernel
theorem dX0_leads_153 : decode cX0_leads 153 = .ok (.checkcast 177, 3) := by decide +kernel
theorem dX0_leads_156 : decode cX0_leads 156 = .ok (.astore_n 3, 1) := by decide +kernel
theorem dX0_leads_157 : decode cX0_leads 157 = .ok (.iconst 0, 1) := by decide +kernel
theorem dX0_leads_158 : decode cX0_leads 158 = .ok (.istore 4, 2) := by decide +kernel
theorem dX0_leads_160 : decode cX0_leads 160 = .ok (.iload 4, 2) := by decide +kernel
theorem dX0_leads_162 : decode cX0_leads 162 = .ok (.aload_n 3, 1) := by decide +kernel
theorem dX0_leads_163 : decode cX0_leads 163 = .ok (.getfield 179, 3) := by decide +kernel
theorem dX0_leads_166 : decode cX0_leads 166 = .ok (.invokevirtual 90, 3) := by decide +kernel
theorem dX0_leads_169 : decode cX0_leads 169 = .ok (.if_icmp .ge 80, 3) := by decide +kernel
theorem dX0_leads_172 : decode cX0_leads 172 = .ok (.aload_n 3, 1) := by decide +kernel
theorem dX0_leads_173 : decode cX0_leads 173 = .ok (.getfield 179, 3) := by decide +kernel
theorem dX0_leads_176 : decode cX0_leads 176 = .ok (.iload 4, 2) := by decide +kernel
theorem dX0_leads_178 : decode cX0_leads 178 = .ok (.invokevirtual 103, 3) := by decide +kernel
theorem dX0_leads_181 : decode cX0_leads 181 = .ok (.checkcast 27, 3) := by decide +kernel
theorem dX0_leads_184 : decode cX0_leads 184 = .ok (.astore 5, 2) := by decide +kernel
theorem dX0_leads_186 : decode cX0_leads 186 = .ok (.aload_n 1, 1) := by decide +kernel
theorem dX0_leads_187 : decode cX0_leads 187 = .ok (.getfield 187, 3) := by decide +kernel
theorem dX0_leads_190 : decode cX0_leads 190 = .ok (.iconst 2, 1) := by decide +kernel
theorem dX0_leads_191 : decode cX0_leads 191 = .ok (.if_icmp .ne 15, 3) := by decide +kernel
theorem dX0_leads_194 : decode cX0_leads 194 = .ok (.aload 5, 2) := by decide +kernel
theorem dX0_leads_196 : decode cX0_leads 196 = .ok (.invokevirtual 111, 3) := by decide +kernel
theorem dX0_leads_199 : decode cX0_leads 199 = .ok (.iconst 3, 1) := by decide +kernel
theorem dX0_leads_200 : decode cX0_leads 200 = .ok (.if_icmp .ne 43, 3) := by decide +kernel
theorem dX0_leads_203 : decode cX0_leads 203 = .ok (.goto 34, 3) := by decide +kernel
theorem dX0_leads_206 : decode cX0_leads 206 = .ok (.aload 5, 2) := by decide +kernel
theorem dX0_leads_208 : decode cX0_leads 208 = .ok (.invokevirtual 111, 3) := by decide +kernel
theorem dX0_leads_211 : decode cX0_leads 211 = .ok (.iconst 1, 1) := by decide +kernel
theorem dX0_leads_212 : decode cX0_leads 212 = .ok (.if_icmp .ne 31, 3) := by decide +kernel
theorem dX0_leads_215 : decode cX0_leads 215 = .ok (.aload_n 1, 1) := by decide +kernel
theorem dX0_leads_216 : decode cX0_leads 216 = .ok (.getfield 196, 3) := by decide +kernel
theorem dX0_leads_219 : decode cX0_leads 219 = .ok (.ifnull 18, 3) := by decide +kernel
theorem dX0_leads_222 : decode cX0_leads 222 = .ok (.aload_n 1, 1) := by decide +kernel
theorem dX0_leads_223 : decode cX0_leads 223 = .ok (.getfield 196, 3) := by decide +kernel
theorem dX0_leads_226 : decode cX0_leads 226 = .ok (.aload 5, 2) := by decide +kernel
theorem dX0_leads_228 : decode cX0_leads 228 = .ok (.invokevirtual 120, 3) := by decide +kernel
theorem dX0_leads_231 : decode cX0_leads 231 = .ok (.invokestatic 180, 3) := by decide +kernel
theorem dX0_leads_234 : decode cX0_leads 234 = .ok (.ifCond .eq 9, 3) := by decide +kernel
theorem dX0_leads_237 : decode cX0_leads 237 = .ok (.aload_n 0, 1) := by decide +kernel
theorem dX0_leads_238 : decode cX0_leads 238 = .ok (.aload 5, 2) := by decide +kernel
theorem dX0_leads_240 : decode cX0_leads 240 = .ok (.invokevirtual 190, 3) := by decide +kernel
theorem dX0_leads_243 : decode cX0_leads 243 = .ok (.iinc 4 1, 3) := by decide +kernel
theorem dX0_leads_246 : decode cX0_leads 246 = .ok (.goto (-86), 3) := by decide +kernel
theorem dX0_leads_249 : decode cX0_leads 249 = .ok (.iconst 0, 1) := by decide +kernel
theorem dX0_leads_250 : decode cX0_leads 250 = .ok (.istore_n 3, 1) := by decide +kernel
theorem dX0_leads_251 : decode cX0_leads 251 = .ok (.iload_n 3, 1) := by decide +kernel
theorem dX0_leads_252 : decode cX0_leads 252 = .ok (.aload_n 1, 1) := by decide +kernel
theorem dX0_leads_253 : decode cX0_leads 253 = .ok (.getfield 198, 3) := by decide +kernel
theorem dX0_leads_256 : decode cX0_leads 256 = .ok (.invokevirtual 90, 3) := by decide +kernel
theorem dX0_leads_259 : decode cX0_leads 259 = .ok (.if_icmp .ge 88, 3) := by decide +kernel
theorem dX0_leads_262 : decode cX0_leads 262 = .ok (.iconst 0, 1) := by decide +kernel
theorem dX0_leads_263 : decode cX0_leads 263 = .ok (.istore 4, 2) := by decide +kernel
theorem dX0_leads_265 : decode cX0_leads 265 = .ok (.iconst 0, 1) := by decide +kernel
theorem dX0_leads_266 : decode cX0_leads 266 = .ok (.istore 5, 2) := by decide +kernel
theorem dX0_leads_268 : decode cX0_leads 268 = .ok (.iload 5, 2) := by decide +kernel
theorem dX0_leads_270 : decode cX0_leads 270 = .ok (.aload_n 0, 1) := by decide +kernel
theorem dX0_leads_271 : decode cX0_leads 271 = .ok (.getfield 184, 3) := by decide +kernel
theorem dX0_leads_274 : decode cX0_leads 274 = .ok (.if_icmp .ge 61, 3) := by decide +kernel
theorem dX0_leads_277 : decode cX0_leads 277 = .ok (.aload_n 1, 1) := by decide +kernel
theorem dX0_leads_278 : decode cX0_leads 278 = .ok (.getfield 198, 3) := by decide +kernel
theorem dX0_leads_281 : decode cX0_leads 281 = .ok (.iload_n 3, 1) := by decide +kernel
theorem dX0_leads_282 : decode cX0_leads 282 = .ok (.invokevirtual 103, 3) := by decide +kernel
theorem dX0_leads_285 : decode cX0_leads 285 = .ok (.checkcast 152, 3) := by decide +kernel
theorem dX0_leads_288 : decode cX0_leads 288 = .ok (.aload_n 0, 1) := by decide +kernel
theorem dX0_leads_289 : decode cX0_leads 289 = .ok (.getfield 33, 3) := by decide +kernel
theorem dX0_leads_292 : decode cX0_leads 292 = .ok (.iload 5, 2) := by decide +kernel
theorem dX0_leads_294 : decode cX0_leads 294 = .ok (.aaload, 1) := by decide +kernel
theorem dX0_leads_295 : decode cX0_leads 295 = .ok (.iload 5, 2) := by decide +kernel
theorem dX0_leads_297 : decode cX0_leads 297 = .ok (.iconst 1, 1) := by decide +kernel
theorem dX0_leads_298 : decode cX0_leads 298 = .ok (.iadd, 1) := by decide +kernel
theorem dX0_leads_299 : decode cX0_leads 299 = .ok (.aload_n 0, 1) := by decide +kernel
theorem dX0_leads_300 : decode cX0_leads 300 = .ok (.getfield 184, 3) := by decide +kernel
theorem dX0_leads_303 : decode cX0_leads 303 = .ok (.invokestatic 201, 3) := by decide +kernel
theorem dX0_leads_306 : decode cX0_leads 306 = .ok (.ifCond .ne 6, 3) := by decide +kernel
theorem dX0_leads_309 : decode cX0_leads 309 = .ok (.goto 20, 3) := by decide +kernel
theorem dX0_leads_312 : decode cX0_leads 312 = .ok (.aload_n 0, 1) := by decide +kernel
theorem dX0_leads_313 : decode cX0_leads 313 = .ok (.getfield 33, 3) := by decide +kernel
theorem dX0_leads_316 : decode cX0_leads 316 = .ok (.iload 4, 2) := by decide +kernel
theorem dX0_leads_318 : decode cX0_leads 318 = .ok (.aload_n 0, 1) := by decide +kernel
theorem dX0_leads_319 : decode cX0_leads 319 = .ok (.getfield 33, 3) := by decide +kernel
theorem dX0_leads_322 : decode cX0_leads 322 = .ok (.iload 5, 2) := by decide +kernel
theorem dX0_leads_324 : decode cX0_leads 324 = .ok (.aaload, 1) := by decide +kernel
theorem dX0_leads_325 : decode cX0_leads 325 = .ok (.aastore, 1) := by decide +kernel
theorem dX0_leads_326 : decode cX0_leads 326 = .ok (.iinc 4 1, 3) := by decide +kernel
theorem dX0_leads_329 : decode cX0_leads 329 = .ok (.iinc 5 1, 3) := by decide +kernel
theorem dX0_leads_332 : decode cX0_leads 332 = .ok (.goto (-64), 3) := by decide +kernel
theorem dX0_leads_335 : decode cX0_leads 335 = .ok (.aload_n 0, 1) := by decide +kernel
theorem dX0_leads_336 : decode cX0_leads 336 = .ok (.iload 4, 2) := by decide +kernel
theorem dX0_leads_338 : decode cX0_leads 338 = .ok (.putfield 184, 3) := by decide +kernel
theorem dX0_leads_341 : decode cX0_leads 341 = .ok (.iinc 3 1, 3) := by decide +kernel
theorem dX0_leads_344 : decode cX0_leads 344 = .ok (.goto (-93), 3) := by decide +kernel
theorem dX0_leads_347 : decode cX0_leads 347 = .ok (.iconst 0, 1) := by decide +kernel
theorem dX0_leads_348 : decode cX0_leads 348 = .ok (.istore_n 3, 1) := by decide +kernel
theorem dX0_leads_349 : decode cX0_leads 349 = .ok (.iload_n 3, 1) := by decide +kernel
theorem dX0_leads_350 : decode cX0_leads 350 = .ok (.aload_n 0, 1) := by decide +kernel
theorem dX0_leads_351 : decode cX0_leads 351 = .ok (.getfield 184, 3) := by decide +kernel
theorem dX0_leads_354 : decode cX0_leads 354 = .ok (.if_icmp .ge 24, 3) := by decide +kernel
theorem dX0_leads_357 : decode cX0_leads 357 = .ok (.aload_n 0, 1) := by decide +kernel
theorem dX0_leads_358 : decode cX0_leads 358 = .ok (.getfield 39, 3) := by decide +kernel
theorem dX0_leads_361 : decode cX0_leads 361 = .ok (.aload_n 0, 1) := by decide +kernel
theorem dX0_leads_362 : decode cX0_leads 362 = .ok (.getfield 33, 3) := by decide +kernel
theorem dX0_leads_365 : decode cX0_leads 365 = .ok (.iload_n 3, 1) := by decide +kernel
theorem dX0_leads_366 : decode cX0_leads 366 = .ok (.aaload, 1) := by decide +kernel
theorem dX0_leads_367 : decode cX0_leads 367 = .ok (.getfield 117, 3) := by decide +kernel
theorem dX0_leads_370 : decode cX0_leads 370 = .ok (.iconst 1, 1) := by decide +kernel
theorem dX0_leads_371 : decode cX0_leads 371 = .ok (.bastore, 1) := by decide +kernel
theorem dX0_leads_372 : decode cX0_leads 372 = .ok (.iinc 3 1, 3) := by decide +kernel
theorem dX0_leads_375 : decode cX0_leads 375 = .ok (.goto (-26), 3) := by decide +kernel
theorem dX0_leads_378 : decode cX0_leads 378 = .ok (.return_, 1) := by decide +kernel
def c_X0_leads_349 : Nat → MEM → Int → Int → Option zc_O
  | 0, _, _, _ => none
  | n + 1, μ, x0, x3 => ck (zt [1] (μ x0 (-1)) = true) (if (μ x0 9) ≤ x3 then (some (0, 0, μ)) else (ck (zt [35] (μ (μ x0 5) (-1)) = true) (ck ((0 : Int) ≤ x3 ∧ x3 < μ (μ x0 5) (-2)) (ck (zt [6, 11, 13, 14] (μ (μ (μ x0 5) x3) (-1)) = true) (ck (zt [32] (μ (μ x0 7) (-1)) = true) (ck ((0 : Int) ≤ (μ (μ (μ x0 5) x3) 0) ∧ (μ (μ (μ x0 5) x3) 0) < μ (μ x0 7) (-2)) (nu (mup μ (μ x0 7) (μ (μ (μ x0 5) x3) 0) 1) (fun μ8 => ck (inR (x3 + 1)) (c_X0_leads_349 n μ8 x0 (x3 + 1))))))))))
theorem u_X0_leads_349 {C : zv_Cx zc_O} {G : zc_G} {μ0 : MEM} (h : zv_Ok C cX0_leads "TreePress") (hc : zc_C C G μ0 6 (Option.none : Option FieldType) 0 76 2901 "leads" []) : ∀ (n : Nat) (μ : MEM) (x0 x3 : Int), inR x3 → VV C (c_X0_leads_349 n μ x0 x3) μ [(0, zc_rv G x0), (3, iv x3)] [] 349 := by
  have hN : ∀ i, i < 6 → i < zv_n C := fun i q => by rw [hc.2.1]; exact q
  intro n
  induction n with
  | zero => intros; exact r_none
  | succ n ih =>
    intro μ x0 x3 hx3
    rw [c_X0_leads_349]
    refine r_iload_n h 1 dX0_leads_349 rfl rfl ?_
    refine c_aload_n (x := x0) h 0 dX0_leads_350 rfl rfl ?_
    refine r_ck (fun ht1 => ?_)
    refine c_getI (fin := false) h hc [1] 9 (zc_lk1 h q214) ht1 (by decide) dX0_leads_351 (fun hr2 => ?_)
    refine r_icmp_ge (x := x3) (y := (μ x0 9)) h hx3 hr2 378 dX0_leads_354 rfl ?_ ?_
    · exact c_vret h hc rfl dX0_leads_378
    · refine c_aload_n (x := x0) h 0 dX0_leads_357 rfl rfl ?_
      refine c_getR (fin := true) h hc [1] 7 (zc_lk1 h q212) ht1 (by decide) dX0_leads_358 ?_
      refine c_aload_n (x := x0) h 0 dX0_leads_361 rfl rfl ?_
      refine c_getR (fin := true) h hc [1] 5 (zc_lk1 h q210) ht1 (by decide) dX0_leads_362 ?_
      refine r_iload_n h 1 dX0_leads_365 rfl rfl ?_
      refine r_ck (fun ht3 => ?_)
      refine c_ldR35 h hc ht3 dX0_leads_366 (fun _ => ?_)
      refine r_ck (fun ht5 => ?_)
      refine c_getI (fin := false) h hc [6, 11, 13, 14] 0 (zc_lk1 h q324) ht5 (by decide) dX0_leads_367 (fun hr6 => ?_)
      refine r_iconst h dX0_leads_370 ?_
      refine r_ck (fun ht7 => ?_)
      refine c_stZ (x := (μ x0 7)) (y := (μ (μ (μ x0 5) x3) 0)) (z := 1) h hc ht7 (by decide) dX0_leads_371 (fun hb10 μ8 he9 => ?_)
      refine r_iinc (lv' := [(3, iv (x3 + 1)), (0, zc_rv G x0)]) h 1 dX0_leads_372 rfl (hN _ (by decide)) rfl ?_
      refine r_goto h 349 dX0_leads_375 rfl ?_
      refine r_ck (fun hk11 => ?_)
      exact r_lv [1, 0] rfl (ih _ x0 (x3 + 1) hk11)
def c_X0_leads_268 (lp251 : MEM → Int → Int → Int → Option zc_O) : Nat → MEM → Int → Int → Int → Int → Int → Option zc_O
  | 0, _, _, _, _, _, _ => none
  | n + 1, μ, x0, x1, x3, x4, x5 => ck (zt [1] (μ x0 (-1)) = true) (if (μ x0 9) ≤ x5 then (nu (mup μ x0 9 x4) (fun μ3 => ck (inR (x3 + 1)) (lp251 μ3 x0 x1 (x3 + 1)))) else (ck (zt [16] (μ x1 (-1)) = true) (ck (zt [40] (μ (μ x1 3) (-1)) = true) (bc (b_lget μ (μ x1 3) x3) (fun r8 μ9 => ck (zt [17] (μ9 r8 (-1)) = true) (ck (zt [1] (μ9 x0 (-1)) = true) (ck (zt [35] (μ9 (μ9 x0 5) (-1)) = true) (ck ((0 : Int) ≤ x5 ∧ x5 < μ9 (μ9 x0 5) (-2)) (ck (inR (x5 + 1)) (bc (c_X0_passes μ9 r8 (μ9 (μ9 x0 5) x5) (x5 + 1) (μ9 x0 9)) (fun r17 μ18 => if r17 = 0 then (ck (inR (x5 + 1)) (c_X0_leads_268 lp251 n μ18 x0 x1 x3 x4 (x5 + 1))) else (ck (zt [1] (μ18 x0 (-1)) = true) (ck (zt [35] (μ18 (μ18 x0 5) (-1)) = true) (ck ((0 : Int) ≤ x5 ∧ x5 < μ18 (μ18 x0 5) (-2)) (ck ((μ18 (μ18 x0 5) x5) = 0 ∨ zt [6, 11, 13, 14] (μ18 (μ18 (μ18 x0 5) x5) (-1)) = true) (ck ((0 : Int) ≤ x4 ∧ x4 < μ18 (μ18 x0 5) (-2)) (nu (mup μ18 (μ18 x0 5) x4 (μ18 (μ18 x0 5) x5)) (fun μ24 => ck (inR (x4 + 1)) (ck (inR (x5 + 1)) (c_X0_leads_268 lp251 n μ24 x0 x1 x3 (x4 + 1) (x5 + 1)))))))))))))))))))))
theorem u_X0_leads_268 {C : zv_Cx zc_O} {G : zc_G} {μ0 : MEM} (h : zv_Ok C cX0_leads "TreePress") (hc : zc_C C G μ0 6 (Option.none : Option FieldType) 0 76 2901 "leads" []) (lp251 : MEM → Int → Int → Int → Option zc_O) (hlp251 : ∀ (μ : MEM) (x0 x1 x3 : Int), inR x3 → VV C (lp251 μ x0 x1 x3) μ [(0, zc_rv G x0), (1, zc_rv G x1), (3, iv x3)] [] 251) : ∀ (n : Nat) (μ : MEM) (x0 x1 x3 x4 x5 : Int), inR x3 → inR x4 → inR x5 → VV C (c_X0_leads_268 lp251 n μ x0 x1 x3 x4 x5) μ [(0, zc_rv G x0), (1, zc_rv G x1), (3, iv x3), (4, iv x4), (5, iv x5)] [] 268 := by
  have hN : ∀ i, i < 6 → i < zv_n C := fun i q => by rw [hc.2.1]; exact q
  intro n
  induction n with
  | zero => intros; exact r_none
  | succ n ih =>
    intro μ x0 x1 x3 x4 x5 hx3 hx4 hx5
    rw [c_X0_leads_268]
    refine r_iload h 4 dX0_leads_268 rfl ?_
    refine c_aload_n (x := x0) h 0 dX0_leads_270 rfl rfl ?_
    refine r_ck (fun ht1 => ?_)
    refine c_getI (fin := false) h hc [1] 9 (zc_lk1 h q214) ht1 (by decide) dX0_leads_271 (fun hr2 => ?_)
    refine r_icmp_ge (x := x5) (y := (μ x0 9)) h hx5 hr2 335 dX0_leads_274 rfl ?_ ?_
    · refine c_aload_n (x := x0) h 0 dX0_leads_335 rfl rfl ?_
      refine r_iload h 3 dX0_leads_336 rfl ?_
      refine c_putI (x := x0) (y := x4) h hc [1] 9 false (zc_lk1 h q214) ht1 (by decide) (Or.inl rfl) hx4 dX0_leads_338 (fun μ3 he4 => ?_)
      refine r_iinc (lv' := [(3, iv (x3 + 1)), (0, zc_rv G x0), (1, zc_rv G x1), (4, iv x4), (5, iv x5)]) h 2 dX0_leads_341 rfl (hN _ (by decide)) rfl ?_
      refine r_goto h 251 dX0_leads_344 rfl ?_
      refine r_ck (fun hk5 => ?_)
      exact r_lv [1, 2, 0] rfl (hlp251 _ x0 x1 (x3 + 1) hk5)
    · refine c_aload_n (x := x1) h 1 dX0_leads_277 rfl rfl ?_
      refine r_ck (fun ht6 => ?_)
      refine c_getR (fin := true) h hc [16] 3 (zc_lk3 hc (O := "TreePress$Step") (n := "tests") (ds := "Ljava/util/ArrayList;") (host := "TreePress") (by decide)) ht6 (by decide) dX0_leads_278 ?_
      refine r_iload_n h 2 dX0_leads_281 rfl rfl ?_
      refine r_ck (fun ht7 => ?_)
      refine c_callV (x := (μ x1 3)) h hc (As := [iv x3]) (fun o1 e1 => w_lget _ (μ x1 3) x3 hx3 o1 e1) [40] ht7 (by decide) q1146 q844 (fun t ht => by cases List.mem_singleton.mp ht; exact q845) q846 q135 (by omega) (by omega) zc_s0 (by omega) (fun z hz => by cases hz) ⟨by decide, by decide⟩ (n := 1) (by decide +kernel) rfl rfl dX0_leads_282 (fun r8 μ9 hr10 => r_k4 ?_)
      refine r_ck (fun ht11 => ?_)
      refine c_cast h hc [17] q1372 ht11 (by decide) dX0_leads_285 ?_
      refine c_aload_n (x := x0) h 0 dX0_leads_288 rfl rfl ?_
      refine r_ck (fun ht12 => ?_)
      refine c_getR (fin := true) h hc [1] 5 (zc_lk1 h q210) ht12 (by decide) dX0_leads_289 ?_
      refine r_iload h 4 dX0_leads_292 rfl ?_
      refine r_ck (fun ht13 => ?_)
      refine c_ldR35 h hc ht13 dX0_leads_294 (fun _ => ?_)
      refine r_iload h 4 dX0_leads_295 rfl ?_
      refine r_iconst h dX0_leads_297 ?_
      refine r_iadd h dX0_leads_298 ?_
      refine c_aload_n (x := x0) h 0 dX0_leads_299 rfl rfl ?_
      refine c_getI (fin := false) h hc [1] 9 (zc_lk1 h q214) ht12 (by decide) dX0_leads_300 (fun hr15 => ?_)
      refine r_ck (fun hk16 => ?_)
      refine c_callS h hc (As := [zc_rv G r8, zc_rv G (μ9 (μ9 x0 5) x5), iv (x5 + 1), iv (μ9 x0 9)]) (fun o1 e1 => u_X0_passes _ r8 (μ9 (μ9 x0 5) x5) (x5 + 1) (μ9 x0 9) hk16 hr15 o1 e1) q1373 q1374 q1375 q132 (by omega) (by omega) zc_s0 (by omega) (fun z hz => by cases hz) ⟨by decide, by decide⟩ (n := 4) (by decide +kernel) rfl rfl dX0_leads_303 (fun r17 μ18 hr19 => r_k3 ?_)
      refine r_if_ne (x := r17) h hr19.r 312 dX0_leads_306 rfl ?_ ?_
      · refine r_goto h 329 dX0_leads_309 rfl ?_
        refine r_iinc (lv' := [(5, iv (x5 + 1)), (0, zc_rv G x0), (1, zc_rv G x1), (3, iv x3), (4, iv x4)]) h 4 dX0_leads_329 rfl (hN _ (by decide)) rfl ?_
        refine r_goto h 268 dX0_leads_332 rfl ?_
        refine r_ck (fun hk20 => ?_)
        exact r_lv [1, 2, 3, 4, 0] rfl (ih _ x0 x1 x3 x4 (x5 + 1) hx3 hx4 hk20)
      · refine c_aload_n (x := x0) h 0 dX0_leads_312 rfl rfl ?_
        refine r_ck (fun ht21 => ?_)
        refine c_getR (fin := true) h hc [1] 5 (zc_lk1 h q210) ht21 (by decide) dX0_leads_313 ?_
        refine r_iload h 3 dX0_leads_316 rfl ?_
        refine c_aload_n (x := x0) h 0 dX0_leads_318 rfl rfl ?_
        refine c_getR (fin := true) h hc [1] 5 (zc_lk1 h q210) ht21 (by decide) dX0_leads_319 ?_
        refine r_iload h 4 dX0_leads_322 rfl ?_
        refine r_ck (fun ht22 => ?_)
        refine c_ldR35 h hc ht22 dX0_leads_324 (fun _ => ?_)
        refine c_stR35 (x := (μ18 x0 5)) (y := x4) (z := (μ18 (μ18 x0 5) x5)) h hc ht22  dX0_leads_325 (fun hb26 μ24 he25 => ?_)
        refine r_iinc (lv' := [(4, iv (x4 + 1)), (0, zc_rv G x0), (1, zc_rv G x1), (3, iv x3), (5, iv x5)]) h 3 dX0_leads_326 rfl (hN _ (by decide)) rfl ?_
        refine r_iinc (lv' := [(5, iv (x5 + 1)), (4, iv (x4 + 1)), (0, zc_rv G x0), (1, zc_rv G x1), (3, iv x3)]) h 4 dX0_leads_329 rfl (hN _ (by decide)) rfl ?_
        refine r_goto h 268 dX0_leads_332 rfl ?_
        refine r_ck (fun hk27 => ?_)
        refine r_ck (fun hk28 => ?_)
        exact r_lv [2, 3, 4, 1, 0] rfl (ih _ x0 x1 x3 (x4 + 1) (x5 + 1) hx3 hk27 hk28)
def c_X0_leads_251 : Nat → MEM → Int → Int → Int → Option zc_O
  | 0, _, _, _, _ => none
  | n + 1, μ, x0, x1, x3 => ck (zt [16] (μ x1 (-1)) = true) (ck (zt [40] (μ (μ x1 3) (-1)) = true) (bc (b_lsize μ (μ x1 3)) (fun r3 μ4 => if r3 ≤ x3 then (c_X0_leads_349 zF μ4 x0 0) else (c_X0_leads_268 (c_X0_leads_251 n) zF μ4 x0 x1 x3 0 0))))
theorem u_X0_leads_251 {C : zv_Cx zc_O} {G : zc_G} {μ0 : MEM} (h : zv_Ok C cX0_leads "TreePress") (hc : zc_C C G μ0 6 (Option.none : Option FieldType) 0 76 2901 "leads" []) : ∀ (n : Nat) (μ : MEM) (x0 x1 x3 : Int), inR x3 → VV C (c_X0_leads_251 n μ x0 x1 x3) μ [(0, zc_rv G x0), (1, zc_rv G x1), (3, iv x3)] [] 251 := by
  have hN : ∀ i, i < 6 → i < zv_n C := fun i q => by rw [hc.2.1]; exact q
  intro n
  induction n with
  | zero => intros; exact r_none
  | succ n ih =>
    intro μ x0 x1 x3 hx3
    rw [c_X0_leads_251]
    refine r_iload_n h 2 dX0_leads_251 rfl rfl ?_
    refine c_aload_n (x := x1) h 1 dX0_leads_252 rfl rfl ?_
    refine r_ck (fun ht1 => ?_)
    refine c_getR (fin := true) h hc [16] 3 (zc_lk3 hc (O := "TreePress$Step") (n := "tests") (ds := "Ljava/util/ArrayList;") (host := "TreePress") (by decide)) ht1 (by decide) dX0_leads_253 ?_
    refine r_ck (fun ht2 => ?_)
    refine c_callV (x := (μ x1 3)) h hc (As := []) (fun o1 e1 => w_lsize _ (μ x1 3) o1 e1) [40] ht2 (by decide) q1130 q343 (fun t ht => by cases List.mem_singleton.mp ht; exact q344) q345 q135 (by omega) (by omega) (zc_sc (iv_cat _) zc_s0) (by omega) (fun z hz => by cases hz) ⟨by decide, by decide⟩ (n := 0) (by decide +kernel) rfl rfl dX0_leads_256 (fun r3 μ4 hr5 => r_k1 ?_)
    refine r_icmp_ge (x := x3) (y := r3) h hx3 hr5 347 dX0_leads_259 rfl ?_ ?_
    · refine r_iconst h dX0_leads_347 ?_
      refine r_istore_n (i := 3) (lv' := [(3, iv 0), (0, zc_rv G x0), (1, zc_rv G x1)]) h dX0_leads_348 rfl (hN _ (by decide)) rfl ?_
      exact r_lv [1, 0] rfl (u_X0_leads_349 h hc zF _ x0 0 (by decide))
    · refine r_iconst h dX0_leads_262 ?_
      refine r_istore (lv' := [(4, iv 0), (0, zc_rv G x0), (1, zc_rv G x1), (3, iv x3)]) h dX0_leads_263 (hN _ (by decide)) rfl ?_
      refine r_iconst h dX0_leads_265 ?_
      refine r_istore (lv' := [(5, iv 0), (4, iv 0), (0, zc_rv G x0), (1, zc_rv G x1), (3, iv x3)]) h dX0_leads_266 (hN _ (by decide)) rfl ?_
      exact r_lv [2, 3, 4, 1, 0] rfl (u_X0_leads_268 h hc (c_X0_leads_251 n) ih zF _ x0 x1 x3 0 0 hx3 (by decide) (by decide))
def c_X0_leads_160 : Nat → MEM → Int → Int → Int → Int → Option zc_O
  | 0, _, _, _, _, _ => none
  | n + 1, μ, x0, x1, x3, x4 => ck (zt [6, 11] (μ x3 (-1)) = true) (ck (zt [40] (μ (μ x3 2) (-1)) = true) (bc (b_lsize μ (μ x3 2)) (fun r3 μ4 => if r3 ≤ x4 then (c_X0_leads_251 zF μ4 x0 x1 0) else (ck (zt [6, 11] (μ4 x3 (-1)) = true) (ck (zt [40] (μ4 (μ4 x3 2) (-1)) = true) (bc (b_lget μ4 (μ4 x3 2) x4) (fun r8 μ9 => ck (zt [6, 11, 13, 14] (μ9 r8 (-1)) = true) (ck (zt [16] (μ9 x1 (-1)) = true) (if (μ9 x1 0) = 2 then (bc (dv_kind μ9 r8) (fun r14 μ15 => if r14 = 3 then (ck (zt [1] (μ15 x0 (-1)) = true) (bc (c_X0_leadsTo μ15 x0 r8) (fun _ μ18 => ck (inR (x4 + 1)) (c_X0_leads_160 n μ18 x0 x1 x3 (x4 + 1))))) else (ck (inR (x4 + 1)) (c_X0_leads_160 n μ15 x0 x1 x3 (x4 + 1))))) else (bc (dv_kind μ9 r8) (fun r21 μ22 => if r21 = 1 then (ck (zt [16] (μ22 x1 (-1)) = true) (if (μ22 x1 2) = 0 then (ck (zt [1] (μ22 x0 (-1)) = true) (bc (c_X0_leadsTo μ22 x0 r8) (fun _ μ26 => ck (inR (x4 + 1)) (c_X0_leads_160 n μ26 x0 x1 x3 (x4 + 1))))) else (ck (zt [6, 11, 13, 14] (μ22 r8 (-1)) = true) (bc (dv_name μ22 r8) (fun r29 μ30 => bc (c_X0_isSame μ30 (μ22 x1 2) r29) (fun r32 μ33 => if r32 = 0 then (ck (inR (x4 + 1)) (c_X0_leads_160 n μ33 x0 x1 x3 (x4 + 1))) else (ck (zt [1] (μ33 x0 (-1)) = true) (bc (c_X0_leadsTo μ33 x0 r8) (fun _ μ37 => ck (inR (x4 + 1)) (c_X0_leads_160 n μ37 x0 x1 x3 (x4 + 1))))))))))) else (ck (inR (x4 + 1)) (c_X0_leads_160 n μ22 x0 x1 x3 (x4 + 1))))))))))))))
theorem u_X0_leads_160 {C : zv_Cx zc_O} {G : zc_G} {μ0 : MEM} (h : zv_Ok C cX0_leads "TreePress") (hc : zc_C C G μ0 6 (Option.none : Option FieldType) 0 76 2901 "leads" []) : ∀ (n : Nat) (μ : MEM) (x0 x1 x3 x4 : Int), inR x4 → VV C (c_X0_leads_160 n μ x0 x1 x3 x4) μ [(0, zc_rv G x0), (1, zc_rv G x1), (3, zc_rv G x3), (4, iv x4)] [] 160 := by
  have hN : ∀ i, i < 6 → i < zv_n C := fun i q => by rw [hc.2.1]; exact q
  intro n
  induction n with
  | zero => intros; exact r_none
  | succ n ih =>
    intro μ x0 x1 x3 x4 hx4
    rw [c_X0_leads_160]
    refine r_iload h 3 dX0_leads_160 rfl ?_
    refine c_aload_n (x := x3) h 2 dX0_leads_162 rfl rfl ?_
    refine r_ck (fun ht1 => ?_)
    refine c_getR (fin := true) h hc [6, 11] 2 (zc_lk1 h q312) ht1 (by decide) dX0_leads_163 ?_
    refine r_ck (fun ht2 => ?_)
    refine c_callV (x := (μ x3 2)) h hc (As := []) (fun o1 e1 => w_lsize _ (μ x3 2) o1 e1) [40] ht2 (by decide) q1130 q343 (fun t ht => by cases List.mem_singleton.mp ht; exact q344) q345 q135 (by omega) (by omega) (zc_sc (iv_cat _) zc_s0) (by omega) (fun z hz => by cases hz) ⟨by decide, by decide⟩ (n := 0) (by decide +kernel) rfl rfl dX0_leads_166 (fun r3 μ4 hr5 => r_k1 ?_)
    refine r_icmp_ge (x := x4) (y := r3) h hx4 hr5 249 dX0_leads_169 rfl ?_ ?_
    · refine r_iconst h dX0_leads_249 ?_
      refine r_istore_n (i := 3) (lv' := [(3, iv 0), (0, zc_rv G x0), (1, zc_rv G x1), (4, iv x4)]) h dX0_leads_250 rfl (hN _ (by decide)) rfl ?_
      exact r_lv [1, 2, 0] rfl (u_X0_leads_251 h hc zF _ x0 x1 0 (by decide))
    · refine c_aload_n (x := x3) h 2 dX0_leads_172 rfl rfl ?_
      refine r_ck (fun ht6 => ?_)
      refine c_getR (fin := true) h hc [6, 11] 2 (zc_lk1 h q312) ht6 (by decide) dX0_leads_173 ?_
      refine r_iload h 3 dX0_leads_176 rfl ?_
      refine r_ck (fun ht7 => ?_)
      refine c_callV (x := (μ4 x3 2)) h hc (As := [iv x4]) (fun o1 e1 => w_lget _ (μ4 x3 2) x4 hx4 o1 e1) [40] ht7 (by decide) q1146 q844 (fun t ht => by cases List.mem_singleton.mp ht; exact q845) q846 q135 (by omega) (by omega) zc_s0 (by omega) (fun z hz => by cases hz) ⟨by decide, by decide⟩ (n := 1) (by decide +kernel) rfl rfl dX0_leads_178 (fun r8 μ9 hr10 => r_k4 ?_)
      refine r_ck (fun ht11 => ?_)
      refine c_cast h hc [6, 11, 13, 14] q175 ht11 (by decide) dX0_leads_181 ?_
      refine c_astore (lv' := [(5, zc_rv G r8), (0, zc_rv G x0), (1, zc_rv G x1), (3, zc_rv G x3), (4, iv x4)]) h dX0_leads_184 (hN _ (by decide)) rfl ?_
      refine c_aload_n (x := x1) h 2 dX0_leads_186 rfl rfl ?_
      refine r_ck (fun ht12 => ?_)
      refine c_getI (fin := false) h hc [16] 0 (zc_lk3 hc (O := "TreePress$Step") (n := "kind") (ds := "I") (host := "TreePress") (by decide)) ht12 (by decide) dX0_leads_187 (fun hr13 => ?_)
      refine r_iconst h dX0_leads_190 ?_
      refine r_icmp_ne (x := (μ9 x1 0)) (y := 2) h hr13 (by decide) 206 dX0_leads_191 rfl ?_ ?_
      · refine c_aload (x := r8) h 0 dX0_leads_194 rfl ?_
        refine cd_kind (x := r8)  h hc (hM := dm_kind) ht11 q1147 (by omega) (by omega) zc_s0 (by omega) (fun z hz => by cases hz) dX0_leads_196 (fun r14 μ15 hr16 => r_k1 ?_)
        refine r_iconst h dX0_leads_199 ?_
        refine r_icmp_ne (x := r14) (y := 3) h hr16 (by decide) 243 dX0_leads_200 rfl ?_ ?_
        · refine r_goto h 237 dX0_leads_203 rfl ?_
          refine c_aload_n (x := x0) h 1 dX0_leads_237 rfl rfl ?_
          refine c_aload (x := r8) h 0 dX0_leads_238 rfl ?_
          refine r_ck (fun ht17 => ?_)
          refine c_callV (x := x0) h hc (As := [zc_rv G r8]) (fun o1 e1 => u_X0_leadsTo _ x0 r8 o1 e1) [1] ht17 (by decide) q1366 q1368 (fun t ht => by cases List.mem_singleton.mp ht; exact qs48) q1369 q132 (by omega) (by omega) zc_s0 (by omega) (fun z hz => by cases hz) ⟨by decide, by decide⟩ (n := 1) (by decide +kernel) rfl rfl dX0_leads_240 (fun _ μ18 _ => r_k0 ?_)
          refine r_iinc (lv' := [(4, iv (x4 + 1)), (5, zc_rv G r8), (0, zc_rv G x0), (1, zc_rv G x1), (3, zc_rv G x3)]) h 4 dX0_leads_243 rfl (hN _ (by decide)) (by simp [zc_rv_cat]) ?_
          refine r_goto h 160 dX0_leads_246 rfl ?_
          refine r_ck (fun hk19 => ?_)
          exact r_lv [2, 3, 4, 0] rfl (ih _ x0 x1 x3 (x4 + 1) hk19)
        · refine r_iinc (lv' := [(4, iv (x4 + 1)), (5, zc_rv G r8), (0, zc_rv G x0), (1, zc_rv G x1), (3, zc_rv G x3)]) h 4 dX0_leads_243 rfl (hN _ (by decide)) (by simp [zc_rv_cat]) ?_
          refine r_goto h 160 dX0_leads_246 rfl ?_
          refine r_ck (fun hk20 => ?_)
          exact r_lv [2, 3, 4, 0] rfl (ih _ x0 x1 x3 (x4 + 1) hk20)
      · refine c_aload (x := r8) h 0 dX0_leads_206 rfl ?_
        refine cd_kind (x := r8)  h hc (hM := dm_kind) ht11 q1147 (by omega) (by omega) zc_s0 (by omega) (fun z hz => by cases hz) dX0_leads_208 (fun r21 μ22 hr23 => r_k1 ?_)
        refine r_iconst h dX0_leads_211 ?_
        refine r_icmp_ne (x := r21) (y := 1) h hr23 (by decide) 243 dX0_leads_212 rfl ?_ ?_
        · refine c_aload_n (x := x1) h 2 dX0_leads_215 rfl rfl ?_
          refine r_ck (fun ht24 => ?_)
          refine c_getR (fin := false) h hc [16] 2 (zc_lk3 hc (O := "TreePress$Step") (n := "name") (ds := "[B") (host := "TreePress") (by decide)) ht24 (by decide) dX0_leads_216 ?_
          refine c_ifnull (x := (μ22 x1 2)) h 237 dX0_leads_219 rfl ?_ ?_
          · refine c_aload_n (x := x0) h 1 dX0_leads_237 rfl rfl ?_
            refine c_aload (x := r8) h 0 dX0_leads_238 rfl ?_
            refine r_ck (fun ht25 => ?_)
            refine c_callV (x := x0) h hc (As := [zc_rv G r8]) (fun o1 e1 => u_X0_leadsTo _ x0 r8 o1 e1) [1] ht25 (by decide) q1366 q1368 (fun t ht => by cases List.mem_singleton.mp ht; exact qs48) q1369 q132 (by omega) (by omega) zc_s0 (by omega) (fun z hz => by cases hz) ⟨by decide, by decide⟩ (n := 1) (by decide +kernel) rfl rfl dX0_leads_240 (fun _ μ26 _ => r_k0 ?_)
            refine r_iinc (lv' := [(4, iv (x4 + 1)), (5, zc_rv G r8), (0, zc_rv G x0), (1, zc_rv G x1), (3, zc_rv G x3)]) h 4 dX0_leads_243 rfl (hN _ (by decide)) (by simp [zc_rv_cat]) ?_
            refine r_goto h 160 dX0_leads_246 rfl ?_
            refine r_ck (fun hk27 => ?_)
            exact r_lv [2, 3, 4, 0] rfl (ih _ x0 x1 x3 (x4 + 1) hk27)
          · refine c_aload_n (x := x1) h 2 dX0_leads_222 rfl rfl ?_
            refine c_getR (fin := false) h hc [16] 2 (zc_lk3 hc (O := "TreePress$Step") (n := "name") (ds := "[B") (host := "TreePress") (by decide)) ht24 (by decide) dX0_leads_223 ?_
            refine c_aload (x := r8) h 0 dX0_leads_226 rfl ?_
            refine r_ck (fun ht28 => ?_)
            refine cd_name (x := r8)  h hc (hM := dm_name) ht28 q1148 (by omega) (by omega) (zc_sc (zc_rv_cat G _) zc_s0) (by omega) (fun z hz => by cases hz) dX0_leads_228 (fun r29 μ30 hr31 => r_k4 ?_)
            refine c_callS h hc (As := [zc_rv G (μ22 x1 2), zc_rv G r29]) (fun o1 e1 => u_X0_isSame _ (μ22 x1 2) r29 o1 e1) q1371 q856 q857 q132 (by omega) (by omega) zc_s0 (by omega) (fun z hz => by cases hz) ⟨by decide, by decide⟩ (n := 2) (by decide +kernel) rfl rfl dX0_leads_231 (fun r32 μ33 hr34 => r_k3 ?_)
            refine r_if_eq (x := r32) h hr34.r 243 dX0_leads_234 rfl ?_ ?_
            · refine r_iinc (lv' := [(4, iv (x4 + 1)), (5, zc_rv G r8), (0, zc_rv G x0), (1, zc_rv G x1), (3, zc_rv G x3)]) h 4 dX0_leads_243 rfl (hN _ (by decide)) (by simp [zc_rv_cat]) ?_
              refine r_goto h 160 dX0_leads_246 rfl ?_
              refine r_ck (fun hk35 => ?_)
              exact r_lv [2, 3, 4, 0] rfl (ih _ x0 x1 x3 (x4 + 1) hk35)
            · refine c_aload_n (x := x0) h 1 dX0_leads_237 rfl rfl ?_
              refine c_aload (x := r8) h 0 dX0_leads_238 rfl ?_
              refine r_ck (fun ht36 => ?_)
              refine c_callV (x := x0) h hc (As := [zc_rv G r8]) (fun o1 e1 => u_X0_leadsTo _ x0 r8 o1 e1) [1] ht36 (by decide) q1366 q1368 (fun t ht => by cases List.mem_singleton.mp ht; exact qs48) q1369 q132 (by omega) (by omega) zc_s0 (by omega) (fun z hz => by cases hz) ⟨by decide, by decide⟩ (n := 1) (by decide +kernel) rfl rfl dX0_leads_240 (fun _ μ37 _ => r_k0 ?_)
              refine r_iinc (lv' := [(4, iv (x4 + 1)), (5, zc_rv G r8), (0, zc_rv G x0), (1, zc_rv G x1), (3, zc_rv G x3)]) h 4 dX0_leads_243 rfl (hN _ (by decide)) (by simp [zc_rv_cat]) ?_
              refine r_goto h 160 dX0_leads_246 rfl ?_
              refine r_ck (fun hk38 => ?_)
              exact r_lv [2, 3, 4, 0] rfl (ih _ x0 x1 x3 (x4 + 1) hk38)
        · refine r_iinc (lv' := [(4, iv (x4 + 1)), (5, zc_rv G r8), (0, zc_rv G x0), (1, zc_rv G x1), (3, zc_rv G x3)]) h 4 dX0_leads_243 rfl (hN _ (by decide)) (by simp [zc_rv_cat]) ?_
          refine r_goto h 160 dX0_leads_246 rfl ?_
          refine r_ck (fun hk39 => ?_)
          exact r_lv [2, 3, 4, 0] rfl (ih _ x0 x1 x3 (x4 + 1) hk39)
def c_X0_leads_145 (μ : MEM) (x0 x1 x2 : Int) : Option zc_O := ck (zt [6, 11, 13, 14] (μ x2 (-1)) = true) (if (zi [6, 11] (μ x2 (-1))) = 0 then (c_X0_leads_251 zF μ x0 x1 0) else (ck (zt [6, 11] (μ x2 (-1)) = true) (c_X0_leads_160 zF μ x0 x1 x2 0)))
theorem u_X0_leads_145 {C : zv_Cx zc_O} {G : zc_G} {μ0 : MEM} (h : zv_Ok C cX0_leads "TreePress") (hc : zc_C C G μ0 6 (Option.none : Option FieldType) 0 76 2901 "leads" []) (μ : MEM) (x0 x1 x2 : Int) : VV C (c_X0_leads_145 μ x0 x1 x2) μ [(0, zc_rv G x0), (1, zc_rv G x1), (2, zc_rv G x2)] [] 145 := by
  have hN : ∀ i, i < 6 → i < zv_n C := fun i q => by rw [hc.2.1]; exact q
  unfold c_X0_leads_145
  refine c_aload_n (x := x2) h 2 dX0_leads_145 rfl rfl ?_
  refine r_ck (fun ht1 => ?_)
  refine c_inst h hc [6, 11, 13, 14] [6, 11] q1357 ht1 (by decide) dX0_leads_146 ?_
  refine r_if_eq (x := (zi [6, 11] (μ x2 (-1)))) h ((zi_B _ _)).r 249 dX0_leads_149 rfl ?_ ?_
  · refine r_iconst h dX0_leads_249 ?_
    refine r_istore_n (i := 3) (lv' := [(3, iv 0), (0, zc_rv G x0), (1, zc_rv G x1), (2, zc_rv G x2)]) h dX0_leads_250 rfl (hN _ (by decide)) (by simp [zc_rv_cat]) ?_
    exact r_lv [1, 2, 0] rfl (u_X0_leads_251 h hc zF _ x0 x1 0 (by decide))
  · refine c_aload_n (x := x2) h 2 dX0_leads_152 rfl rfl ?_
    refine r_ck (fun ht2 => ?_)
    refine c_cast h hc [6, 11] q1357 ht2 (by decide) dX0_leads_153 ?_
    refine c_astore_n (i := 3) (lv' := [(3, zc_rv G x2), (0, zc_rv G x0), (1, zc_rv G x1), (2, zc_rv G x2)]) h dX0_leads_156 rfl (hN _ (by decide)) (by simp [zc_rv_cat]) ?_
    refine r_iconst h dX0_leads_157 ?_
    refine r_istore (lv' := [(4, iv 0), (3, zc_rv G x2), (0, zc_rv G x0), (1, zc_rv G x1), (2, zc_rv G x2)]) h dX0_leads_158 (hN _ (by decide)) (by simp [zc_rv_cat]) ?_
    exact r_lv [2, 3, 1, 0] rfl (u_X0_leads_160 h hc zF _ x0 x1 x2 0 (by decide))
def c_X0_leads_129 (μ : MEM) (x0 x1 x2 : Int) : Option zc_O := ck (zt [16] (μ x1 (-1)) = true) (if (μ x1 0) = 3 then (c_X0_leads_145 μ x0 x1 x2) else (if (μ x1 0) = 2 then (c_X0_leads_145 μ x0 x1 x2) else (c_X0_leads_251 zF μ x0 x1 0)))
theorem u_X0_leads_129 {C : zv_Cx zc_O} {G : zc_G} {μ0 : MEM} (h : zv_Ok C cX0_leads "TreePress") (hc : zc_C C G μ0 6 (Option.none : Option FieldType) 0 76 2901 "leads" []) (μ : MEM) (x0 x1 x2 : Int) : VV C (c_X0_leads_129 μ x0 x1 x2) μ [(0, zc_rv G x0), (1, zc_rv G x1), (2, zc_rv G x2)] [] 129 := by
  have hN : ∀ i, i < 6 → i < zv_n C := fun i q => by rw [hc.2.1]; exact q
  unfold c_X0_leads_129
  refine c_aload_n (x := x1) h 1 dX0_leads_129 rfl rfl ?_
  refine r_ck (fun ht1 => ?_)
  refine c_getI (fin := false) h hc [16] 0 (zc_lk3 hc (O := "TreePress$Step") (n := "kind") (ds := "I") (host := "TreePress") (by decide)) ht1 (by decide) dX0_leads_130 (fun hr2 => ?_)
  refine r_iconst h dX0_leads_133 ?_
  refine r_icmp_eq (x := (μ x1 0)) (y := 3) h hr2 (by decide) 145 dX0_leads_134 rfl ?_ ?_
  · exact r_lv [0, 1, 2] rfl (u_X0_leads_145 h hc _ x0 x1 x2)
  · refine c_aload_n (x := x1) h 1 dX0_leads_137 rfl rfl ?_
    refine c_getI (fin := false) h hc [16] 0 (zc_lk3 hc (O := "TreePress$Step") (n := "kind") (ds := "I") (host := "TreePress") (by decide)) ht1 (by decide) dX0_leads_138 (fun hr3 => ?_)
    refine r_iconst h dX0_leads_141 ?_
    refine r_icmp_ne (x := (μ x1 0)) (y := 2) h hr3 (by decide) 249 dX0_leads_142 rfl ?_ ?_
    · exact r_lv [0, 1, 2] rfl (u_X0_leads_145 h hc _ x0 x1 x2)
    · refine r_iconst h dX0_leads_249 ?_
      refine r_istore_n (i := 3) (lv' := [(3, iv 0), (0, zc_rv G x0), (1, zc_rv G x1), (2, zc_rv G x2)]) h dX0_leads_250 rfl (hN _ (by decide)) (by simp [zc_rv_cat]) ?_
      exact r_lv [1, 2, 0] rfl (u_X0_leads_251 h hc zF _ x0 x1 0 (by decide))
def c_X0_leads_107 (lp63 : MEM → Int → Int → Int → Int → Int → Option zc_O) (μ : MEM) (x0 x1 x2 x3 x4 : Int) : Option zc_O := ck (zt [11] (μ x3 (-1)) = true) (ck (zt [40] (μ (μ x3 5) (-1)) = true) (bc (b_lget μ (μ x3 5) x4) (fun r3 μ4 => ck (zt [6, 11, 13, 14] (μ4 r3 (-1)) = true) (ck (zt [1] (μ4 x0 (-1)) = true) (bc (c_X0_leadsTo μ4 x0 r3) (fun _ μ8 => ck (inR (x4 + 1)) (lp63 μ8 x0 x1 x2 x3 (x4 + 1))))))))
theorem u_X0_leads_107 {C : zv_Cx zc_O} {G : zc_G} {μ0 : MEM} (h : zv_Ok C cX0_leads "TreePress") (hc : zc_C C G μ0 6 (Option.none : Option FieldType) 0 76 2901 "leads" []) (lp63 : MEM → Int → Int → Int → Int → Int → Option zc_O) (hlp63 : ∀ (μ : MEM) (x0 x1 x2 x3 x4 : Int), inR x4 → VV C (lp63 μ x0 x1 x2 x3 x4) μ [(0, zc_rv G x0), (1, zc_rv G x1), (2, zc_rv G x2), (3, zc_rv G x3), (4, iv x4)] [] 63) (μ : MEM) (x0 x1 x2 x3 x4 : Int) (hx4 : inR x4) : VV C (c_X0_leads_107 lp63 μ x0 x1 x2 x3 x4) μ [(0, zc_rv G x0), (1, zc_rv G x1), (2, zc_rv G x2), (3, zc_rv G x3), (4, iv x4)] [] 107 := by
  have hN : ∀ i, i < 6 → i < zv_n C := fun i q => by rw [hc.2.1]; exact q
  unfold c_X0_leads_107
  refine c_aload_n (x := x0) h 0 dX0_leads_107 rfl rfl ?_
  refine c_aload_n (x := x3) h 3 dX0_leads_108 rfl rfl ?_
  refine r_ck (fun ht1 => ?_)
  refine c_getR (fin := true) h hc [11] 5 (zc_lk3 hc (O := "TreePress$Element") (n := "attributes") (ds := "Ljava/util/ArrayList;") (host := "TreePress") (by decide)) ht1 (by decide) dX0_leads_109 ?_
  refine r_iload h 4 dX0_leads_112 rfl ?_
  refine r_ck (fun ht2 => ?_)
  refine c_callV (x := (μ x3 5)) h hc (As := [iv x4]) (fun o1 e1 => w_lget _ (μ x3 5) x4 hx4 o1 e1) [40] ht2 (by decide) q1146 q844 (fun t ht => by cases List.mem_singleton.mp ht; exact q845) q846 q135 (by omega) (by omega) (zc_sc (zc_rv_cat G _) zc_s0) (by omega) (fun z hz => by cases hz) ⟨by decide, by decide⟩ (n := 1) (by decide +kernel) rfl rfl dX0_leads_114 (fun r3 μ4 hr5 => r_k4 ?_)
  refine r_ck (fun ht6 => ?_)
  refine c_cast h hc [6, 11, 13, 14] q175 ht6 (by decide) dX0_leads_117 ?_
  refine r_ck (fun ht7 => ?_)
  refine c_callV (x := x0) h hc (As := [zc_rv G r3]) (fun o1 e1 => u_X0_leadsTo _ x0 r3 o1 e1) [1] ht7 (by decide) q1366 q1368 (fun t ht => by cases List.mem_singleton.mp ht; exact qs48) q1369 q132 (by omega) (by omega) zc_s0 (by omega) (fun z hz => by cases hz) ⟨by decide, by decide⟩ (n := 1) (by decide +kernel) rfl rfl dX0_leads_120 (fun _ μ8 _ => r_k0 ?_)
  refine r_iinc (lv' := [(4, iv (x4 + 1)), (0, zc_rv G x0), (1, zc_rv G x1), (2, zc_rv G x2), (3, zc_rv G x3)]) h 4 dX0_leads_123 rfl (hN _ (by decide)) (by simp [zc_rv_cat]) ?_
  refine r_goto h 63 dX0_leads_126 rfl ?_
  refine r_ck (fun hk9 => ?_)
  exact r_lv [1, 2, 3, 4, 0] rfl (hlp63 _ x0 x1 x2 x3 (x4 + 1) hk9)
def c_X0_leads_63 : Nat → MEM → Int → Int → Int → Int → Int → Option zc_O
  | 0, _, _, _, _, _, _ => none
  | n + 1, μ, x0, x1, x2, x3, x4 => ck (zt [11] (μ x3 (-1)) = true) (ck (zt [40] (μ (μ x3 5) (-1)) = true) (bc (b_lsize μ (μ x3 5)) (fun r3 μ4 => if r3 ≤ x4 then (c_X0_leads_129 μ4 x0 x1 x2) else (ck (zt [16] (μ4 x1 (-1)) = true) (if (μ4 x1 2) = 0 then (c_X0_leads_107 (c_X0_leads_63 n) μ4 x0 x1 x2 x3 x4) else (ck (zt [11] (μ4 x3 (-1)) = true) (ck (zt [40] (μ4 (μ4 x3 5) (-1)) = true) (bc (b_lget μ4 (μ4 x3 5) x4) (fun r9 μ10 => ck (zt [13] (μ10 r9 (-1)) = true) (bc (c_X0_isSame μ10 (μ4 x1 2) (μ10 r9 7)) (fun r13 μ14 => if r13 = 0 then (ck (inR (x4 + 1)) (c_X0_leads_63 n μ14 x0 x1 x2 x3 (x4 + 1))) else (c_X0_leads_107 (c_X0_leads_63 n) μ14 x0 x1 x2 x3 x4))))))))))))
theorem u_X0_leads_63 {C : zv_Cx zc_O} {G : zc_G} {μ0 : MEM} (h : zv_Ok C cX0_leads "TreePress") (hc : zc_C C G μ0 6 (Option.none : Option FieldType) 0 76 2901 "leads" []) : ∀ (n : Nat) (μ : MEM) (x0 x1 x2 x3 x4 : Int), inR x4 → VV C (c_X0_leads_63 n μ x0 x1 x2 x3 x4) μ [(0, zc_rv G x0), (1, zc_rv G x1), (2, zc_rv G x2), (3, zc_rv G x3), (4, iv x4)] [] 63 := by
  have hN : ∀ i, i < 6 → i < zv_n C := fun i q => by rw [hc.2.1]; exact q
  intro n
  induction n with
  | zero => intros; exact r_none
  | succ n ih =>
    intro μ x0 x1 x2 x3 x4 hx4
    rw [c_X0_leads_63]
    refine r_iload h 4 dX0_leads_63 rfl ?_
    refine c_aload_n (x := x3) h 3 dX0_leads_65 rfl rfl ?_
    refine r_ck (fun ht1 => ?_)
    refine c_getR (fin := true) h hc [11] 5 (zc_lk3 hc (O := "TreePress$Element") (n := "attributes") (ds := "Ljava/util/ArrayList;") (host := "TreePress") (by decide)) ht1 (by decide) dX0_leads_66 ?_
    refine r_ck (fun ht2 => ?_)
    refine c_callV (x := (μ x3 5)) h hc (As := []) (fun o1 e1 => w_lsize _ (μ x3 5) o1 e1) [40] ht2 (by decide) q1130 q343 (fun t ht => by cases List.mem_singleton.mp ht; exact q344) q345 q135 (by omega) (by omega) (zc_sc (iv_cat _) zc_s0) (by omega) (fun z hz => by cases hz) ⟨by decide, by decide⟩ (n := 0) (by decide +kernel) rfl rfl dX0_leads_69 (fun r3 μ4 hr5 => r_k1 ?_)
    refine r_icmp_ge (x := x4) (y := r3) h hx4 hr5 129 dX0_leads_72 rfl ?_ ?_
    · exact r_lv [0, 1, 2] rfl (u_X0_leads_129 h hc _ x0 x1 x2)
    · refine c_aload_n (x := x1) h 1 dX0_leads_75 rfl rfl ?_
      refine r_ck (fun ht6 => ?_)
      refine c_getR (fin := false) h hc [16] 2 (zc_lk3 hc (O := "TreePress$Step") (n := "name") (ds := "[B") (host := "TreePress") (by decide)) ht6 (by decide) dX0_leads_76 ?_
      refine c_ifnull (x := (μ4 x1 2)) h 107 dX0_leads_79 rfl ?_ ?_
      · exact r_lv [0, 1, 2, 3, 4] rfl (u_X0_leads_107 h hc (c_X0_leads_63 n) ih _ x0 x1 x2 x3 x4 hx4)
      · refine c_aload_n (x := x1) h 1 dX0_leads_82 rfl rfl ?_
        refine c_getR (fin := false) h hc [16] 2 (zc_lk3 hc (O := "TreePress$Step") (n := "name") (ds := "[B") (host := "TreePress") (by decide)) ht6 (by decide) dX0_leads_83 ?_
        refine c_aload_n (x := x3) h 3 dX0_leads_86 rfl rfl ?_
        refine r_ck (fun ht7 => ?_)
        refine c_getR (fin := true) h hc [11] 5 (zc_lk3 hc (O := "TreePress$Element") (n := "attributes") (ds := "Ljava/util/ArrayList;") (host := "TreePress") (by decide)) ht7 (by decide) dX0_leads_87 ?_
        refine r_iload h 4 dX0_leads_90 rfl ?_
        refine r_ck (fun ht8 => ?_)
        refine c_callV (x := (μ4 x3 5)) h hc (As := [iv x4]) (fun o1 e1 => w_lget _ (μ4 x3 5) x4 hx4 o1 e1) [40] ht8 (by decide) q1146 q844 (fun t ht => by cases List.mem_singleton.mp ht; exact q845) q846 q135 (by omega) (by omega) (zc_sc (zc_rv_cat G _) zc_s0) (by omega) (fun z hz => by cases hz) ⟨by decide, by decide⟩ (n := 1) (by decide +kernel) rfl rfl dX0_leads_92 (fun r9 μ10 hr11 => r_k4 ?_)
        refine r_ck (fun ht12 => ?_)
        refine c_cast h hc [13] q1184 ht12 (by decide) dX0_leads_95 ?_
        refine c_getR (fin := true) h hc [13] 7 (zc_lk3 hc (O := "TreePress$Attribute") (n := "name") (ds := "[B") (host := "TreePress") (by decide)) ht12 (by decide) dX0_leads_98 ?_
        refine c_callS h hc (As := [zc_rv G (μ4 x1 2), zc_rv G (μ10 r9 7)]) (fun o1 e1 => u_X0_isSame _ (μ4 x1 2) (μ10 r9 7) o1 e1) q1371 q856 q857 q132 (by omega) (by omega) zc_s0 (by omega) (fun z hz => by cases hz) ⟨by decide, by decide⟩ (n := 2) (by decide +kernel) rfl rfl dX0_leads_101 (fun r13 μ14 hr15 => r_k3 ?_)
        refine r_if_eq (x := r13) h hr15.r 123 dX0_leads_104 rfl ?_ ?_
        · refine r_iinc (lv' := [(4, iv (x4 + 1)), (0, zc_rv G x0), (1, zc_rv G x1), (2, zc_rv G x2), (3, zc_rv G x3)]) h 4 dX0_leads_123 rfl (hN _ (by decide)) (by simp [zc_rv_cat]) ?_
          refine r_goto h 63 dX0_leads_126 rfl ?_
          refine r_ck (fun hk16 => ?_)
          exact r_lv [1, 2, 3, 4, 0] rfl (ih _ x0 x1 x2 x3 (x4 + 1) hk16)
        · exact r_lv [0, 1, 2, 3, 4] rfl (u_X0_leads_107 h hc (c_X0_leads_63 n) ih _ x0 x1 x2 x3 x4 hx4)
def c_X0_leads_40 (μ : MEM) (x0 x1 x2 : Int) : Option zc_O := ck (zt [16] (μ x1 (-1)) = true) (if (μ x1 0) = 4 then (ck (zt [6, 11, 13, 14] (μ x2 (-1)) = true) (if (zi [11] (μ x2 (-1))) = 0 then (c_X0_leads_129 μ x0 x1 x2) else (ck (zt [11] (μ x2 (-1)) = true) (c_X0_leads_63 zF μ x0 x1 x2 x2 0)))) else (c_X0_leads_129 μ x0 x1 x2))
theorem u_X0_leads_40 {C : zv_Cx zc_O} {G : zc_G} {μ0 : MEM} (h : zv_Ok C cX0_leads "TreePress") (hc : zc_C C G μ0 6 (Option.none : Option FieldType) 0 76 2901 "leads" []) (μ : MEM) (x0 x1 x2 : Int) : VV C (c_X0_leads_40 μ x0 x1 x2) μ [(0, zc_rv G x0), (1, zc_rv G x1), (2, zc_rv G x2)] [] 40 := by
  have hN : ∀ i, i < 6 → i < zv_n C := fun i q => by rw [hc.2.1]; exact q
  unfold c_X0_leads_40
  refine c_aload_n (x := x1) h 1 dX0_leads_40 rfl rfl ?_
  refine r_ck (fun ht1 => ?_)
  refine c_getI (fin := false) h hc [16] 0 (zc_lk3 hc (O := "TreePress$Step") (n := "kind") (ds := "I") (host := "TreePress") (by decide)) ht1 (by decide) dX0_leads_41 (fun hr2 => ?_)
  refine r_iconst h dX0_leads_44 ?_
  refine r_icmp_ne (x := (μ x1 0)) (y := 4) h hr2 (by decide) 129 dX0_leads_45 rfl ?_ ?_
  · refine c_aload_n (x := x2) h 2 dX0_leads_48 rfl rfl ?_
    refine r_ck (fun ht3 => ?_)
    refine c_inst h hc [6, 11, 13, 14] [11] q1370 ht3 (by decide) dX0_leads_49 ?_
    refine r_if_eq (x := (zi [11] (μ x2 (-1)))) h ((zi_B _ _)).r 129 dX0_leads_52 rfl ?_ ?_
    · exact r_lv [0, 1, 2] rfl (u_X0_leads_129 h hc _ x0 x1 x2)
    · refine c_aload_n (x := x2) h 2 dX0_leads_55 rfl rfl ?_
      refine r_ck (fun ht4 => ?_)
      refine c_cast h hc [11] q1370 ht4 (by decide) dX0_leads_56 ?_
      refine c_astore_n (i := 3) (lv' := [(3, zc_rv G x2), (0, zc_rv G x0), (1, zc_rv G x1), (2, zc_rv G x2)]) h dX0_leads_59 rfl (hN _ (by decide)) (by simp [zc_rv_cat]) ?_
      refine r_iconst h dX0_leads_60 ?_
      refine r_istore (lv' := [(4, iv 0), (3, zc_rv G x2), (0, zc_rv G x0), (1, zc_rv G x1), (2, zc_rv G x2)]) h dX0_leads_61 (hN _ (by decide)) (by simp [zc_rv_cat]) ?_
      exact r_lv [2, 3, 4, 1, 0] rfl (u_X0_leads_63 h hc zF _ x0 x1 x2 x2 0 (by decide))
  · exact r_lv [0, 1, 2] rfl (u_X0_leads_129 h hc _ x0 x1 x2)
def c_X0_leads_17 (μ : MEM) (x0 x1 x2 : Int) : Option zc_O := ck (zt [16] (μ x1 (-1)) = true) (if (μ x1 0) = 1 then (ck (zt [6, 11, 13, 14] (μ x2 (-1)) = true) (if (μ x2 1) = 0 then (c_X0_leads_40 μ x0 x1 x2) else (ck (zt [1] (μ x0 (-1)) = true) (bc (c_X0_leadsTo μ x0 (μ x2 1)) (fun _ μ5 => c_X0_leads_40 μ5 x0 x1 x2))))) else (c_X0_leads_40 μ x0 x1 x2))
theorem u_X0_leads_17 {C : zv_Cx zc_O} {G : zc_G} {μ0 : MEM} (h : zv_Ok C cX0_leads "TreePress") (hc : zc_C C G μ0 6 (Option.none : Option FieldType) 0 76 2901 "leads" []) (μ : MEM) (x0 x1 x2 : Int) : VV C (c_X0_leads_17 μ x0 x1 x2) μ [(0, zc_rv G x0), (1, zc_rv G x1), (2, zc_rv G x2)] [] 17 := by
  have hN : ∀ i, i < 6 → i < zv_n C := fun i q => by rw [hc.2.1]; exact q
  unfold c_X0_leads_17
  refine c_aload_n (x := x1) h 1 dX0_leads_17 rfl rfl ?_
  refine r_ck (fun ht1 => ?_)
  refine c_getI (fin := false) h hc [16] 0 (zc_lk3 hc (O := "TreePress$Step") (n := "kind") (ds := "I") (host := "TreePress") (by decide)) ht1 (by decide) dX0_leads_18 (fun hr2 => ?_)
  refine r_iconst h dX0_leads_21 ?_
  refine r_icmp_ne (x := (μ x1 0)) (y := 1) h hr2 (by decide) 40 dX0_leads_22 rfl ?_ ?_
  · refine c_aload_n (x := x2) h 2 dX0_leads_25 rfl rfl ?_
    refine r_ck (fun ht3 => ?_)
    refine c_getR (fin := false) h hc [6, 11, 13, 14] 1 (zc_lk1 h q326) ht3 (by decide) dX0_leads_26 ?_
    refine c_ifnull (x := (μ x2 1)) h 40 dX0_leads_29 rfl ?_ ?_
    · exact r_lv [0, 1, 2] rfl (u_X0_leads_40 h hc _ x0 x1 x2)
    · refine c_aload_n (x := x0) h 0 dX0_leads_32 rfl rfl ?_
      refine c_aload_n (x := x2) h 2 dX0_leads_33 rfl rfl ?_
      refine c_getR (fin := false) h hc [6, 11, 13, 14] 1 (zc_lk1 h q326) ht3 (by decide) dX0_leads_34 ?_
      refine r_ck (fun ht4 => ?_)
      refine c_callV (x := x0) h hc (As := [zc_rv G (μ x2 1)]) (fun o1 e1 => u_X0_leadsTo _ x0 (μ x2 1) o1 e1) [1] ht4 (by decide) q1366 q1368 (fun t ht => by cases List.mem_singleton.mp ht; exact qs48) q1369 q132 (by omega) (by omega) zc_s0 (by omega) (fun z hz => by cases hz) ⟨by decide, by decide⟩ (n := 1) (by decide +kernel) rfl rfl dX0_leads_37 (fun _ μ5 _ => r_k0 ?_)
      exact r_lv [0, 1, 2] rfl (u_X0_leads_40 h hc _ x0 x1 x2)
  · exact r_lv [0, 1, 2] rfl (u_X0_leads_40 h hc _ x0 x1 x2)
def c_X0_leads (μ : MEM) (a0 a1 a2 : Int) : Option zc_O := ck (zt [1] (μ a0 (-1)) = true) (nu (mup μ a0 9 0) (fun μ2 => ck (zt [16] (μ2 a1 (-1)) = true) (if (μ2 a1 0) = 0 then (bc (c_X0_leadsTo μ2 a0 a2) (fun _ μ6 => c_X0_leads_17 μ6 a0 a1 a2)) else (c_X0_leads_17 μ2 a0 a1 a2))))
theorem u_X0_leads {G : zc_G} (μ : MEM) (a0 a1 a2 : Int) (o : zc_O) (hd : c_X0_leads μ a0 a1 a2 = some o) : zc_Met G yX0_leads cX0_leads 6 (Option.none : Option FieldType) 0 76 2901 μ [zc_rv G a0, zc_rv G a1, zc_rv G a2] o := by
  refine zc_intro hd (by decide) (by simp [lg_sl, zc_rv_cat, iv_cat, jv_cat]) (lv := [(0, zc_rv G a0), (1, zc_rv G a1), (2, zc_rv G a2)]) (by simp [lv_args, zc_rv_cat, iv_cat, jv_cat]) (fun C h hc => ?_)
  have h : zv_Ok C cX0_leads "TreePress" := h
  have hc : zc_C C G μ 6 (Option.none : Option FieldType) 0 76 2901 "leads" [] := hc
  have hN : ∀ i, i < 6 → i < zv_n C := fun i q => by rw [hc.2.1]; exact q
  unfold c_X0_leads
  refine c_aload_n (x := a0) h 0 dX0_leads_0 rfl rfl ?_
  refine r_iconst h dX0_leads_1 ?_
  refine r_ck (fun ht1 => ?_)
  refine c_putI (x := a0) (y := 0) h hc [1] 9 false (zc_lk1 h q214) ht1 (by decide) (Or.inl rfl) (by decide) dX0_leads_2 (fun μ2 he3 => ?_)
  refine c_aload_n (x := a1) h 1 dX0_leads_5 rfl rfl ?_
  refine r_ck (fun ht4 => ?_)
  refine c_getI (fin := false) h hc [16] 0 (zc_lk3 hc (O := "TreePress$Step") (n := "kind") (ds := "I") (host := "TreePress") (by decide)) ht4 (by decide) dX0_leads_6 (fun hr5 => ?_)
  refine r_if_ne (x := (μ2 a1 0)) h hr5 17 dX0_leads_9 rfl ?_ ?_
  · refine c_aload_n (x := a0) h 0 dX0_leads_12 rfl rfl ?_
    refine c_aload_n (x := a2) h 2 dX0_leads_13 rfl rfl ?_
    refine c_callV (x := a0) h hc (As := [zc_rv G a2]) (fun o1 e1 => u_X0_leadsTo _ a0 a2 o1 e1) [1] (zt_mup he3 (by decide) ht1) (by decide) q1366 q1368 (fun t ht => by cases List.mem_singleton.mp ht; exact qs48) q1369 q132 (by omega) (by omega) zc_s0 (by omega) (fun z hz => by cases hz) ⟨by decide, by decide⟩ (n := 1) (by decide +kernel) rfl rfl dX0_leads_14 (fun _ μ6 _ => r_k0 ?_)
    exact r_lv [0, 1, 2] rfl (u_X0_leads_17 h hc _ a0 a1 a2)
  · exact r_lv [0, 1, 2] rfl (u_X0_leads_17 h hc _ a0 a1 a2)
theorem dX0_walk_0 : decode cX0_walk 0 = .ok (.aload_n 1, 1) := by decide +kernel
theorem dX0_walk_1 : decode cX0_walk 1 = .ok (.getfield 208, 3) := by decide +kernel
theorem dX0_walk_4 : decode cX0_walk 4 = .ok (.ifCond .eq 166, 3) := by decide +kernel
theorem dX0_walk_7 : decode cX0_walk 7 = .ok (.iconst 0, 1) := by decide +kernel
theorem dX0_walk_8 : decode cX0_walk 8 = .ok (.istore_n 2, 1) := by decide +kernel
theorem dX0_walk_9 : decode cX0_walk 9 = .ok (.iconst 0, 1) := by decide +kernel
theorem dX0_walk_10 : decode cX0_walk 10 = .ok (.istore_n 3, 1) := by decide +kernel
theorem dX0_walk_11 : decode cX0_walk 11 = .ok (.iload_n 3, 1) := by decide +kernel
theorem dX0_walk_12 : decode cX0_walk 12 = .ok (.aload_n 0, 1) := by decide +kernel
theorem dX0_walk_13 : decode cX0_walk 13 = .ok (.getfield 205, 3) := by decide +kernel
theorem dX0_walk_16 : decode cX0_walk 16 = .ok (.if_icmp .ge 150, 3) := by decide +kernel
theorem dX0_walk_19 : decode cX0_walk 19 = .ok (.aload_n 0, 1) := by decide +kernel
theorem dX0_walk_20 : decode cX0_walk 20 = .ok (.getfield 39, 3) := by decide +kernel
theorem dX0_walk_23 : decode cX0_walk 23 = .ok (.aload_n 0, 1) := by decide +kernel
theorem dX0_walk_24 : decode cX0_walk 24 = .ok (.getfield 29, 3) := by decide +kernel
theorem dX0_walk_27 : decode cX0_walk 27 = .ok (.iload_n 3, 1) := by decide +kernel
theorem dX0_walk_28 : decode cX0_walk 28 = .ok (.aaload, 1) := by decide +kernel
theorem dX0_walk_29 : decode cX0_walk 29 = .ok (.getfield 117, 3) := by decide +kernel
theorem dX0_walk_32 : decode cX0_walk 32 = .ok (.iconst 1, 1) := by decide +kernel
theorem dX0_walk_33 : decode cX0_walk 33 = .ok (.bastore, 1) := by decide +kernel
theorem dX0_walk_34 : decode cX0_walk 34 = .ok (.iload_n 2, 1) := by decide +kernel
theorem dX0_walk_35 : decode cX0_walk 35 = .ok (.aload_n 0, 1) := by decide +kernel
theorem dX0_walk_36 : decode cX0_walk 36 = .ok (.getfield 29, 3) := by decide +kernel
theorem dX0_walk_39 : decode cX0_walk 39 = .ok (.iload_n 3, 1) := by decide +kernel
theorem dX0_walk_40 : decode cX0_walk 40 = .ok (.aaload, 1) := by decide +kernel
theorem dX0_walk_41 : decode cX0_walk 41 = .ok (.getfield 117, 3) := by decide +kernel
theorem dX0_walk_44 : decode cX0_walk 44 = .ok (.invokestatic 211, 3) := by decide +kernel
theorem dX0_walk_47 : decode cX0_walk 47 = .ok (.istore 5, 2) := by decide +kernel
theorem dX0_walk_49 : decode cX0_walk 49 = .ok (.aload_n 0, 1) := by decide +kernel
theorem dX0_walk_50 : decode cX0_walk 50 = .ok (.getfield 29, 3) := by decide +kernel
theorem dX0_walk_53 : decode cX0_walk 53 = .ok (.iload_n 3, 1) := by decide +kernel
theorem dX0_walk_54 : decode cX0_walk 54 = .ok (.aaload, 1) := by decide +kernel
theorem dX0_walk_55 : decode cX0_walk 55 = .ok (.astore 6, 2) := by decide +kernel
theorem dX0_walk_57 : decode cX0_walk 57 = .ok (.aload 6, 2) := by decide +kernel
theorem dX0_walk_59 : decode cX0_walk 59 = .ok (.instanceof 177, 3) := by decide +kernel
theorem dX0_walk_62 : decode cX0_walk 62 = .ok (.ifCond .eq 63, 3) := by decide +kernel
theorem dX0_walk_65 : decode cX0_walk 65 = .ok (.aload 6, 2) := by decide +kernel
theorem dX0_walk_67 : decode cX0_walk 67 = .ok (.checkcast 177, 3) := by decide +kernel
theorem dX0_walk_70 : decode cX0_walk 70 = .ok (.astore 4, 2) := by decide +kernel
theorem dX0_walk_72 : decode cX0_walk 72 = .ok (.iload 5, 2) := by decide +kernel
theorem dX0_walk_74 : decode cX0_walk 74 = .ok (.aload 4, 2) := by decide +kernel
theorem dX0_walk_76 : decode cX0_walk 76 = .ok (.getfield 217, 3) := by decide +kernel
theorem dX0_walk_79 : decode cX0_walk 79 = .ok (.if_icmp .gt 46, 3) := by decide +kernel
theorem dX0_walk_82 : decode cX0_walk 82 = .ok (.aload_n 0, 1) := by decide +kernel
theorem dX0_walk_83 : decode cX0_walk 83 = .ok (.getfield 39, 3) := by decide +kernel
theorem dX0_walk_86 : decode cX0_walk 86 = .ok (.iload 5, 2) := by decide +kernel
theorem dX0_walk_88 : decode cX0_walk 88 = .ok (.dup2, 1) := by decide +kernel
theorem dX0_walk_89 : decode cX0_walk 89 = .ok (.baload, 1) := by decide +kernel
theorem dX0_walk_90 : decode cX0_walk 90 = .ok (.aload_n 0, 1) := by decide +kernel
theorem dX0_walk_91 : decode cX0_walk 91 = .ok (.getfield 75, 3) := by decide +kernel
theorem dX0_walk_94 : decode cX0_walk 94 = .ok (.getfield 85, 3) := by decide +kernel
theorem dX0_walk_97 : decode cX0_walk 97 = .ok (.iload 5, 2) := by decide +kernel
theorem dX0_walk_99 : decode cX0_walk 99 = .ok (.invokevirtual 103, 3) := by decide +kernel
theorem dX0_walk_102 : decode cX0_walk 102 = .ok (.checkcast 27, 3) := by decide +kernel
theorem dX0_walk_105 : decode cX0_walk 105 = .ok (.invokevirtual 111, 3) := by decide +kernel
theorem dX0_walk_108 : decode cX0_walk 108 = .ok (.iconst 1, 1) := by decide +kernel
theorem dX0_walk_109 : decode cX0_walk 109 = .ok (.if_icmp .ne 7, 3) := by decide +kernel
theorem dX0_walk_112 : decode cX0_walk 112 = .ok (.iconst 1, 1) := by decide +kernel
theorem dX0_walk_113 : decode cX0_walk 113 = .ok (.goto 4, 3) := by decide +kernel
theorem dX0_walk_116 : decode cX0_walk 116 = .ok (.iconst 0, 1) := by decide +kernel
theorem dX0_walk_117 : decode cX0_walk 117 = .ok (.ior, 1) := by decide +kernel
theorem dX0_walk_118 : decode cX0_walk 118 = .ok (.bastore, 1) := by decide +kernel
theorem dX0_walk_119 : decode cX0_walk 119 = .ok (.iinc 5 1, 3) := by decide +kernel
theorem dX0_walk_122 : decode cX0_walk 122 = .ok (.goto (-73), 3) := by decide +kernel
theorem dX0_walk_125 : decode cX0_walk 125 = .ok (.aload_n 0, 1) := by decide +kernel
theorem dX0_walk_126 : decode cX0_walk 126 = .ok (.getfield 29, 3) := by decide +kernel
theorem dX0_walk_129 : decode cX0_walk 129 = .ok (.iload_n 3, 1) := by decide +kernel
theorem dX0_walk_130 : decode cX0_walk 130 = .ok (.aaload, 1) := by decide +kernel
theorem dX0_walk_131 : decode cX0_walk 131 = .ok (.astore 5, 2) := by decide +kernel
theorem dX0_walk_133 : decode cX0_walk 133 = .ok (.aload 5, 2) := by decide +kernel
theorem dX0_walk_135 : decode cX0_walk 135 = .ok (.instanceof 177, 3) := by decide +kernel
theorem dX0_walk_138 : decode cX0_walk 138 = .ok (.ifCond .eq 22, 3) := by decide +kernel
theorem dX0_walk_141 : decode cX0_walk 141 = .ok (.aload 5, 2) := by decide +kernel
theorem dX0_walk_143 : decode cX0_walk 143 = .ok (.checkcast 177, 3) := by decide +kernel
theorem dX0_walk_146 : decode cX0_walk 146 = .ok (.astore 4, 2) := by decide +kernel
theorem dX0_walk_148 : decode cX0_walk 148 = .ok (.iload_n 2, 1) := by decide +kernel
theorem dX0_walk_149 : decode cX0_walk 149 = .ok (.aload 4, 2) := by decide +kernel
theorem dX0_walk_151 : decode cX0_walk 151 = .ok (.getfield 217, 3) := by decide +kernel
theorem dX0_walk_154 : decode cX0_walk 154 = .ok (.iconst 1, 1) := by decide +kernel
theorem dX0_walk_155 : decode cX0_walk 155 = .ok (.iadd, 1) := by decide +kernel
theorem dX0_walk_156 : decode cX0_walk 156 = .ok (.invokestatic 211, 3) := by decide +kernel
theorem dX0_walk_159 : decode cX0_walk 159 = .ok (.istore_n 2, 1) := by decide +kernel
theorem dX0_walk_160 : decode cX0_walk 160 = .ok (.iinc 3 1, 3) := by decide +kernel
theorem dX0_walk_163 : decode cX0_walk 163 = .ok (.goto (-152), 3) := by decide +kernel
theorem dX0_walk_166 : decode cX0_walk 166 = .ok (.aload_n 0, 1) := by decide +kernel
theorem dX0_walk_167 : decode cX0_walk 167 = .ok (.invokevirtual 220, 3) := by decide +kernel
theorem dX0_walk_170 : decode cX0_walk 170 = .ok (.aload_n 0, 1) := by decide +kernel
theorem dX0_walk_171 : decode cX0_walk 171 = .ok (.getfield 205, 3) := by decide +kernel
theorem dX0_walk_174 : decode cX0_walk 174 = .ok (.istore_n 2, 1) := by decide +kernel
theorem dX0_walk_175 : decode cX0_walk 175 = .ok (.iconst 0, 1) := by decide +kernel
theorem dX0_walk_176 : decode cX0_walk 176 = .ok (.istore_n 3, 1) := by decide +kernel
theorem dX0_walk_177 : decode cX0_walk 177 = .ok (.iload_n 3, 1) := by decide +kernel
theorem dX0_walk_178 : decode cX0_walk 178 = .ok (.iload_n 2, 1) := by decide +kernel
theorem dX0_walk_179 : decode cX0_walk 179 = .ok (.if_icmp .ge 20, 3) := by decide +kernel
theorem dX0_walk_182 : decode cX0_walk 182 = .ok (.aload_n 0, 1) := by decide +kernel
theorem dX0_walk_183 : decode cX0_walk 183 = .ok (.aload_n 1, 1) := by decide +kernel
theorem dX0_walk_184 : decode cX0_walk 184 = .ok (.aload_n 0, 1) := by decide +kernel
theorem dX0_walk_185 : decode cX0_walk 185 = .ok (.getfield 29, 3) := by decide +kernel
theorem dX0_walk_188 : decode cX0_walk 188 = .ok (.iload_n 3, 1) := by decide +kernel
theorem dX0_walk_189 : decode cX0_walk 189 = .ok (.aaload, 1) := by decide +kernel
theorem dX0_walk_190 : decode cX0_walk 190 = .ok (.invokevirtual 223, 3) := by decide +kernel
theorem dX0_walk_193 : decode cX0_walk 193 = .ok (.iinc 3 1, 3) := by decide +kernel
theorem dX0_walk_196 : decode cX0_walk 196 = .ok (.goto (-19), 3) := by decide +kernel
theorem dX0_walk_199 : decode cX0_walk 199 = .ok (.aload_n 0, 1) := by decide +kernel
theorem dX0_walk_200 : decode cX0_walk 200 = .ok (.invokevirtual 220, 3) := by decide +kernel
theorem dX0_walk_203 : decode cX0_walk 203 = .ok (.return_, 1) := by decide +kernel
def c_X0_walk_177 : Nat → MEM → Int → Int → Int → Int → Option zc_O
  | 0, _, _, _, _, _ => none
  | n + 1, μ, x0, x1, x2, x3 => if x2 ≤ x3 then (ck (zt [1] (μ x0 (-1)) = true) (bc (c_X0_goesOn μ x0) (fun _ μ2 => some (0, 0, μ2)))) else (ck (zt [1] (μ x0 (-1)) = true) (ck (zt [35] (μ (μ x0 4) (-1)) = true) (ck ((0 : Int) ≤ x3 ∧ x3 < μ (μ x0 4) (-2)) (bc (c_X0_leads μ x0 x1 (μ (μ x0 4) x3)) (fun _ μ6 => ck (inR (x3 + 1)) (c_X0_walk_177 n μ6 x0 x1 x2 (x3 + 1)))))))
theorem u_X0_walk_177 {C : zv_Cx zc_O} {G : zc_G} {μ0 : MEM} (h : zv_Ok C cX0_walk "TreePress") (hc : zc_C C G μ0 7 (Option.none : Option FieldType) 0 77 2926 "walk" []) : ∀ (n : Nat) (μ : MEM) (x0 x1 x2 x3 : Int), inR x2 → inR x3 → VV C (c_X0_walk_177 n μ x0 x1 x2 x3) μ [(0, zc_rv G x0), (1, zc_rv G x1), (2, iv x2), (3, iv x3)] [] 177 := by
  have hN : ∀ i, i < 7 → i < zv_n C := fun i q => by rw [hc.2.1]; exact q
  intro n
  induction n with
  | zero => intros; exact r_none
  | succ n ih =>
    intro μ x0 x1 x2 x3 hx2 hx3
    rw [c_X0_walk_177]
    refine r_iload_n h 3 dX0_walk_177 rfl rfl ?_
    refine r_iload_n h 2 dX0_walk_178 rfl rfl ?_
    refine r_icmp_ge (x := x3) (y := x2) h hx3 hx2 199 dX0_walk_179 rfl ?_ ?_
    · refine c_aload_n (x := x0) h 0 dX0_walk_199 rfl rfl ?_
      refine r_ck (fun ht1 => ?_)
      refine c_callV (x := x0) h hc (As := []) (fun o1 e1 => u_X0_goesOn _ x0 o1 e1) [1] ht1 (by decide) q1358 q1360 (fun t ht => by cases List.mem_singleton.mp ht; exact qs46) q1361 q132 (by omega) (by omega) zc_s0 (by omega) (fun z hz => by cases hz) ⟨by decide, by decide⟩ (n := 0) (by decide +kernel) rfl rfl dX0_walk_200 (fun _ μ2 _ => r_k0 ?_)
      exact c_vret h hc rfl dX0_walk_203
    · refine c_aload_n (x := x0) h 0 dX0_walk_182 rfl rfl ?_
      refine c_aload_n (x := x1) h 1 dX0_walk_183 rfl rfl ?_
      refine c_aload_n (x := x0) h 0 dX0_walk_184 rfl rfl ?_
      refine r_ck (fun ht3 => ?_)
      refine c_getR (fin := true) h hc [1] 4 (zc_lk1 h q209) ht3 (by decide) dX0_walk_185 ?_
      refine r_iload_n h 3 dX0_walk_188 rfl rfl ?_
      refine r_ck (fun ht4 => ?_)
      refine c_ldR35 h hc ht4 dX0_walk_189 (fun _ => ?_)
      refine c_callV (x := x0) h hc (As := [zc_rv G x1, zc_rv G (μ (μ x0 4) x3)]) (fun o1 e1 => u_X0_leads _ x0 x1 (μ (μ x0 4) x3) o1 e1) [1] ht3 (by decide) q1362 q1364 (fun t ht => by cases List.mem_singleton.mp ht; exact qs47) q1365 q132 (by omega) (by omega) zc_s0 (by omega) (fun z hz => by cases hz) ⟨by decide, by decide⟩ (n := 2) (by decide +kernel) rfl rfl dX0_walk_190 (fun _ μ6 _ => r_k0 ?_)
      refine r_iinc (lv' := [(3, iv (x3 + 1)), (0, zc_rv G x0), (1, zc_rv G x1), (2, iv x2)]) h 3 dX0_walk_193 rfl (hN _ (by decide)) rfl ?_
      refine r_goto h 177 dX0_walk_196 rfl ?_
      refine r_ck (fun hk7 => ?_)
      exact r_lv [1, 2, 3, 0] rfl (ih _ x0 x1 x2 (x3 + 1) hx2 hk7)
def c_X0_walk_125 (lp11 : MEM → Int → Int → Int → Int → Option zc_O) (μ : MEM) (x0 x1 x2 x3 : Int) : Option zc_O := ck (zt [1] (μ x0 (-1)) = true) (ck (zt [35] (μ (μ x0 4) (-1)) = true) (ck ((0 : Int) ≤ x3 ∧ x3 < μ (μ x0 4) (-2)) (ck (zt [6, 11, 13, 14] (μ (μ (μ x0 4) x3) (-1)) = true) (if (zi [6, 11] (μ (μ (μ x0 4) x3) (-1))) = 0 then (ck (inR (x3 + 1)) (lp11 μ x0 x1 x2 (x3 + 1))) else (ck (zt [6, 11] (μ (μ (μ x0 4) x3) (-1)) = true) (ck (inR ((μ (μ (μ x0 4) x3) 3) + 1)) (ck (inR (x3 + 1)) (lp11 μ x0 x1 (zmax x2 ((μ (μ (μ x0 4) x3) 3) + 1)) (x3 + 1)))))))))
theorem u_X0_walk_125 {C : zv_Cx zc_O} {G : zc_G} {μ0 : MEM} (h : zv_Ok C cX0_walk "TreePress") (hc : zc_C C G μ0 7 (Option.none : Option FieldType) 0 77 2926 "walk" []) (lp11 : MEM → Int → Int → Int → Int → Option zc_O) (hlp11 : ∀ (μ : MEM) (x0 x1 x2 x3 : Int), inR x2 → inR x3 → VV C (lp11 μ x0 x1 x2 x3) μ [(0, zc_rv G x0), (1, zc_rv G x1), (2, iv x2), (3, iv x3)] [] 11) (μ : MEM) (x0 x1 x2 x3 : Int) (hx2 : inR x2) (hx3 : inR x3) : VV C (c_X0_walk_125 lp11 μ x0 x1 x2 x3) μ [(0, zc_rv G x0), (1, zc_rv G x1), (2, iv x2), (3, iv x3)] [] 125 := by
  have hN : ∀ i, i < 7 → i < zv_n C := fun i q => by rw [hc.2.1]; exact q
  unfold c_X0_walk_125
  refine c_aload_n (x := x0) h 0 dX0_walk_125 rfl rfl ?_
  refine r_ck (fun ht1 => ?_)
  refine c_getR (fin := true) h hc [1] 4 (zc_lk1 h q209) ht1 (by decide) dX0_walk_126 ?_
  refine r_iload_n h 3 dX0_walk_129 rfl rfl ?_
  refine r_ck (fun ht2 => ?_)
  refine c_ldR35 h hc ht2 dX0_walk_130 (fun _ => ?_)
  refine c_astore (lv' := [(5, zc_rv G (μ (μ x0 4) x3)), (0, zc_rv G x0), (1, zc_rv G x1), (2, iv x2), (3, iv x3)]) h dX0_walk_131 (hN _ (by decide)) rfl ?_
  refine c_aload (x := (μ (μ x0 4) x3)) h 0 dX0_walk_133 rfl ?_
  refine r_ck (fun ht4 => ?_)
  refine c_inst h hc [6, 11, 13, 14] [6, 11] q1357 ht4 (by decide) dX0_walk_135 ?_
  refine r_if_eq (x := (zi [6, 11] (μ (μ (μ x0 4) x3) (-1)))) h ((zi_B _ _)).r 160 dX0_walk_138 rfl ?_ ?_
  · refine r_iinc (lv' := [(3, iv (x3 + 1)), (5, zc_rv G (μ (μ x0 4) x3)), (0, zc_rv G x0), (1, zc_rv G x1), (2, iv x2)]) h 4 dX0_walk_160 rfl (hN _ (by decide)) rfl ?_
    refine r_goto h 11 dX0_walk_163 rfl ?_
    refine r_ck (fun hk5 => ?_)
    exact r_lv [2, 3, 4, 0] rfl (hlp11 _ x0 x1 x2 (x3 + 1) hx2 hk5)
  · refine c_aload (x := (μ (μ x0 4) x3)) h 0 dX0_walk_141 rfl ?_
    refine r_ck (fun ht6 => ?_)
    refine c_cast h hc [6, 11] q1357 ht6 (by decide) dX0_walk_143 ?_
    refine c_astore (lv' := [(4, zc_rv G (μ (μ x0 4) x3)), (5, zc_rv G (μ (μ x0 4) x3)), (0, zc_rv G x0), (1, zc_rv G x1), (2, iv x2), (3, iv x3)]) h dX0_walk_146 (hN _ (by decide)) rfl ?_
    refine r_iload_n h 4 dX0_walk_148 rfl rfl ?_
    refine c_aload (x := (μ (μ x0 4) x3)) h 0 dX0_walk_149 rfl ?_
    refine c_getI (fin := false) h hc [6, 11] 3 (zc_lk1 h q316) ht6 (by decide) dX0_walk_151 (fun hr7 => ?_)
    refine r_iconst h dX0_walk_154 ?_
    refine r_iadd h dX0_walk_155 ?_
    refine r_ck (fun hk8 => ?_)
    refine c_mmax (x := x2) (y := ((μ (μ (μ x0 4) x3) 3) + 1)) h hc hx2 hk8 q1356 (by omega) zc_s0 (by omega) dX0_walk_156 ?_
    refine r_istore_n (i := 2) (lv' := [(2, iv (zmax x2 ((μ (μ (μ x0 4) x3) 3) + 1))), (4, zc_rv G (μ (μ x0 4) x3)), (5, zc_rv G (μ (μ x0 4) x3)), (0, zc_rv G x0), (1, zc_rv G x1), (3, iv x3)]) h dX0_walk_159 rfl (hN _ (by decide)) (by simp [zc_rv_cat]) ?_
    refine r_iinc (lv' := [(3, iv (x3 + 1)), (2, iv (zmax x2 ((μ (μ (μ x0 4) x3) 3) + 1))), (4, zc_rv G (μ (μ x0 4) x3)), (5, zc_rv G (μ (μ x0 4) x3)), (0, zc_rv G x0), (1, zc_rv G x1)]) h 5 dX0_walk_160 rfl (hN _ (by decide)) rfl ?_
    refine r_goto h 11 dX0_walk_163 rfl ?_
    refine r_ck (fun hk9 => ?_)
    exact r_lv [4, 5, 1, 0] rfl (hlp11 _ x0 x1 (zmax x2 ((μ (μ (μ x0 4) x3) 3) + 1)) (x3 + 1) (zmax_r hx2 hk8) hk9)
def c_X0_walk_49 (lp11 : MEM → Int → Int → Int → Int → Option zc_O) : Nat → MEM → Int → Int → Int → Int → Int → Option zc_O
  | 0, _, _, _, _, _, _ => none
  | n + 1, μ, x0, x1, x2, x3, x5 => ck (zt [1] (μ x0 (-1)) = true) (ck (zt [35] (μ (μ x0 4) (-1)) = true) (ck ((0 : Int) ≤ x3 ∧ x3 < μ (μ x0 4) (-2)) (ck (zt [6, 11, 13, 14] (μ (μ (μ x0 4) x3) (-1)) = true) (if (zi [6, 11] (μ (μ (μ x0 4) x3) (-1))) = 0 then (c_X0_walk_125 lp11 μ x0 x1 x2 x3) else (ck (zt [6, 11] (μ (μ (μ x0 4) x3) (-1)) = true) (if (μ (μ (μ x0 4) x3) 3) < x5 then (c_X0_walk_125 lp11 μ x0 x1 x2 x3) else (ck (zt [32] (μ (μ x0 7) (-1)) = true) (ck ((0 : Int) ≤ x5 ∧ x5 < μ (μ x0 7) (-2)) (ck (zt [4] (μ (μ x0 3) (-1)) = true) (ck (zt [40] (μ (μ (μ x0 3) 1) (-1)) = true) (bc (b_lget μ (μ (μ x0 3) 1) x5) (fun r11 μ12 => ck (zt [6, 11, 13, 14] (μ12 r11 (-1)) = true) (bc (dv_kind μ12 r11) (fun r15 μ16 => if r15 = 1 then (ck (zt [32] (μ16 (μ x0 7) (-1)) = true) (ck ((0 : Int) ≤ x5 ∧ x5 < μ16 (μ x0 7) (-2)) (nu (mup μ16 (μ x0 7) x5 (i_or (μ (μ x0 7) x5) 1)) (fun μ19 => ck (inR (x5 + 1)) (c_X0_walk_49 lp11 n μ19 x0 x1 x2 x3 (x5 + 1)))))) else (ck (zt [32] (μ16 (μ x0 7) (-1)) = true) (ck ((0 : Int) ≤ x5 ∧ x5 < μ16 (μ x0 7) (-2)) (nu (mup μ16 (μ x0 7) x5 (i_or (μ (μ x0 7) x5) 0)) (fun μ24 => ck (inR (x5 + 1)) (c_X0_walk_49 lp11 n μ24 x0 x1 x2 x3 (x5 + 1))))))))))))))))))))
theorem u_X0_walk_49 {C : zv_Cx zc_O} {G : zc_G} {μ0 : MEM} (h : zv_Ok C cX0_walk "TreePress") (hc : zc_C C G μ0 7 (Option.none : Option FieldType) 0 77 2926 "walk" []) (lp11 : MEM → Int → Int → Int → Int → Option zc_O) (hlp11 : ∀ (μ : MEM) (x0 x1 x2 x3 : Int), inR x2 → inR x3 → VV C (lp11 μ x0 x1 x2 x3) μ [(0, zc_rv G x0), (1, zc_rv G x1), (2, iv x2), (3, iv x3)] [] 11) : ∀ (n : Nat) (μ : MEM) (x0 x1 x2 x3 x5 : Int), inR x2 → inR x3 → inR x5 → VV C (c_X0_walk_49 lp11 n μ x0 x1 x2 x3 x5) μ [(0, zc_rv G x0), (1, zc_rv G x1), (2, iv x2), (3, iv x3), (5, iv x5)] [] 49 := by
  have hN : ∀ i, i < 7 → i < zv_n C := fun i q => by rw [hc.2.1]; exact q
  intro n
  induction n with
  | zero => intros; exact r_none
  | succ n ih =>
    intro μ x0 x1 x2 x3 x5 hx2 hx3 hx5
    rw [c_X0_walk_49]
    refine c_aload_n (x := x0) h 0 dX0_walk_49 rfl rfl ?_
    refine r_ck (fun ht1 => ?_)
    refine c_getR (fin := true) h hc [1] 4 (zc_lk1 h q209) ht1 (by decide) dX0_walk_50 ?_
    refine r_iload_n h 3 dX0_walk_53 rfl rfl ?_
    refine r_ck (fun ht2 => ?_)
    refine c_ldR35 h hc ht2 dX0_walk_54 (fun _ => ?_)
    refine c_astore (lv' := [(6, zc_rv G (μ (μ x0 4) x3)), (0, zc_rv G x0), (1, zc_rv G x1), (2, iv x2), (3, iv x3), (5, iv x5)]) h dX0_walk_55 (hN _ (by decide)) rfl ?_
    refine c_aload (x := (μ (μ x0 4) x3)) h 0 dX0_walk_57 rfl ?_
    refine r_ck (fun ht4 => ?_)
    refine c_inst h hc [6, 11, 13, 14] [6, 11] q1357 ht4 (by decide) dX0_walk_59 ?_
    refine r_if_eq (x := (zi [6, 11] (μ (μ (μ x0 4) x3) (-1)))) h ((zi_B _ _)).r 125 dX0_walk_62 rfl ?_ ?_
    · exact r_lv [1, 2, 3, 4] rfl (u_X0_walk_125 h hc lp11 hlp11 _ x0 x1 x2 x3 hx2 hx3)
    · refine c_aload (x := (μ (μ x0 4) x3)) h 0 dX0_walk_65 rfl ?_
      refine r_ck (fun ht5 => ?_)
      refine c_cast h hc [6, 11] q1357 ht5 (by decide) dX0_walk_67 ?_
      refine c_astore (lv' := [(4, zc_rv G (μ (μ x0 4) x3)), (6, zc_rv G (μ (μ x0 4) x3)), (0, zc_rv G x0), (1, zc_rv G x1), (2, iv x2), (3, iv x3), (5, iv x5)]) h dX0_walk_70 (hN _ (by decide)) rfl ?_
      refine r_iload h 6 dX0_walk_72 rfl ?_
      refine c_aload (x := (μ (μ x0 4) x3)) h 0 dX0_walk_74 rfl ?_
      refine c_getI (fin := false) h hc [6, 11] 3 (zc_lk1 h q316) ht5 (by decide) dX0_walk_76 (fun hr6 => ?_)
      refine r_icmp_gt (x := x5) (y := (μ (μ (μ x0 4) x3) 3)) h hx5 hr6 125 dX0_walk_79 rfl ?_ ?_
      · exact r_lv [2, 3, 4, 5] rfl (u_X0_walk_125 h hc lp11 hlp11 _ x0 x1 x2 x3 hx2 hx3)
      · refine c_aload_n (x := x0) h 2 dX0_walk_82 rfl rfl ?_
        refine c_getR (fin := true) h hc [1] 7 (zc_lk1 h q212) ht1 (by decide) dX0_walk_83 ?_
        refine r_iload h 6 dX0_walk_86 rfl ?_
        refine r_dup2 h dX0_walk_88 (iv_cat _) (zc_rv_cat G _) ?_
        refine r_ck (fun ht7 => ?_)
        refine c_ldZ h hc ht7 dX0_walk_89 (fun _ hr8 => ?_)
        refine c_aload_n (x := x0) h 2 dX0_walk_90 rfl rfl ?_
        refine c_getR (fin := false) h hc [1] 3 (zc_lk1 h q208) ht1 (by decide) dX0_walk_91 ?_
        refine r_ck (fun ht9 => ?_)
        refine c_getR (fin := true) h hc [4] 1 (zc_lk3 hc (O := "TreePress$Document") (n := "nodes") (ds := "Ljava/util/ArrayList;") (host := "TreePress") (by decide)) ht9 (by decide) dX0_walk_94 ?_
        refine r_iload h 6 dX0_walk_97 rfl ?_
        refine r_ck (fun ht10 => ?_)
        refine c_callV (x := (μ (μ x0 3) 1)) h hc (As := [iv x5]) (fun o1 e1 => w_lget _ (μ (μ x0 3) 1) x5 hx5 o1 e1) [40] ht10 (by decide) q1146 q844 (fun t ht => by cases List.mem_singleton.mp ht; exact q845) q846 q135 (by omega) (by omega) (zc_sc (iv_cat _) (zc_sc (iv_cat _) (zc_sc (zc_rv_cat G _) zc_s0))) (by omega) (fun z hz => by cases hz) ⟨by decide, by decide⟩ (n := 1) (by decide +kernel) rfl rfl dX0_walk_99 (fun r11 μ12 hr13 => r_k4 ?_)
        refine r_ck (fun ht14 => ?_)
        refine c_cast h hc [6, 11, 13, 14] q175 ht14 (by decide) dX0_walk_102 ?_
        refine cd_kind (x := r11)  h hc (hM := dm_kind) ht14 q1147 (by omega) (by omega) (zc_sc (iv_cat _) (zc_sc (iv_cat _) (zc_sc (zc_rv_cat G _) zc_s0))) (by omega) (fun z hz => by cases hz) dX0_walk_105 (fun r15 μ16 hr17 => r_k1 ?_)
        refine r_iconst h dX0_walk_108 ?_
        refine r_icmp_ne (x := r15) (y := 1) h hr17 (by decide) 116 dX0_walk_109 rfl ?_ ?_
        · refine r_iconst h dX0_walk_112 ?_
          refine r_goto h 117 dX0_walk_113 rfl ?_
          refine r_ior h dX0_walk_117 ?_
          refine r_ck (fun ht18 => ?_)
          refine c_stZ (x := (μ x0 7)) (y := x5) (z := (i_or (μ (μ x0 7) x5) 1)) h hc ht18 (i_or_B hr8 (by decide)) dX0_walk_118 (fun hb21 μ19 he20 => ?_)
          refine r_iinc (lv' := [(5, iv (x5 + 1)), (4, zc_rv G (μ (μ x0 4) x3)), (6, zc_rv G (μ (μ x0 4) x3)), (0, zc_rv G x0), (1, zc_rv G x1), (2, iv x2), (3, iv x3)]) h 6 dX0_walk_119 rfl (hN _ (by decide)) (by simp [zc_rv_cat]) ?_
          refine r_goto h 49 dX0_walk_122 rfl ?_
          refine r_ck (fun hk22 => ?_)
          exact r_lv [3, 4, 5, 6, 0] rfl (ih _ x0 x1 x2 x3 (x5 + 1) hx2 hx3 hk22)
        · refine r_iconst h dX0_walk_116 ?_
          refine r_ior h dX0_walk_117 ?_
          refine r_ck (fun ht23 => ?_)
          refine c_stZ (x := (μ x0 7)) (y := x5) (z := (i_or (μ (μ x0 7) x5) 0)) h hc ht23 (i_or_B hr8 (by decide)) dX0_walk_118 (fun hb26 μ24 he25 => ?_)
          refine r_iinc (lv' := [(5, iv (x5 + 1)), (4, zc_rv G (μ (μ x0 4) x3)), (6, zc_rv G (μ (μ x0 4) x3)), (0, zc_rv G x0), (1, zc_rv G x1), (2, iv x2), (3, iv x3)]) h 6 dX0_walk_119 rfl (hN _ (by decide)) (by simp [zc_rv_cat]) ?_
          refine r_goto h 49 dX0_walk_122 rfl ?_
          refine r_ck (fun hk27 => ?_)
          exact r_lv [3, 4, 5, 6, 0] rfl (ih _ x0 x1 x2 x3 (x5 + 1) hx2 hx3 hk27)
def c_X0_walk_11 : Nat → MEM → Int → Int → Int → Int → Option zc_O
  | 0, _, _, _, _, _ => none
  | n + 1, μ, x0, x1, x2, x3 => ck (zt [1] (μ x0 (-1)) = true) (if (μ x0 8) ≤ x3 then (bc (c_X0_goesOn μ x0) (fun _ μ3 => ck (zt [1] (μ3 x0 (-1)) = true) (c_X0_walk_177 zF μ3 x0 x1 (μ3 x0 8) 0))) else (ck (zt [35] (μ (μ x0 4) (-1)) = true) (ck ((0 : Int) ≤ x3 ∧ x3 < μ (μ x0 4) (-2)) (ck (zt [6, 11, 13, 14] (μ (μ (μ x0 4) x3) (-1)) = true) (ck (zt [32] (μ (μ x0 7) (-1)) = true) (ck ((0 : Int) ≤ (μ (μ (μ x0 4) x3) 0) ∧ (μ (μ (μ x0 4) x3) 0) < μ (μ x0 7) (-2)) (nu (mup μ (μ x0 7) (μ (μ (μ x0 4) x3) 0) 1) (fun μ11 => ck (zt [35] (μ11 (μ11 x0 4) (-1)) = true) (ck ((0 : Int) ≤ x3 ∧ x3 < μ11 (μ11 x0 4) (-2)) (ck (zt [6, 11, 13, 14] (μ11 (μ11 (μ11 x0 4) x3) (-1)) = true) (c_X0_walk_49 (c_X0_walk_11 n) zF μ11 x0 x1 x2 x3 (zmax x2 (μ11 (μ11 (μ11 x0 4) x3) 0)))))))))))))
theorem u_X0_walk_11 {C : zv_Cx zc_O} {G : zc_G} {μ0 : MEM} (h : zv_Ok C cX0_walk "TreePress") (hc : zc_C C G μ0 7 (Option.none : Option FieldType) 0 77 2926 "walk" []) : ∀ (n : Nat) (μ : MEM) (x0 x1 x2 x3 : Int), inR x2 → inR x3 → VV C (c_X0_walk_11 n μ x0 x1 x2 x3) μ [(0, zc_rv G x0), (1, zc_rv G x1), (2, iv x2), (3, iv x3)] [] 11 := by
  have hN : ∀ i, i < 7 → i < zv_n C := fun i q => by rw [hc.2.1]; exact q
  intro n
  induction n with
  | zero => intros; exact r_none
  | succ n ih =>
    intro μ x0 x1 x2 x3 hx2 hx3
    rw [c_X0_walk_11]
    refine r_iload_n h 3 dX0_walk_11 rfl rfl ?_
    refine c_aload_n (x := x0) h 0 dX0_walk_12 rfl rfl ?_
    refine r_ck (fun ht1 => ?_)
    refine c_getI (fin := false) h hc [1] 8 (zc_lk1 h q213) ht1 (by decide) dX0_walk_13 (fun hr2 => ?_)
    refine r_icmp_ge (x := x3) (y := (μ x0 8)) h hx3 hr2 166 dX0_walk_16 rfl ?_ ?_
    · refine c_aload_n (x := x0) h 0 dX0_walk_166 rfl rfl ?_
      refine c_callV (x := x0) h hc (As := []) (fun o1 e1 => u_X0_goesOn _ x0 o1 e1) [1] ht1 (by decide) q1358 q1360 (fun t ht => by cases List.mem_singleton.mp ht; exact qs46) q1361 q132 (by omega) (by omega) zc_s0 (by omega) (fun z hz => by cases hz) ⟨by decide, by decide⟩ (n := 0) (by decide +kernel) rfl rfl dX0_walk_167 (fun _ μ3 _ => r_k0 ?_)
      refine c_aload_n (x := x0) h 0 dX0_walk_170 rfl rfl ?_
      refine r_ck (fun ht4 => ?_)
      refine c_getI (fin := false) h hc [1] 8 (zc_lk1 h q213) ht4 (by decide) dX0_walk_171 (fun hr5 => ?_)
      refine r_istore_n (i := 2) (lv' := [(2, iv (μ3 x0 8)), (0, zc_rv G x0), (1, zc_rv G x1), (3, iv x3)]) h dX0_walk_174 rfl (hN _ (by decide)) (by simp [zc_rv_cat]) ?_
      refine r_iconst h dX0_walk_175 ?_
      refine r_istore_n (i := 3) (lv' := [(3, iv 0), (2, iv (μ3 x0 8)), (0, zc_rv G x0), (1, zc_rv G x1)]) h dX0_walk_176 rfl (hN _ (by decide)) rfl ?_
      exact r_lv [2, 3, 1, 0] rfl (u_X0_walk_177 h hc zF _ x0 x1 (μ3 x0 8) 0 hr5 (by decide))
    · refine c_aload_n (x := x0) h 0 dX0_walk_19 rfl rfl ?_
      refine c_getR (fin := true) h hc [1] 7 (zc_lk1 h q212) ht1 (by decide) dX0_walk_20 ?_
      refine c_aload_n (x := x0) h 0 dX0_walk_23 rfl rfl ?_
      refine c_getR (fin := true) h hc [1] 4 (zc_lk1 h q209) ht1 (by decide) dX0_walk_24 ?_
      refine r_iload_n h 3 dX0_walk_27 rfl rfl ?_
      refine r_ck (fun ht6 => ?_)
      refine c_ldR35 h hc ht6 dX0_walk_28 (fun _ => ?_)
      refine r_ck (fun ht8 => ?_)
      refine c_getI (fin := false) h hc [6, 11, 13, 14] 0 (zc_lk1 h q324) ht8 (by decide) dX0_walk_29 (fun hr9 => ?_)
      refine r_iconst h dX0_walk_32 ?_
      refine r_ck (fun ht10 => ?_)
      refine c_stZ (x := (μ x0 7)) (y := (μ (μ (μ x0 4) x3) 0)) (z := 1) h hc ht10 (by decide) dX0_walk_33 (fun hb13 μ11 he12 => ?_)
      refine r_iload_n h 2 dX0_walk_34 rfl rfl ?_
      refine c_aload_n (x := x0) h 0 dX0_walk_35 rfl rfl ?_
      refine c_getR (fin := true) h hc [1] 4 (zc_lk1 h q209) (zt_mup he12 hb13.1 ht1) (by decide) dX0_walk_36 ?_
      refine r_iload_n h 3 dX0_walk_39 rfl rfl ?_
      refine r_ck (fun ht14 => ?_)
      refine c_ldR35 h hc ht14 dX0_walk_40 (fun _ => ?_)
      refine r_ck (fun ht16 => ?_)
      refine c_getI (fin := false) h hc [6, 11, 13, 14] 0 (zc_lk1 h q324) ht16 (by decide) dX0_walk_41 (fun hr17 => ?_)
      refine c_mmax (x := x2) (y := (μ11 (μ11 (μ11 x0 4) x3) 0)) h hc hx2 hr17 q1356 (by omega) zc_s0 (by omega) dX0_walk_44 ?_
      refine r_istore (lv' := [(5, iv (zmax x2 (μ11 (μ11 (μ11 x0 4) x3) 0))), (0, zc_rv G x0), (1, zc_rv G x1), (2, iv x2), (3, iv x3)]) h dX0_walk_47 (hN _ (by decide)) rfl ?_
      exact r_lv [1, 2, 3, 4, 0] rfl (u_X0_walk_49 h hc (c_X0_walk_11 n) ih zF _ x0 x1 x2 x3 (zmax x2 (μ11 (μ11 (μ11 x0 4) x3) 0)) hx2 hx3 (zmax_r hx2 hr17))
def c_X0_walk (μ : MEM) (a0 a1 : Int) : Option zc_O := ck (zt [16] (μ a1 (-1)) = true) (if (μ a1 1) = 0 then (ck (zt [1] (μ a0 (-1)) = true) (c_X0_walk_177 zF μ a0 a1 (μ a0 8) 0)) else (c_X0_walk_11 zF μ a0 a1 0 0))
theorem u_X0_walk {G : zc_G} (μ : MEM) (a0 a1 : Int) (o : zc_O) (hd : c_X0_walk μ a0 a1 = some o) : zc_Met G yX0_walk cX0_walk 7 (Option.none : Option FieldType) 0 77 2926 μ [zc_rv G a0, zc_rv G a1] o := by
  refine zc_intro hd (by decide) (by simp [lg_sl, zc_rv_cat, iv_cat, jv_cat]) (lv := [(0, zc_rv G a0), (1, zc_rv G a1)]) (by simp [lv_args, zc_rv_cat, iv_cat, jv_cat]) (fun C h hc => ?_)
  have h : zv_Ok C cX0_walk "TreePress" := h
  have hc : zc_C C G μ 7 (Option.none : Option FieldType) 0 77 2926 "walk" [] := hc
  have hN : ∀ i, i < 7 → i < zv_n C := fun i q => by rw [hc.2.1]; exact q
  unfold c_X0_walk
  refine c_aload_n (x := a1) h 1 dX0_walk_0 rfl rfl ?_
  refine r_ck (fun ht1 => ?_)
  refine c_getZ (fin := false) h hc [16] 1 (zc_lk3 hc (O := "TreePress$Step") (n := "deep") (ds := "Z") (host := "TreePress") (by decide)) ht1 (by decide) dX0_walk_1 (fun hr2 => ?_)
  refine r_if_eq (x := (μ a1 1)) h hr2.r 170 dX0_walk_4 rfl ?_ ?_
  · refine c_aload_n (x := a0) h 0 dX0_walk_170 rfl rfl ?_
    refine r_ck (fun ht3 => ?_)
    refine c_getI (fin := false) h hc [1] 8 (zc_lk1 h q213) ht3 (by decide) dX0_walk_171 (fun hr4 => ?_)
    refine r_istore_n (i := 2) (lv' := [(2, iv (μ a0 8)), (0, zc_rv G a0), (1, zc_rv G a1)]) h dX0_walk_174 rfl (hN _ (by decide)) (by simp [zc_rv_cat]) ?_
    refine r_iconst h dX0_walk_175 ?_
    refine r_istore_n (i := 3) (lv' := [(3, iv 0), (2, iv (μ a0 8)), (0, zc_rv G a0), (1, zc_rv G a1)]) h dX0_walk_176 rfl (hN _ (by decide)) rfl ?_
    exact r_lv [2, 3, 1, 0] rfl (u_X0_walk_177 h hc zF _ a0 a1 (μ a0 8) 0 hr4 (by decide))
  · refine r_iconst h dX0_walk_7 ?_
    refine r_istore_n (i := 2) (lv' := [(2, iv 0), (0, zc_rv G a0), (1, zc_rv G a1)]) h dX0_walk_8 rfl (hN _ (by decide)) (by simp [zc_rv_cat]) ?_
    refine r_iconst h dX0_walk_9 ?_
    refine r_istore_n (i := 3) (lv' := [(3, iv 0), (2, iv 0), (0, zc_rv G a0), (1, zc_rv G a1)]) h dX0_walk_10 rfl (hN _ (by decide)) rfl ?_
    exact r_lv [2, 3, 1, 0] rfl (u_X0_walk_11 h hc zF _ a0 a1 0 0 (by decide) (by decide))
theorem dX0_told_0 : decode cX0_told 0 = .ok (.iload_n 1, 1) := by decide +kernel
theorem dX0_told_1 : decode cX0_told 1 = .ok (.aload_n 0, 1) := by decide +kernel
theorem dX0_told_2 : decode cX0_told 2 = .ok (.getfield 82, 3) := by decide +kernel
theorem dX0_told_5 : decode cX0_told 5 = .ok (.invokestatic 99, 3) := by decide +kernel
theorem dX0_told_8 : decode cX0_told 8 = .ok (.ifCond .eq 15, 3) := by decide +kernel
theorem dX0_told_11 : decode cX0_told 11 = .ok (.aload_n 0, 1) := by decide +kernel
theorem dX0_told_12 : decode cX0_told 12 = .ok (.getfield 36, 3) := by decide +kernel
theorem dX0_told_15 : decode cX0_told 15 = .ok (.iload_n 1, 1) := by decide +kernel
theorem dX0_told_16 : decode cX0_told 16 = .ok (.aaload, 1) := by decide +kernel
theorem dX0_told_17 : decode cX0_told 17 = .ok (.getfield 117, 3) := by decide +kernel
theorem dX0_told_20 : decode cX0_told 20 = .ok (.goto 4, 3) := by decide +kernel
theorem dX0_told_23 : decode cX0_told 23 = .ok (.iconst (-1), 1) := by decide +kernel
theorem dX0_told_24 : decode cX0_told 24 = .ok (.ireturn, 1) := by decide +kernel
def c_X0_told (μ : MEM) (a0 a1 : Int) : Option zc_O := ck (zt [1] (μ a0 (-1)) = true) (bc (c_X0_isIn μ a1 (μ a0 10)) (fun r3 μ4 => if r3 = 0 then (some (0, (-1), μ4)) else (ck (zt [1] (μ4 a0 (-1)) = true) (ck (zt [35] (μ4 (μ4 a0 6) (-1)) = true) (ck ((0 : Int) ≤ a1 ∧ a1 < μ4 (μ4 a0 6) (-2)) (ck (zt [6, 11, 13, 14] (μ4 (μ4 (μ4 a0 6) a1) (-1)) = true) (some (0, (μ4 (μ4 (μ4 a0 6) a1) 0), μ4))))))))
theorem u_X0_told {G : zc_G} (μ : MEM) (a0 a1 : Int) (ha1 : inR a1) (o : zc_O) (hd : c_X0_told μ a0 a1 = some o) : zc_Met G yX0_told cX0_told 2 (Option.some FieldType.int) 1 1 21 μ [zc_rv G a0, iv a1] o := by
  refine zc_intro hd (by decide) (by simp [lg_sl, zc_rv_cat, iv_cat, jv_cat]) (lv := [(0, zc_rv G a0), (1, iv a1)]) (by simp [lv_args, zc_rv_cat, iv_cat, jv_cat]) (fun C h hc => ?_)
  have h : zv_Ok C cX0_told "TreePress" := h
  have hc : zc_C C G μ 2 (Option.some FieldType.int) 1 1 21 "told" [] := hc
  have hN : ∀ i, i < 2 → i < zv_n C := fun i q => by rw [hc.2.1]; exact q
  unfold c_X0_told
  refine r_iload_n h 1 dX0_told_0 rfl rfl ?_
  refine c_aload_n (x := a0) h 0 dX0_told_1 rfl rfl ?_
  refine r_ck (fun ht1 => ?_)
  refine c_getI (fin := false) h hc [1] 10 (zc_lk1 h q215) ht1 (by decide) dX0_told_2 (fun hr2 => ?_)
  refine c_callS h hc (As := [iv a1, iv (μ a0 10)]) (fun o1 e1 => u_X0_isIn _ a1 (μ a0 10) ha1 hr2 o1 e1) q1143 q1144 q1145 q132 (by omega) (by omega) zc_s0 (by omega) (fun z hz => by cases hz) ⟨by decide, by decide⟩ (n := 2) (by decide +kernel) rfl rfl dX0_told_5 (fun r3 μ4 hr5 => r_k3 ?_)
  refine r_if_eq (x := r3) h hr5.r 23 dX0_told_8 rfl ?_ ?_
  · refine r_iconst h dX0_told_23 ?_
    exact c_iret h hc rfl (by decide) dX0_told_24
  · refine c_aload_n (x := a0) h 0 dX0_told_11 rfl rfl ?_
    refine r_ck (fun ht6 => ?_)
    refine c_getR (fin := true) h hc [1] 6 (zc_lk1 h q211) ht6 (by decide) dX0_told_12 ?_
    refine r_iload_n h 1 dX0_told_15 rfl rfl ?_
    refine r_ck (fun ht7 => ?_)
    refine c_ldR35 h hc ht7 dX0_told_16 (fun _ => ?_)
    refine r_ck (fun ht9 => ?_)
    refine c_getI (fin := false) h hc [6, 11, 13, 14] 0 (zc_lk1 h q324) ht9 (by decide) dX0_told_17 (fun hr10 => ?_)
    refine r_goto h 24 dX0_told_20 rfl ?_
    exact c_iret h hc rfl hr10 dX0_told_24
theorem dX0_pages_0 : decode cX0_pages 0 = .ok (.iconst 0, 1) := by decide +kernel
theorem dX0_pages_1 : decode cX0_pages 1 = .ok (.istore_n 2, 1) := by decide +kernel
theorem dX0_pages_2 : decode cX0_pages 2 = .ok (.iconst 0, 1) := by decide +kernel
theorem dX0_pages_3 : decode cX0_pages 3 = .ok (.istore_n 3, 1) := by decide +kernel
theorem dX0_pages_4 : decode cX0_pages 4 = .ok (.iconst 0, 1) := by decide +kernel
theorem dX0_pages_5 : decode cX0_pages 5 = .ok (.istore 4, 2) := by decide +kernel
theorem dX0_pages_7 : decode cX0_pages 7 = .ok (.iconst 0, 1) := by decide +kernel
theorem dX0_pages_8 : decode cX0_pages 8 = .ok (.istore 5, 2) := by decide +kernel
theorem dX0_pages_10 : decode cX0_pages 10 = .ok (.iload 5, 2) := by decide +kernel
theorem dX0_pages_12 : decode cX0_pages 12 = .ok (.aload_n 0, 1) := by decide +kernel
theorem dX0_pages_13 : decode cX0_pages 13 = .ok (.getfield 46, 3) := by decide +kernel
theorem dX0_pages_16 : decode cX0_pages 16 = .ok (.invokevirtual 90, 3) := by decide +kernel
theorem dX0_pages_19 : decode cX0_pages 19 = .ok (.if_icmp .ge 165, 3) := by decide +kernel
theorem dX0_pages_22 : decode cX0_pages 22 = .ok (.iload_n 3, 1) := by decide +kernel
theorem dX0_pages_23 : decode cX0_pages 23 = .ok (.iload_n 1, 1) := by decide +kernel
theorem dX0_pages_24 : decode cX0_pages 24 = .ok (.if_icmp .ne 8, 3) := by decide +kernel
theorem dX0_pages_27 : decode cX0_pages 27 = .ok (.iinc 2 1, 3) := by decide +kernel
theorem dX0_pages_30 : decode cX0_pages 30 = .ok (.iconst 0, 1) := by decide +kernel
theorem dX0_pages_31 : decode cX0_pages 31 = .ok (.istore_n 3, 1) := by decide +kernel
theorem dX0_pages_32 : decode cX0_pages 32 = .ok (.iload 4, 2) := by decide +kernel
theorem dX0_pages_34 : decode cX0_pages 34 = .ok (.aload_n 0, 1) := by decide +kernel
theorem dX0_pages_35 : decode cX0_pages 35 = .ok (.getfield 50, 3) := by decide +kernel
theorem dX0_pages_38 : decode cX0_pages 38 = .ok (.invokevirtual 90, 3) := by decide +kernel
theorem dX0_pages_41 : decode cX0_pages 41 = .ok (.if_icmp .ge 102, 3) := by decide +kernel
theorem dX0_pages_44 : decode cX0_pages 44 = .ok (.aload_n 0, 1) := by decide +kernel
theorem dX0_pages_45 : decode cX0_pages 45 = .ok (.getfield 50, 3) := by decide +kernel
theorem dX0_pages_48 : decode cX0_pages 48 = .ok (.iload 4, 2) := by decide +kernel
theorem dX0_pages_50 : decode cX0_pages 50 = .ok (.invokevirtual 103, 3) := by decide +kernel
theorem dX0_pages_53 : decode cX0_pages 53 = .ok (.checkcast 300, 3) := by decide +kernel
theorem dX0_pages_56 : decode cX0_pages 56 = .ok (.getfield 310, 3) := by decide +kernel
theorem dX0_pages_59 : decode cX0_pages 59 = .ok (.iload 5, 2) := by decide +kernel
theorem dX0_pages_61 : decode cX0_pages 61 = .ok (.if_icmp .gt 82, 3) := by decide +kernel
theorem dX0_pages_64 : decode cX0_pages 64 = .ok (.aload_n 0, 1) := by decide +kernel
theorem dX0_pages_65 : decode cX0_pages 65 = .ok (.getfield 50, 3) := by decide +kernel
theorem dX0_pages_68 : decode cX0_pages 68 = .ok (.iload 4, 2) := by decide +kernel
theorem dX0_pages_70 : decode cX0_pages 70 = .ok (.invokevirtual 103, 3) := by decide +kernel
theorem dX0_pages_73 : decode cX0_pages 73 = .ok (.checkcast 300, 3) := by decide +kernel
theorem dX0_pages_76 : decode cX0_pages 76 = .ok (.astore 6, 2) := by decide +kernel
theorem dX0_pages_78 : decode cX0_pages 78 = .ok (.aload 6, 2) := by decide +kernel
theorem dX0_pages_80 : decode cX0_pages 80 = .ok (.getfield 309, 3) := by decide +kernel
theorem dX0_pages_83 : decode cX0_pages 83 = .ok (.aload 6, 2) := by decide +kernel
theorem dX0_pages_85 : decode cX0_pages 85 = .ok (.getfield 310, 3) := by decide +kernel
theorem dX0_pages_88 : decode cX0_pages 88 = .ok (.isub, 1) := by decide +kernel
theorem dX0_pages_89 : decode cX0_pages 89 = .ok (.istore 7, 2) := by decide +kernel
theorem dX0_pages_91 : decode cX0_pages 91 = .ok (.aload 6, 2) := by decide +kernel
theorem dX0_pages_93 : decode cX0_pages 93 = .ok (.getfield 310, 3) := by decide +kernel
theorem dX0_pages_96 : decode cX0_pages 96 = .ok (.iload 5, 2) := by decide +kernel
theorem dX0_pages_98 : decode cX0_pages 98 = .ok (.if_icmp .lt 39, 3) := by decide +kernel
theorem dX0_pages_101 : decode cX0_pages 101 = .ok (.aload 6, 2) := by decide +kernel
theorem dX0_pages_103 : decode cX0_pages 103 = .ok (.getfield 313, 3) := by decide +kernel
theorem dX0_pages_106 : decode cX0_pages 106 = .ok (.ifCond .eq 31, 3) := by decide +kernel
theorem dX0_pages_109 : decode cX0_pages 109 = .ok (.iload 7, 2) := by decide +kernel
theorem dX0_pages_111 : decode cX0_pages 111 = .ok (.iconst 1, 1) := by decide +kernel
theorem dX0_pages_112 : decode cX0_pages 112 = .ok (.if_icmp .lt 25, 3) := by decide +kernel
theorem dX0_pages_115 : decode cX0_pages 115 = .ok (.iload 7, 2) := by decide +kernel
theorem dX0_pages_117 : decode cX0_pages 117 = .ok (.iload_n 1, 1) := by decide +kernel
theorem dX0_pages_118 : decode cX0_pages 118 = .ok (.if_icmp .gt 19, 3) := by decide +kernel
theorem dX0_pages_121 : decode cX0_pages 121 = .ok (.iload_n 3, 1) := by decide +kernel
theorem dX0_pages_122 : decode cX0_pages 122 = .ok (.iload 7, 2) := by decide +kernel
theorem dX0_pages_124 : decode cX0_pages 124 = .ok (.iadd, 1) := by decide +kernel
theorem dX0_pages_125 : decode cX0_pages 125 = .ok (.iload_n 1, 1) := by decide +kernel
theorem dX0_pages_126 : decode cX0_pages 126 = .ok (.if_icmp .gt 6, 3) := by decide +kernel
theorem dX0_pages_129 : decode cX0_pages 129 = .ok (.goto 8, 3) := by decide +kernel
theorem dX0_pages_132 : decode cX0_pages 132 = .ok (.iinc 2 1, 3) := by decide +kernel
theorem dX0_pages_135 : decode cX0_pages 135 = .ok (.iconst 0, 1) := by decide +kernel
theorem dX0_pages_136 : decode cX0_pages 136 = .ok (.istore_n 3, 1) := by decide +kernel
theorem dX0_pages_137 : decode cX0_pages 137 = .ok (.iinc 4 1, 3) := by decide +kernel
theorem dX0_pages_140 : decode cX0_pages 140 = .ok (.goto (-108), 3) := by decide +kernel
theorem dX0_pages_143 : decode cX0_pages 143 = .ok (.aload_n 0, 1) := by decide +kernel
theorem dX0_pages_144 : decode cX0_pages 144 = .ok (.getfield 46, 3) := by decide +kernel
theorem dX0_pages_147 : decode cX0_pages 147 = .ok (.iload 5, 2) := by decide +kernel
theorem dX0_pages_149 : decode cX0_pages 149 = .ok (.invokevirtual 103, 3) := by decide +kernel
theorem dX0_pages_152 : decode cX0_pages 152 = .ok (.checkcast 252, 3) := by decide +kernel
theorem dX0_pages_155 : decode cX0_pages 155 = .ok (.iload_n 2, 1) := by decide +kernel
theorem dX0_pages_156 : decode cX0_pages 156 = .ok (.putfield 316, 3) := by decide +kernel
theorem dX0_pages_159 : decode cX0_pages 159 = .ok (.aload_n 0, 1) := by decide +kernel
theorem dX0_pages_160 : decode cX0_pages 160 = .ok (.getfield 46, 3) := by decide +kernel
theorem dX0_pages_163 : decode cX0_pages 163 = .ok (.iload 5, 2) := by decide +kernel
theorem dX0_pages_165 : decode cX0_pages 165 = .ok (.invokevirtual 103, 3) := by decide +kernel
theorem dX0_pages_168 : decode cX0_pages 168 = .ok (.checkcast 252, 3) := by decide +kernel
theorem dX0_pages_171 : decode cX0_pages 171 = .ok (.iload_n 3, 1) := by decide +kernel
theorem dX0_pages_172 : decode cX0_pages 172 = .ok (.putfield 319, 3) := by decide +kernel
theorem dX0_pages_175 : decode cX0_pages 175 = .ok (.iinc 3 1, 3) := by decide +kernel
theorem dX0_pages_178 : decode cX0_pages 178 = .ok (.iinc 5 1, 3) := by decide +kernel
theorem dX0_pages_181 : decode cX0_pages 181 = .ok (.goto (-171), 3) := by decide +kernel
theorem dX0_pages_184 : decode cX0_pages 184 = .ok (.return_, 1) := by decide +kernel
def c_X0_pages_143 (lp10 : MEM → Int → Int → Int → Int → Int → Int → Option zc_O) (μ : MEM) (x0 x1 x2 x3 x4 x5 : Int) : Option zc_O := ck (zt [1] (μ x0 (-1)) = true) (ck (zt [40] (μ (μ x0 11) (-1)) = true) (bc (b_lget μ (μ x0 11) x5) (fun r3 μ4 => ck (zt [18] (μ4 r3 (-1)) = true) (nu (mup μ4 r3 2 x2) (fun μ7 => ck (zt [1] (μ7 x0 (-1)) = true) (ck (zt [40] (μ7 (μ7 x0 11) (-1)) = true) (bc (b_lget μ7 (μ7 x0 11) x5) (fun r11 μ12 => ck (zt [18] (μ12 r11 (-1)) = true) (nu (mup μ12 r11 3 x3) (fun μ15 => ck (inR (x3 + 1)) (ck (inR (x5 + 1)) (lp10 μ15 x0 x1 x2 (x3 + 1) x4 (x5 + 1)))))))))))))
theorem u_X0_pages_143 {C : zv_Cx zc_O} {G : zc_G} {μ0 : MEM} (h : zv_Ok C cX0_pages "TreePress") (hc : zc_C C G μ0 8 (Option.none : Option FieldType) 0 3 64 "pages" []) (lp10 : MEM → Int → Int → Int → Int → Int → Int → Option zc_O) (hlp10 : ∀ (μ : MEM) (x0 x1 x2 x3 x4 x5 : Int), inR x1 → inR x2 → inR x3 → inR x4 → inR x5 → VV C (lp10 μ x0 x1 x2 x3 x4 x5) μ [(0, zc_rv G x0), (1, iv x1), (2, iv x2), (3, iv x3), (4, iv x4), (5, iv x5)] [] 10) (μ : MEM) (x0 x1 x2 x3 x4 x5 : Int) (hx1 : inR x1) (hx2 : inR x2) (hx3 : inR x3) (hx4 : inR x4) (hx5 : inR x5) : VV C (c_X0_pages_143 lp10 μ x0 x1 x2 x3 x4 x5) μ [(0, zc_rv G x0), (1, iv x1), (2, iv x2), (3, iv x3), (4, iv x4), (5, iv x5)] [] 143 := by
  have hN : ∀ i, i < 8 → i < zv_n C := fun i q => by rw [hc.2.1]; exact q
  unfold c_X0_pages_143
  refine c_aload_n (x := x0) h 0 dX0_pages_143 rfl rfl ?_
  refine r_ck (fun ht1 => ?_)
  refine c_getR (fin := true) h hc [1] 11 (zc_lk1 h q216) ht1 (by decide) dX0_pages_144 ?_
  refine r_iload h 5 dX0_pages_147 rfl ?_
  refine r_ck (fun ht2 => ?_)
  refine c_callV (x := (μ x0 11)) h hc (As := [iv x5]) (fun o1 e1 => w_lget _ (μ x0 11) x5 hx5 o1 e1) [40] ht2 (by decide) q1146 q844 (fun t ht => by cases List.mem_singleton.mp ht; exact q845) q846 q135 (by omega) (by omega) zc_s0 (by omega) (fun z hz => by cases hz) ⟨by decide, by decide⟩ (n := 1) (by decide +kernel) rfl rfl dX0_pages_149 (fun r3 μ4 hr5 => r_k4 ?_)
  refine r_ck (fun ht6 => ?_)
  refine c_cast h hc [18] q1405 ht6 (by decide) dX0_pages_152 ?_
  refine r_iload_n h 2 dX0_pages_155 rfl rfl ?_
  refine c_putI (x := r3) (y := x2) h hc [18] 2 false (zc_lk3 hc (O := "TreePress$Line") (n := "page") (ds := "I") (host := "TreePress") (by decide)) ht6 (by decide) (Or.inl rfl) hx2 dX0_pages_156 (fun μ7 he8 => ?_)
  refine c_aload_n (x := x0) h 0 dX0_pages_159 rfl rfl ?_
  refine r_ck (fun ht9 => ?_)
  refine c_getR (fin := true) h hc [1] 11 (zc_lk1 h q216) ht9 (by decide) dX0_pages_160 ?_
  refine r_iload h 5 dX0_pages_163 rfl ?_
  refine r_ck (fun ht10 => ?_)
  refine c_callV (x := (μ7 x0 11)) h hc (As := [iv x5]) (fun o1 e1 => w_lget _ (μ7 x0 11) x5 hx5 o1 e1) [40] ht10 (by decide) q1146 q844 (fun t ht => by cases List.mem_singleton.mp ht; exact q845) q846 q135 (by omega) (by omega) zc_s0 (by omega) (fun z hz => by cases hz) ⟨by decide, by decide⟩ (n := 1) (by decide +kernel) rfl rfl dX0_pages_165 (fun r11 μ12 hr13 => r_k4 ?_)
  refine r_ck (fun ht14 => ?_)
  refine c_cast h hc [18] q1405 ht14 (by decide) dX0_pages_168 ?_
  refine r_iload_n h 3 dX0_pages_171 rfl rfl ?_
  refine c_putI (x := r11) (y := x3) h hc [18] 3 false (zc_lk3 hc (O := "TreePress$Line") (n := "row") (ds := "I") (host := "TreePress") (by decide)) ht14 (by decide) (Or.inl rfl) hx3 dX0_pages_172 (fun μ15 he16 => ?_)
  refine r_iinc (lv' := [(3, iv (x3 + 1)), (0, zc_rv G x0), (1, iv x1), (2, iv x2), (4, iv x4), (5, iv x5)]) h 3 dX0_pages_175 rfl (hN _ (by decide)) rfl ?_
  refine r_iinc (lv' := [(5, iv (x5 + 1)), (3, iv (x3 + 1)), (0, zc_rv G x0), (1, iv x1), (2, iv x2), (4, iv x4)]) h 5 dX0_pages_178 rfl (hN _ (by decide)) rfl ?_
  refine r_goto h 10 dX0_pages_181 rfl ?_
  refine r_ck (fun hk17 => ?_)
  refine r_ck (fun hk18 => ?_)
  exact r_lv [2, 3, 4, 1, 5, 0] rfl (hlp10 _ x0 x1 x2 (x3 + 1) x4 (x5 + 1) hx1 hx2 hk17 hx4 hk18)
def c_X0_pages_32 (lp10 : MEM → Int → Int → Int → Int → Int → Int → Option zc_O) : Nat → MEM → Int → Int → Int → Int → Int → Int → Option zc_O
  | 0, _, _, _, _, _, _, _ => none
  | n + 1, μ, x0, x1, x2, x3, x4, x5 => ck (zt [1] (μ x0 (-1)) = true) (ck (zt [40] (μ (μ x0 12) (-1)) = true) (bc (b_lsize μ (μ x0 12)) (fun r3 μ4 => if r3 ≤ x4 then (c_X0_pages_143 lp10 μ4 x0 x1 x2 x3 x4 x5) else (ck (zt [1] (μ4 x0 (-1)) = true) (ck (zt [40] (μ4 (μ4 x0 12) (-1)) = true) (bc (b_lget μ4 (μ4 x0 12) x4) (fun r8 μ9 => ck (zt [19] (μ9 r8 (-1)) = true) (if x5 < (μ9 r8 0) then (c_X0_pages_143 lp10 μ9 x0 x1 x2 x3 x4 x5) else (ck (zt [1] (μ9 x0 (-1)) = true) (ck (zt [40] (μ9 (μ9 x0 12) (-1)) = true) (bc (b_lget μ9 (μ9 x0 12) x4) (fun r15 μ16 => ck (zt [19] (μ16 r15 (-1)) = true) (if (μ16 r15 0) < x5 then (ck (inR (x4 + 1)) (c_X0_pages_32 lp10 n μ16 x0 x1 x2 x3 (x4 + 1) x5)) else (if (μ16 r15 2) = 0 then (ck (inR (x4 + 1)) (c_X0_pages_32 lp10 n μ16 x0 x1 x2 x3 (x4 + 1) x5)) else (ck (inR ((μ16 r15 1) - (μ16 r15 0))) (if ((μ16 r15 1) - (μ16 r15 0)) < 1 then (ck (inR (x4 + 1)) (c_X0_pages_32 lp10 n μ16 x0 x1 x2 x3 (x4 + 1) x5)) else (if x1 < ((μ16 r15 1) - (μ16 r15 0)) then (ck (inR (x4 + 1)) (c_X0_pages_32 lp10 n μ16 x0 x1 x2 x3 (x4 + 1) x5)) else (ck (inR (x3 + ((μ16 r15 1) - (μ16 r15 0)))) (if x1 < (x3 + ((μ16 r15 1) - (μ16 r15 0))) then (ck (inR (x2 + 1)) (ck (inR (x4 + 1)) (c_X0_pages_32 lp10 n μ16 x0 x1 (x2 + 1) 0 (x4 + 1) x5))) else (ck (inR (x4 + 1)) (c_X0_pages_32 lp10 n μ16 x0 x1 x2 x3 (x4 + 1) x5)))))))))))))))))))))
theorem u_X0_pages_32 {C : zv_Cx zc_O} {G : zc_G} {μ0 : MEM} (h : zv_Ok C cX0_pages "TreePress") (hc : zc_C C G μ0 8 (Option.none : Option FieldType) 0 3 64 "pages" []) (lp10 : MEM → Int → Int → Int → Int → Int → Int → Option zc_O) (hlp10 : ∀ (μ : MEM) (x0 x1 x2 x3 x4 x5 : Int), inR x1 → inR x2 → inR x3 → inR x4 → inR x5 → VV C (lp10 μ x0 x1 x2 x3 x4 x5) μ [(0, zc_rv G x0), (1, iv x1), (2, iv x2), (3, iv x3), (4, iv x4), (5, iv x5)] [] 10) : ∀ (n : Nat) (μ : MEM) (x0 x1 x2 x3 x4 x5 : Int), inR x1 → inR x2 → inR x3 → inR x4 → inR x5 → VV C (c_X0_pages_32 lp10 n μ x0 x1 x2 x3 x4 x5) μ [(0, zc_rv G x0), (1, iv x1), (2, iv x2), (3, iv x3), (4, iv x4), (5, iv x5)] [] 32 := by
  have hN : ∀ i, i < 8 → i < zv_n C := fun i q => by rw [hc.2.1]; exact q
  intro n
  induction n with
  | zero => intros; exact r_none
  | succ n ih =>
    intro μ x0 x1 x2 x3 x4 x5 hx1 hx2 hx3 hx4 hx5
    rw [c_X0_pages_32]
    refine r_iload h 4 dX0_pages_32 rfl ?_
    refine c_aload_n (x := x0) h 0 dX0_pages_34 rfl rfl ?_
    refine r_ck (fun ht1 => ?_)
    refine c_getR (fin := true) h hc [1] 12 (zc_lk1 h q217) ht1 (by decide) dX0_pages_35 ?_
    refine r_ck (fun ht2 => ?_)
    refine c_callV (x := (μ x0 12)) h hc (As := []) (fun o1 e1 => w_lsize _ (μ x0 12) o1 e1) [40] ht2 (by decide) q1130 q343 (fun t ht => by cases List.mem_singleton.mp ht; exact q344) q345 q135 (by omega) (by omega) (zc_sc (iv_cat _) zc_s0) (by omega) (fun z hz => by cases hz) ⟨by decide, by decide⟩ (n := 0) (by decide +kernel) rfl rfl dX0_pages_38 (fun r3 μ4 hr5 => r_k1 ?_)
    refine r_icmp_ge (x := x4) (y := r3) h hx4 hr5 143 dX0_pages_41 rfl ?_ ?_
    · exact r_lv [0, 1, 2, 3, 4, 5] rfl (u_X0_pages_143 h hc lp10 hlp10 _ x0 x1 x2 x3 x4 x5 hx1 hx2 hx3 hx4 hx5)
    · refine c_aload_n (x := x0) h 0 dX0_pages_44 rfl rfl ?_
      refine r_ck (fun ht6 => ?_)
      refine c_getR (fin := true) h hc [1] 12 (zc_lk1 h q217) ht6 (by decide) dX0_pages_45 ?_
      refine r_iload h 4 dX0_pages_48 rfl ?_
      refine r_ck (fun ht7 => ?_)
      refine c_callV (x := (μ4 x0 12)) h hc (As := [iv x4]) (fun o1 e1 => w_lget _ (μ4 x0 12) x4 hx4 o1 e1) [40] ht7 (by decide) q1146 q844 (fun t ht => by cases List.mem_singleton.mp ht; exact q845) q846 q135 (by omega) (by omega) zc_s0 (by omega) (fun z hz => by cases hz) ⟨by decide, by decide⟩ (n := 1) (by decide +kernel) rfl rfl dX0_pages_50 (fun r8 μ9 hr10 => r_k4 ?_)
      refine r_ck (fun ht11 => ?_)
      refine c_cast h hc [19] q1439 ht11 (by decide) dX0_pages_53 ?_
      refine c_getI (fin := true) h hc [19] 0 (zc_lk3 hc (O := "TreePress$Block") (n := "first") (ds := "I") (host := "TreePress") (by decide)) ht11 (by decide) dX0_pages_56 (fun hr12 => ?_)
      refine r_iload h 5 dX0_pages_59 rfl ?_
      refine r_icmp_gt (x := (μ9 r8 0)) (y := x5) h hr12 hx5 143 dX0_pages_61 rfl ?_ ?_
      · exact r_lv [0, 1, 2, 3, 4, 5] rfl (u_X0_pages_143 h hc lp10 hlp10 _ x0 x1 x2 x3 x4 x5 hx1 hx2 hx3 hx4 hx5)
      · refine c_aload_n (x := x0) h 0 dX0_pages_64 rfl rfl ?_
        refine r_ck (fun ht13 => ?_)
        refine c_getR (fin := true) h hc [1] 12 (zc_lk1 h q217) ht13 (by decide) dX0_pages_65 ?_
        refine r_iload h 4 dX0_pages_68 rfl ?_
        refine r_ck (fun ht14 => ?_)
        refine c_callV (x := (μ9 x0 12)) h hc (As := [iv x4]) (fun o1 e1 => w_lget _ (μ9 x0 12) x4 hx4 o1 e1) [40] ht14 (by decide) q1146 q844 (fun t ht => by cases List.mem_singleton.mp ht; exact q845) q846 q135 (by omega) (by omega) zc_s0 (by omega) (fun z hz => by cases hz) ⟨by decide, by decide⟩ (n := 1) (by decide +kernel) rfl rfl dX0_pages_70 (fun r15 μ16 hr17 => r_k4 ?_)
        refine r_ck (fun ht18 => ?_)
        refine c_cast h hc [19] q1439 ht18 (by decide) dX0_pages_73 ?_
        refine c_astore (lv' := [(6, zc_rv G r15), (0, zc_rv G x0), (1, iv x1), (2, iv x2), (3, iv x3), (4, iv x4), (5, iv x5)]) h dX0_pages_76 (hN _ (by decide)) rfl ?_
        refine c_aload (x := r15) h 0 dX0_pages_78 rfl ?_
        refine c_getI (fin := false) h hc [19] 1 (zc_lk3 hc (O := "TreePress$Block") (n := "last") (ds := "I") (host := "TreePress") (by decide)) ht18 (by decide) dX0_pages_80 (fun hr19 => ?_)
        refine c_aload (x := r15) h 0 dX0_pages_83 rfl ?_
        refine c_getI (fin := true) h hc [19] 0 (zc_lk3 hc (O := "TreePress$Block") (n := "first") (ds := "I") (host := "TreePress") (by decide)) ht18 (by decide) dX0_pages_85 (fun hr20 => ?_)
        refine r_isub h dX0_pages_88 ?_
        refine r_istore (lv' := [(7, iv ((μ16 r15 1) - (μ16 r15 0))), (6, zc_rv G r15), (0, zc_rv G x0), (1, iv x1), (2, iv x2), (3, iv x3), (4, iv x4), (5, iv x5)]) h dX0_pages_89 (hN _ (by decide)) (by simp [zc_rv_cat]) ?_
        refine c_aload (x := r15) h 1 dX0_pages_91 rfl ?_
        refine c_getI (fin := true) h hc [19] 0 (zc_lk3 hc (O := "TreePress$Block") (n := "first") (ds := "I") (host := "TreePress") (by decide)) ht18 (by decide) dX0_pages_93 (fun hr21 => ?_)
        refine r_iload h 7 dX0_pages_96 rfl ?_
        refine r_icmp_lt (x := (μ16 r15 0)) (y := x5) h hr21 hx5 137 dX0_pages_98 rfl ?_ ?_
        · refine r_iinc (lv' := [(4, iv (x4 + 1)), (7, iv ((μ16 r15 1) - (μ16 r15 0))), (6, zc_rv G r15), (0, zc_rv G x0), (1, iv x1), (2, iv x2), (3, iv x3), (5, iv x5)]) h 6 dX0_pages_137 rfl (hN _ (by decide)) rfl ?_
          refine r_goto h 32 dX0_pages_140 rfl ?_
          refine r_ck (fun hk22 => ?_)
          exact r_lv [3, 4, 5, 6, 0, 7] rfl (ih _ x0 x1 x2 x3 (x4 + 1) x5 hx1 hx2 hx3 hk22 hx5)
        · refine c_aload (x := r15) h 1 dX0_pages_101 rfl ?_
          refine c_getZ (fin := true) h hc [19] 2 (zc_lk3 hc (O := "TreePress$Block") (n := "keep") (ds := "Z") (host := "TreePress") (by decide)) ht18 (by decide) dX0_pages_103 (fun hr23 => ?_)
          refine r_if_eq (x := (μ16 r15 2)) h hr23.r 137 dX0_pages_106 rfl ?_ ?_
          · refine r_iinc (lv' := [(4, iv (x4 + 1)), (7, iv ((μ16 r15 1) - (μ16 r15 0))), (6, zc_rv G r15), (0, zc_rv G x0), (1, iv x1), (2, iv x2), (3, iv x3), (5, iv x5)]) h 6 dX0_pages_137 rfl (hN _ (by decide)) rfl ?_
            refine r_goto h 32 dX0_pages_140 rfl ?_
            refine r_ck (fun hk24 => ?_)
            exact r_lv [3, 4, 5, 6, 0, 7] rfl (ih _ x0 x1 x2 x3 (x4 + 1) x5 hx1 hx2 hx3 hk24 hx5)
          · refine r_iload h 0 dX0_pages_109 rfl ?_
            refine r_iconst h dX0_pages_111 ?_
            refine r_ck (fun hk25 => ?_)
            refine r_icmp_lt (x := ((μ16 r15 1) - (μ16 r15 0))) (y := 1) h hk25 (by decide) 137 dX0_pages_112 rfl ?_ ?_
            · refine r_iinc (lv' := [(4, iv (x4 + 1)), (7, iv ((μ16 r15 1) - (μ16 r15 0))), (6, zc_rv G r15), (0, zc_rv G x0), (1, iv x1), (2, iv x2), (3, iv x3), (5, iv x5)]) h 6 dX0_pages_137 rfl (hN _ (by decide)) rfl ?_
              refine r_goto h 32 dX0_pages_140 rfl ?_
              refine r_ck (fun hk26 => ?_)
              exact r_lv [3, 4, 5, 6, 0, 7] rfl (ih _ x0 x1 x2 x3 (x4 + 1) x5 hx1 hx2 hx3 hk26 hx5)
            · refine r_iload h 0 dX0_pages_115 rfl ?_
              refine r_iload_n h 3 dX0_pages_117 rfl rfl ?_
              refine r_icmp_gt (x := ((μ16 r15 1) - (μ16 r15 0))) (y := x1) h hk25 hx1 137 dX0_pages_118 rfl ?_ ?_
              · refine r_iinc (lv' := [(4, iv (x4 + 1)), (7, iv ((μ16 r15 1) - (μ16 r15 0))), (6, zc_rv G r15), (0, zc_rv G x0), (1, iv x1), (2, iv x2), (3, iv x3), (5, iv x5)]) h 6 dX0_pages_137 rfl (hN _ (by decide)) rfl ?_
                refine r_goto h 32 dX0_pages_140 rfl ?_
                refine r_ck (fun hk27 => ?_)
                exact r_lv [3, 4, 5, 6, 0, 7] rfl (ih _ x0 x1 x2 x3 (x4 + 1) x5 hx1 hx2 hx3 hk27 hx5)
              · refine r_iload_n h 5 dX0_pages_121 rfl rfl ?_
                refine r_iload h 0 dX0_pages_122 rfl ?_
                refine r_iadd h dX0_pages_124 ?_
                refine r_iload_n h 3 dX0_pages_125 rfl rfl ?_
                refine r_ck (fun hk28 => ?_)
                refine r_icmp_gt (x := (x3 + ((μ16 r15 1) - (μ16 r15 0)))) (y := x1) h hk28 hx1 132 dX0_pages_126 rfl ?_ ?_
                · refine r_iinc (lv' := [(2, iv (x2 + 1)), (7, iv ((μ16 r15 1) - (μ16 r15 0))), (6, zc_rv G r15), (0, zc_rv G x0), (1, iv x1), (3, iv x3), (4, iv x4), (5, iv x5)]) h 4 dX0_pages_132 rfl (hN _ (by decide)) rfl ?_
                  refine r_iconst h dX0_pages_135 ?_
                  refine r_istore_n (i := 3) (lv' := [(3, iv 0), (2, iv (x2 + 1)), (7, iv ((μ16 r15 1) - (μ16 r15 0))), (6, zc_rv G r15), (0, zc_rv G x0), (1, iv x1), (4, iv x4), (5, iv x5)]) h dX0_pages_136 rfl (hN _ (by decide)) rfl ?_
                  refine r_iinc (lv' := [(4, iv (x4 + 1)), (3, iv 0), (2, iv (x2 + 1)), (7, iv ((μ16 r15 1) - (μ16 r15 0))), (6, zc_rv G r15), (0, zc_rv G x0), (1, iv x1), (5, iv x5)]) h 6 dX0_pages_137 rfl (hN _ (by decide)) rfl ?_
                  refine r_goto h 32 dX0_pages_140 rfl ?_
                  refine r_ck (fun hk29 => ?_)
                  refine r_ck (fun hk30 => ?_)
                  exact r_lv [5, 6, 2, 1, 0, 7] rfl (ih _ x0 x1 (x2 + 1) 0 (x4 + 1) x5 hx1 hk29 (by decide) hk30 hx5)
                · refine r_goto h 137 dX0_pages_129 rfl ?_
                  refine r_iinc (lv' := [(4, iv (x4 + 1)), (7, iv ((μ16 r15 1) - (μ16 r15 0))), (6, zc_rv G r15), (0, zc_rv G x0), (1, iv x1), (2, iv x2), (3, iv x3), (5, iv x5)]) h 6 dX0_pages_137 rfl (hN _ (by decide)) rfl ?_
                  refine r_goto h 32 dX0_pages_140 rfl ?_
                  refine r_ck (fun hk31 => ?_)
                  exact r_lv [3, 4, 5, 6, 0, 7] rfl (ih _ x0 x1 x2 x3 (x4 + 1) x5 hx1 hx2 hx3 hk31 hx5)
def c_X0_pages_10 : Nat → MEM → Int → Int → Int → Int → Int → Int → Option zc_O
  | 0, _, _, _, _, _, _, _ => none
  | n + 1, μ, x0, x1, x2, x3, x4, x5 => ck (zt [1] (μ x0 (-1)) = true) (ck (zt [40] (μ (μ x0 11) (-1)) = true) (bc (b_lsize μ (μ x0 11)) (fun r3 μ4 => if r3 ≤ x5 then (some (0, 0, μ4)) else (if x3 = x1 then (ck (inR (x2 + 1)) (c_X0_pages_32 (c_X0_pages_10 n) zF μ4 x0 x1 (x2 + 1) 0 x4 x5)) else (c_X0_pages_32 (c_X0_pages_10 n) zF μ4 x0 x1 x2 x3 x4 x5)))))
theorem u_X0_pages_10 {C : zv_Cx zc_O} {G : zc_G} {μ0 : MEM} (h : zv_Ok C cX0_pages "TreePress") (hc : zc_C C G μ0 8 (Option.none : Option FieldType) 0 3 64 "pages" []) : ∀ (n : Nat) (μ : MEM) (x0 x1 x2 x3 x4 x5 : Int), inR x1 → inR x2 → inR x3 → inR x4 → inR x5 → VV C (c_X0_pages_10 n μ x0 x1 x2 x3 x4 x5) μ [(0, zc_rv G x0), (1, iv x1), (2, iv x2), (3, iv x3), (4, iv x4), (5, iv x5)] [] 10 := by
  have hN : ∀ i, i < 8 → i < zv_n C := fun i q => by rw [hc.2.1]; exact q
  intro n
  induction n with
  | zero => intros; exact r_none
  | succ n ih =>
    intro μ x0 x1 x2 x3 x4 x5 hx1 hx2 hx3 hx4 hx5
    rw [c_X0_pages_10]
    refine r_iload h 5 dX0_pages_10 rfl ?_
    refine c_aload_n (x := x0) h 0 dX0_pages_12 rfl rfl ?_
    refine r_ck (fun ht1 => ?_)
    refine c_getR (fin := true) h hc [1] 11 (zc_lk1 h q216) ht1 (by decide) dX0_pages_13 ?_
    refine r_ck (fun ht2 => ?_)
    refine c_callV (x := (μ x0 11)) h hc (As := []) (fun o1 e1 => w_lsize _ (μ x0 11) o1 e1) [40] ht2 (by decide) q1130 q343 (fun t ht => by cases List.mem_singleton.mp ht; exact q344) q345 q135 (by omega) (by omega) (zc_sc (iv_cat _) zc_s0) (by omega) (fun z hz => by cases hz) ⟨by decide, by decide⟩ (n := 0) (by decide +kernel) rfl rfl dX0_pages_16 (fun r3 μ4 hr5 => r_k1 ?_)
    refine r_icmp_ge (x := x5) (y := r3) h hx5 hr5 184 dX0_pages_19 rfl ?_ ?_
    · exact c_vret h hc rfl dX0_pages_184
    · refine r_iload_n h 3 dX0_pages_22 rfl rfl ?_
      refine r_iload_n h 1 dX0_pages_23 rfl rfl ?_
      refine r_icmp_ne (x := x3) (y := x1) h hx3 hx1 32 dX0_pages_24 rfl ?_ ?_
      · refine r_iinc (lv' := [(2, iv (x2 + 1)), (0, zc_rv G x0), (1, iv x1), (3, iv x3), (4, iv x4), (5, iv x5)]) h 2 dX0_pages_27 rfl (hN _ (by decide)) rfl ?_
        refine r_iconst h dX0_pages_30 ?_
        refine r_istore_n (i := 3) (lv' := [(3, iv 0), (2, iv (x2 + 1)), (0, zc_rv G x0), (1, iv x1), (4, iv x4), (5, iv x5)]) h dX0_pages_31 rfl (hN _ (by decide)) rfl ?_
        refine r_ck (fun hk6 => ?_)
        exact r_lv [2, 3, 1, 0, 4, 5] rfl (u_X0_pages_32 h hc (c_X0_pages_10 n) ih zF _ x0 x1 (x2 + 1) 0 x4 x5 hx1 hk6 (by decide) hx4 hx5)
      · exact r_lv [0, 1, 2, 3, 4, 5] rfl (u_X0_pages_32 h hc (c_X0_pages_10 n) ih zF _ x0 x1 x2 x3 x4 x5 hx1 hx2 hx3 hx4 hx5)
def c_X0_pages (μ : MEM) (a0 a1 : Int) : Option zc_O := c_X0_pages_10 zF μ a0 a1 0 0 0 0
theorem u_X0_pages {G : zc_G} (μ : MEM) (a0 a1 : Int) (ha1 : inR a1) (o : zc_O) (hd : c_X0_pages μ a0 a1 = some o) : zc_Met G yX0_pages cX0_pages 8 (Option.none : Option FieldType) 0 3 64 μ [zc_rv G a0, iv a1] o := by
  refine zc_intro hd (by decide) (by simp [lg_sl, zc_rv_cat, iv_cat, jv_cat]) (lv := [(0, zc_rv G a0), (1, iv a1)]) (by simp [lv_args, zc_rv_cat, iv_cat, jv_cat]) (fun C h hc => ?_)
  have h : zv_Ok C cX0_pages "TreePress" := h
  have hc : zc_C C G μ 8 (Option.none : Option FieldType) 0 3 64 "pages" [] := hc
  have hN : ∀ i, i < 8 → i < zv_n C := fun i q => by rw [hc.2.1]; exact q
  unfold c_X0_pages
  refine r_iconst h dX0_pages_0 ?_
  refine r_istore_n (i := 2) (lv' := [(2, iv 0), (0, zc_rv G a0), (1, iv a1)]) h dX0_pages_1 rfl (hN _ (by decide)) rfl ?_
  refine r_iconst h dX0_pages_2 ?_
  refine r_istore_n (i := 3) (lv' := [(3, iv 0), (2, iv 0), (0, zc_rv G a0), (1, iv a1)]) h dX0_pages_3 rfl (hN _ (by decide)) rfl ?_
  refine r_iconst h dX0_pages_4 ?_
  refine r_istore (lv' := [(4, iv 0), (3, iv 0), (2, iv 0), (0, zc_rv G a0), (1, iv a1)]) h dX0_pages_5 (hN _ (by decide)) rfl ?_
  refine r_iconst h dX0_pages_7 ?_
  refine r_istore (lv' := [(5, iv 0), (4, iv 0), (3, iv 0), (2, iv 0), (0, zc_rv G a0), (1, iv a1)]) h dX0_pages_8 (hN _ (by decide)) rfl ?_
  exact r_lv [4, 5, 3, 2, 1, 0] rfl (u_X0_pages_10 h hc zF _ a0 a1 0 0 0 0 ha1 (by decide) (by decide) (by decide) (by decide))
theorem dX0_set_0 : decode cX0_set 0 = .ok (.aload_n 0, 1) := by decide +kernel
theorem dX0_set_1 : decode cX0_set 1 = .ok (.getfield 75, 3) := by decide +kernel
theorem dX0_set_4 : decode cX0_set 4 = .ok (.ifnull 25, 3) := by decide +kernel
theorem dX0_set_7 : decode cX0_set 7 = .ok (.iload_n 1, 1) := by decide +kernel
theorem dX0_set_8 : decode cX0_set 8 = .ok (.iconst 1, 1) := by decide +kernel
theorem dX0_set_9 : decode cX0_set 9 = .ok (.if_icmp .lt 20, 3) := by decide +kernel
theorem dX0_set_12 : decode cX0_set 12 = .ok (.iload_n 1, 1) := by decide +kernel
theorem dX0_set_13 : decode cX0_set 13 = .ok (.bipush 60, 2) := by decide +kernel
theorem dX0_set_15 : decode cX0_set 15 = .ok (.if_icmp .gt 14, 3) := by decide +kernel
theorem dX0_set_18 : decode cX0_set 18 = .ok (.iload_n 2, 1) := by decide +kernel
theorem dX0_set_19 : decode cX0_set 19 = .ok (.iconst 1, 1) := by decide +kernel
theorem dX0_set_20 : decode cX0_set 20 = .ok (.if_icmp .lt 9, 3) := by decide +kernel
theorem dX0_set_23 : decode cX0_set 23 = .ok (.iload_n 2, 1) := by decide +kernel
theorem dX0_set_24 : decode cX0_set 24 = .ok (.bipush 50, 2) := by decide +kernel
theorem dX0_set_26 : decode cX0_set 26 = .ok (.if_icmp .le 6, 3) := by decide +kernel
theorem dX0_set_29 : decode cX0_set 29 = .ok (.bipush (-9), 2) := by decide +kernel
theorem dX0_set_31 : decode cX0_set 31 = .ok (.ireturn, 1) := by decide +kernel
theorem dX0_set_32 : decode cX0_set 32 = .ok (.aload_n 0, 1) := by decide +kernel
theorem dX0_set_33 : decode cX0_set 33 = .ok (.getfield 46, 3) := by decide +kernel
theorem dX0_set_36 : decode cX0_set 36 = .ok (.invokevirtual 79, 3) := by decide +kernel
theorem dX0_set_39 : decode cX0_set 39 = .ok (.aload_n 0, 1) := by decide +kernel
theorem dX0_set_40 : decode cX0_set 40 = .ok (.getfield 50, 3) := by decide +kernel
theorem dX0_set_43 : decode cX0_set 43 = .ok (.invokevirtual 79, 3) := by decide +kernel
theorem dX0_set_46 : decode cX0_set 46 = .ok (.aload_n 0, 1) := by decide +kernel
theorem dX0_set_47 : decode cX0_set 47 = .ok (.iload_n 1, 1) := by decide +kernel
theorem dX0_set_48 : decode cX0_set 48 = .ok (.putfield 254, 3) := by decide +kernel
theorem dX0_set_51 : decode cX0_set 51 = .ok (.aload_n 0, 1) := by decide +kernel
theorem dX0_set_52 : decode cX0_set 52 = .ok (.iconst 0, 1) := by decide +kernel
theorem dX0_set_53 : decode cX0_set 53 = .ok (.putfield 277, 3) := by decide +kernel
theorem dX0_set_56 : decode cX0_set 56 = .ok (.aload_n 0, 1) := by decide +kernel
theorem dX0_set_57 : decode cX0_set 57 = .ok (.aconst_null, 1) := by decide +kernel
theorem dX0_set_58 : decode cX0_set 58 = .ok (.putfield 259, 3) := by decide +kernel
theorem dX0_set_61 : decode cX0_set 61 = .ok (.aload_n 0, 1) := by decide +kernel
theorem dX0_set_62 : decode cX0_set 62 = .ok (.aload_n 0, 1) := by decide +kernel
theorem dX0_set_63 : decode cX0_set 63 = .ok (.getfield 75, 3) := by decide +kernel
theorem dX0_set_66 : decode cX0_set 66 = .ok (.getfield 236, 3) := by decide +kernel
theorem dX0_set_69 : decode cX0_set 69 = .ok (.invokevirtual 306, 3) := by decide +kernel
theorem dX0_set_72 : decode cX0_set 72 = .ok (.aload_n 0, 1) := by decide +kernel
theorem dX0_set_73 : decode cX0_set 73 = .ok (.invokevirtual 294, 3) := by decide +kernel
theorem dX0_set_76 : decode cX0_set 76 = .ok (.aload_n 0, 1) := by decide +kernel
theorem dX0_set_77 : decode cX0_set 77 = .ok (.iload_n 2, 1) := by decide +kernel
theorem dX0_set_78 : decode cX0_set 78 = .ok (.invokevirtual 322, 3) := by decide +kernel
theorem dX0_set_81 : decode cX0_set 81 = .ok (.aload_n 0, 1) := by decide +kernel
theorem dX0_set_82 : decode cX0_set 82 = .ok (.getfield 46, 3) := by decide +kernel
theorem dX0_set_85 : decode cX0_set 85 = .ok (.invokevirtual 90, 3) := by decide +kernel
theorem dX0_set_88 : decode cX0_set 88 = .ok (.ireturn, 1) := by decide +kernel
def c_X0_set (μ : MEM) (a0 a1 a2 : Int) : Option zc_O := ck (zt [1] (μ a0 (-1)) = true) (if (μ a0 3) = 0 then (some (0, (-9), μ)) else (if a1 < 1 then (some (0, (-9), μ)) else (if 60 < a1 then (some (0, (-9), μ)) else (if a2 < 1 then (some (0, (-9), μ)) else (if a2 ≤ 50 then (ck (zt [40] (μ (μ a0 11) (-1)) = true) (bc (b_lclear μ (μ a0 11)) (fun _ μ3 => ck (zt [1] (μ3 a0 (-1)) = true) (ck (zt [40] (μ3 (μ3 a0 12) (-1)) = true) (bc (b_lclear μ3 (μ3 a0 12)) (fun _ μ6 => ck (zt [1] (μ6 a0 (-1)) = true) (nu (mup μ6 a0 16 a1) (fun μ8 => nu (mup μ8 a0 15 0) (fun μ10 => nu (mup μ10 a0 17 0) (fun μ12 => ck (zt [4] (μ12 (μ12 a0 3) (-1)) = true) (bc (fz_sets 34 μ12 a0 (μ12 (μ12 a0 3) 0)) (fun _ μ15 => ck (zt [1] (μ15 a0 (-1)) = true) (bc (c_X0_lineEnds μ15 a0) (fun _ μ17 => ck (zt [1] (μ17 a0 (-1)) = true) (bc (c_X0_pages μ17 a0 a2) (fun _ μ19 => ck (zt [1] (μ19 a0 (-1)) = true) (ck (zt [40] (μ19 (μ19 a0 11) (-1)) = true) (bc (b_lsize μ19 (μ19 a0 11)) (fun r22 μ23 => some (0, r22, μ23)))))))))))))))))))) else (some (0, (-9), μ)))))))
theorem u_X0_set {G : zc_G} (μ : MEM) (a0 a1 a2 : Int) (ha1 : inR a1) (ha2 : inR a2) (o : zc_O) (hd : c_X0_set μ a0 a1 a2 = some o) : zc_Met G yX0_set cX0_set 3 (Option.some FieldType.int) 1 45 1093 μ [zc_rv G a0, iv a1, iv a2] o := by
  refine zc_intro hd (by decide) (by simp [lg_sl, zc_rv_cat, iv_cat, jv_cat]) (lv := [(0, zc_rv G a0), (1, iv a1), (2, iv a2)]) (by simp [lv_args, zc_rv_cat, iv_cat, jv_cat]) (fun C h hc => ?_)
  have h : zv_Ok C cX0_set "TreePress" := h
  have hc : zc_C C G μ 3 (Option.some FieldType.int) 1 45 1093 "set" [] := hc
  have hN : ∀ i, i < 3 → i < zv_n C := fun i q => by rw [hc.2.1]; exact q
  unfold c_X0_set
  refine c_aload_n (x := a0) h 0 dX0_set_0 rfl rfl ?_
  refine r_ck (fun ht1 => ?_)
  refine c_getR (fin := false) h hc [1] 3 (zc_lk1 h q208) ht1 (by decide) dX0_set_1 ?_
  refine c_ifnull (x := (μ a0 3)) h 29 dX0_set_4 rfl ?_ ?_
  · refine r_bipush h dX0_set_29 (by decide) ?_
    exact c_iret h hc rfl (by decide) dX0_set_31
  · refine r_iload_n h 1 dX0_set_7 rfl rfl ?_
    refine r_iconst h dX0_set_8 ?_
    refine r_icmp_lt (x := a1) (y := 1) h ha1 (by decide) 29 dX0_set_9 rfl ?_ ?_
    · refine r_bipush h dX0_set_29 (by decide) ?_
      exact c_iret h hc rfl (by decide) dX0_set_31
    · refine r_iload_n h 1 dX0_set_12 rfl rfl ?_
      refine r_bipush h dX0_set_13 (by decide) ?_
      refine r_icmp_gt (x := a1) (y := 60) h ha1 (by decide) 29 dX0_set_15 rfl ?_ ?_
      · refine r_bipush h dX0_set_29 (by decide) ?_
        exact c_iret h hc rfl (by decide) dX0_set_31
      · refine r_iload_n h 2 dX0_set_18 rfl rfl ?_
        refine r_iconst h dX0_set_19 ?_
        refine r_icmp_lt (x := a2) (y := 1) h ha2 (by decide) 29 dX0_set_20 rfl ?_ ?_
        · refine r_bipush h dX0_set_29 (by decide) ?_
          exact c_iret h hc rfl (by decide) dX0_set_31
        · refine r_iload_n h 2 dX0_set_23 rfl rfl ?_
          refine r_bipush h dX0_set_24 (by decide) ?_
          refine r_icmp_le (x := a2) (y := 50) h ha2 (by decide) 32 dX0_set_26 rfl ?_ ?_
          · refine c_aload_n (x := a0) h 0 dX0_set_32 rfl rfl ?_
            refine c_getR (fin := true) h hc [1] 11 (zc_lk1 h q216) ht1 (by decide) dX0_set_33 ?_
            refine r_ck (fun ht2 => ?_)
            refine c_callV (x := (μ a0 11)) h hc (As := []) (fun o1 e1 => w_lclear _ (μ a0 11) o1 e1) [40] ht2 (by decide) q1126 q1127 (fun t ht => by cases List.mem_singleton.mp ht; exact q1128) q1129 q135 (by omega) (by omega) zc_s0 (by omega) (fun z hz => by cases hz) ⟨by decide, by decide⟩ (n := 0) (by decide +kernel) rfl rfl dX0_set_36 (fun _ μ3 _ => r_k0 ?_)
            refine c_aload_n (x := a0) h 0 dX0_set_39 rfl rfl ?_
            refine r_ck (fun ht4 => ?_)
            refine c_getR (fin := true) h hc [1] 12 (zc_lk1 h q217) ht4 (by decide) dX0_set_40 ?_
            refine r_ck (fun ht5 => ?_)
            refine c_callV (x := (μ3 a0 12)) h hc (As := []) (fun o1 e1 => w_lclear _ (μ3 a0 12) o1 e1) [40] ht5 (by decide) q1126 q1127 (fun t ht => by cases List.mem_singleton.mp ht; exact q1128) q1129 q135 (by omega) (by omega) zc_s0 (by omega) (fun z hz => by cases hz) ⟨by decide, by decide⟩ (n := 0) (by decide +kernel) rfl rfl dX0_set_43 (fun _ μ6 _ => r_k0 ?_)
            refine c_aload_n (x := a0) h 0 dX0_set_46 rfl rfl ?_
            refine r_iload_n h 1 dX0_set_47 rfl rfl ?_
            refine r_ck (fun ht7 => ?_)
            refine c_putI (x := a0) (y := a1) h hc [1] 16 false (zc_lk1 h q221) ht7 (by decide) (Or.inl rfl) ha1 dX0_set_48 (fun μ8 he9 => ?_)
            refine c_aload_n (x := a0) h 0 dX0_set_51 rfl rfl ?_
            refine r_iconst h dX0_set_52 ?_
            refine c_putI (x := a0) (y := 0) h hc [1] 15 false (zc_lk1 h q220) (zt_mup he9 (by decide) ht7) (by decide) (Or.inl rfl) (by decide) dX0_set_53 (fun μ10 he11 => ?_)
            refine c_aload_n (x := a0) h 0 dX0_set_56 rfl rfl ?_
            refine c_null G h dX0_set_57 ?_
            refine c_putR (x := a0) (y := 0) h hc [1] 17 false (zc_lk1 h q222) (zt_mup he11 (by decide) (zt_mup he9 (by decide) ht7)) (by decide) (Or.inl rfl) (ty := (.object "TreePress$Line")) (by decide +kernel) (Or.inl ⟨_, rfl⟩) dX0_set_58 (fun μ12 he13 => ?_)
            refine c_aload_n (x := a0) h 0 dX0_set_61 rfl rfl ?_
            refine c_aload_n (x := a0) h 0 dX0_set_62 rfl rfl ?_
            refine c_getR (fin := false) h hc [1] 3 (zc_lk1 h q208) (zt_mup he13 (by decide) (zt_mup he11 (by decide) (zt_mup he9 (by decide) ht7))) (by decide) dX0_set_63 ?_
            refine r_ck (fun ht14 => ?_)
            refine c_getR (fin := true) h hc [4] 0 (zc_lk3 hc (O := "TreePress$Document") (n := "root") (ds := "LTreePress$Parent;") (host := "TreePress") (by decide)) ht14 (by decide) dX0_set_66 ?_
            refine c_callV (x := a0) h hc (As := [zc_rv G (μ12 (μ12 a0 3) 0)]) (fun o1 e1 => fm_sets 34 _ a0 (μ12 (μ12 a0 3) 0) o1 e1) [1] (zt_mup he13 (by decide) (zt_mup he11 (by decide) (zt_mup he9 (by decide) ht7))) (by decide) q1392 q1394 (fun t ht => by cases List.mem_singleton.mp ht; exact qs49) q1395 q132 (by omega) (by omega) zc_s0 (by omega) (fun z hz => by cases hz) ⟨by decide, by decide⟩ (n := 1) (by decide +kernel) rfl rfl dX0_set_69 (fun _ μ15 _ => r_k0 ?_)
            refine c_aload_n (x := a0) h 0 dX0_set_72 rfl rfl ?_
            refine r_ck (fun ht16 => ?_)
            refine c_callV (x := a0) h hc (As := []) (fun o1 e1 => u_X0_lineEnds _ a0 o1 e1) [1] ht16 (by decide) q1433 q1435 (fun t ht => by cases List.mem_singleton.mp ht; exact qs52) q1436 q132 (by omega) (by omega) zc_s0 (by omega) (fun z hz => by cases hz) ⟨by decide, by decide⟩ (n := 0) (by decide +kernel) rfl rfl dX0_set_73 (fun _ μ17 _ => r_k0 ?_)
            refine c_aload_n (x := a0) h 0 dX0_set_76 rfl rfl ?_
            refine r_iload_n h 2 dX0_set_77 rfl rfl ?_
            refine r_ck (fun ht18 => ?_)
            refine c_callV (x := a0) h hc (As := [iv a2]) (fun o1 e1 => u_X0_pages _ a0 a2 ha2 o1 e1) [1] ht18 (by decide) q1457 q1459 (fun t ht => by cases List.mem_singleton.mp ht; exact qs53) q1460 q132 (by omega) (by omega) zc_s0 (by omega) (fun z hz => by cases hz) ⟨by decide, by decide⟩ (n := 1) (by decide +kernel) rfl rfl dX0_set_78 (fun _ μ19 _ => r_k0 ?_)
            refine c_aload_n (x := a0) h 0 dX0_set_81 rfl rfl ?_
            refine r_ck (fun ht20 => ?_)
            refine c_getR (fin := true) h hc [1] 11 (zc_lk1 h q216) ht20 (by decide) dX0_set_82 ?_
            refine r_ck (fun ht21 => ?_)
            refine c_callV (x := (μ19 a0 11)) h hc (As := []) (fun o1 e1 => w_lsize _ (μ19 a0 11) o1 e1) [40] ht21 (by decide) q1130 q343 (fun t ht => by cases List.mem_singleton.mp ht; exact q344) q345 q135 (by omega) (by omega) zc_s0 (by omega) (fun z hz => by cases hz) ⟨by decide, by decide⟩ (n := 0) (by decide +kernel) rfl rfl dX0_set_85 (fun r22 μ23 hr24 => r_k1 ?_)
            exact c_iret h hc rfl hr24 dX0_set_88
          · refine r_bipush h dX0_set_29 (by decide) ?_
            exact c_iret h hc rfl (by decide) dX0_set_31
