set_option maxRecDepth 100000
set_option maxHeartbeats 1000000
/-! the JDK's methods over open rows (written by wip/gen/jgen.py) -/
theorem dJ0_init_0 : decode cJ0_init 0 = .ok (.aload_n 0, 1) := by decide +kernel
theorem dJ0_init_1 : decode cJ0_init 1 = .ok (.invokespecial 1, 3) := by decide +kernel
theorem dJ0_init_4 : decode cJ0_init 4 = .ok (.return_, 1) := by decide +kernel
def c_J0_init (μ : MEM) (a0 : Int) : Option zc_O := ck (zt [21] (μ a0 (-1)) = true) (some (0, 0, μ))
theorem u_J0_init {G : zc_G} (μ : MEM) (a0 : Int) (o : zc_O) (hd : c_J0_init μ a0 = some o) : zc_Met G yJ0_init cJ0_init 1 (Option.none : Option FieldType) 0 1 20 μ [zc_rv G a0] o := by
  refine zc_intro hd (by decide) (by simp [lg_sl, zc_rv_cat, iv_cat, jv_cat]) (lv := [(0, zc_rv G a0)]) (by simp [lv_args, zc_rv_cat, iv_cat, jv_cat]) (fun C h hc => ?_)
  have h : zv_Ok C cJ0_init "java/util/AbstractCollection" := h
  have hc : zc_C C G μ 1 (Option.none : Option FieldType) 0 1 20 "<init>" [] := hc
  have hN : ∀ i, i < 1 → i < zv_n C := fun i q => by rw [hc.2.1]; exact q
  unfold c_J0_init
  refine c_aload_n (x := a0) h 0 dJ0_init_0 rfl rfl ?_
  refine r_ck (fun ht1 => ?_)
  refine c_oinit h hc [21] ht1 (by decide) q188 q173 q174 (by omega) zc_s0 (by omega) dJ0_init_1 ?_
  exact c_vret h hc rfl dJ0_init_4
theorem dJ1_init_0 : decode cJ1_init 0 = .ok (.aload_n 0, 1) := by decide +kernel
theorem dJ1_init_1 : decode cJ1_init 1 = .ok (.invokespecial 1, 3) := by decide +kernel
theorem dJ1_init_4 : decode cJ1_init 4 = .ok (.aload_n 0, 1) := by decide +kernel
theorem dJ1_init_5 : decode cJ1_init 5 = .ok (.iconst 0, 1) := by decide +kernel
theorem dJ1_init_6 : decode cJ1_init 6 = .ok (.putfield 7, 3) := by decide +kernel
theorem dJ1_init_9 : decode cJ1_init 9 = .ok (.return_, 1) := by decide +kernel
def c_J1_init (μ : MEM) (a0 : Int) : Option zc_O := ck (zt [21] (μ a0 (-1)) = true) (bc (c_J0_init μ a0) (fun _ μ2 => ck (zt [21] (μ2 a0 (-1)) = true) (nu (mup μ2 a0 0 (zw 0)) (fun μ4 => some (0, 0, μ4)))))
theorem u_J1_init {G : zc_G} (μ : MEM) (a0 : Int) (o : zc_O) (hd : c_J1_init μ a0 = some o) : zc_Met G yJ1_init cJ1_init 1 (Option.none : Option FieldType) 0 2 40 μ [zc_rv G a0] o := by
  refine zc_intro hd (by decide) (by simp [lg_sl, zc_rv_cat, iv_cat, jv_cat]) (lv := [(0, zc_rv G a0)]) (by simp [lv_args, zc_rv_cat, iv_cat, jv_cat]) (fun C h hc => ?_)
  have h : zv_Ok C cJ1_init "java/util/AbstractList" := h
  have hc : zc_C C G μ 1 (Option.none : Option FieldType) 0 2 40 "<init>" [] := hc
  have hN : ∀ i, i < 1 → i < zv_n C := fun i q => by rw [hc.2.1]; exact q
  unfold c_J1_init
  refine c_aload_n (x := a0) h 0 dJ1_init_0 rfl rfl ?_
  refine r_ck (fun ht1 => ?_)
  refine c_callI (x := a0) h hc (As := []) (fun o1 e1 => u_J0_init _ a0 o1 e1) [21] ht1 (by decide) q185 q186 rfl q187 q133 (by omega) (by omega) zc_s0 (by omega) (fun z hz => by cases hz) ⟨by decide, by decide⟩ (n := 0) (by decide +kernel) rfl rfl dJ1_init_1 (fun _ μ2 _ => r_k0 ?_)
  refine c_aload_n (x := a0) h 0 dJ1_init_4 rfl rfl ?_
  refine r_iconst h dJ1_init_5 ?_
  refine r_ck (fun ht3 => ?_)
  refine c_putIw (x := a0) (y := 0) h hc [21] 0 false (zc_lk1 h q193) ht3 (by decide) (Or.inl rfl)  dJ1_init_6 (fun μ4 he5 => ?_)
  exact c_vret h hc rfl dJ1_init_9
theorem dJ2_init_0 : decode cJ2_init 0 = .ok (.aload_n 0, 1) := by decide +kernel
theorem dJ2_init_1 : decode cJ2_init 1 = .ok (.invokespecial 1, 3) := by decide +kernel
theorem dJ2_init_4 : decode cJ2_init 4 = .ok (.aload_n 0, 1) := by decide +kernel
theorem dJ2_init_5 : decode cJ2_init 5 = .ok (.getstatic 39, 3) := by decide +kernel
theorem dJ2_init_8 : decode cJ2_init 8 = .ok (.putfield 9, 3) := by decide +kernel
theorem dJ2_init_11 : decode cJ2_init 11 = .ok (.return_, 1) := by decide +kernel
def c_J2_init (μ : MEM) (a0 : Int) : Option zc_O := ck (zt [21] (μ a0 (-1)) = true) (bc (c_J1_init μ a0) (fun _ μ2 => ck (zt [21] (μ2 a0 (-1)) = true) (nu (mup μ2 a0 1 (-51)) (fun μ4 => some (0, 0, μ4)))))
theorem u_J2_init {G : zc_G} (μ : MEM) (a0 : Int) (o : zc_O) (hd : c_J2_init μ a0 = some o) : zc_Met G yJ2_init cJ2_init 1 (Option.none : Option FieldType) 0 3 60 μ [zc_rv G a0] o := by
  refine zc_intro hd (by decide) (by simp [lg_sl, zc_rv_cat, iv_cat, jv_cat]) (lv := [(0, zc_rv G a0)]) (by simp [lv_args, zc_rv_cat, iv_cat, jv_cat]) (fun C h hc => ?_)
  have h : zv_Ok C cJ2_init "java/util/ArrayList" := h
  have hc : zc_C C G μ 1 (Option.none : Option FieldType) 0 3 60 "<init>" [] := hc
  have hN : ∀ i, i < 1 → i < zv_n C := fun i q => by rw [hc.2.1]; exact q
  unfold c_J2_init
  refine c_aload_n (x := a0) h 0 dJ2_init_0 rfl rfl ?_
  refine r_ck (fun ht1 => ?_)
  refine c_callI (x := a0) h hc (As := []) (fun o1 e1 => u_J1_init _ a0 o1 e1) [21] ht1 (by decide) q182 q183 rfl q184 q134 (by omega) (by omega) zc_s0 (by omega) (fun z hz => by cases hz) ⟨by decide, by decide⟩ (n := 0) (by decide +kernel) rfl rfl dJ2_init_1 (fun _ μ2 _ => r_k0 ?_)
  refine c_aload_n (x := a0) h 0 dJ2_init_4 rfl rfl ?_
  refine c_empty h hc q189 dJ2_init_5 ?_
  refine r_ck (fun ht3 => ?_)
  refine c_putR (x := a0) (y := (-51)) h hc [21] 1 false (zc_lk1 h q191) ht3 (by decide) (Or.inl rfl) (ty := (.array (.object "java/lang/Object"))) (by decide +kernel) (Or.inr ⟨_, rfl⟩) dJ2_init_8 (fun μ4 he5 => ?_)
  exact c_vret h hc rfl dJ2_init_11
theorem dJ2_init_2_0 : decode cJ2_init_2 0 = .ok (.aload_n 0, 1) := by decide +kernel
theorem dJ2_init_2_1 : decode cJ2_init_2 1 = .ok (.invokespecial 1, 3) := by decide +kernel
theorem dJ2_init_2_4 : decode cJ2_init_2 4 = .ok (.iload_n 1, 1) := by decide +kernel
theorem dJ2_init_2_5 : decode cJ2_init_2 5 = .ok (.ifCond .le 14, 3) := by decide +kernel
theorem dJ2_init_2_8 : decode cJ2_init_2 8 = .ok (.aload_n 0, 1) := by decide +kernel
theorem dJ2_init_2_9 : decode cJ2_init_2 9 = .ok (.iload_n 1, 1) := by decide +kernel
theorem dJ2_init_2_10 : decode cJ2_init_2 10 = .ok (.anewarray 7, 3) := by decide +kernel
theorem dJ2_init_2_13 : decode cJ2_init_2 13 = .ok (.putfield 9, 3) := by decide +kernel
theorem dJ2_init_2_16 : decode cJ2_init_2 16 = .ok (.goto 44, 3) := by decide +kernel
theorem dJ2_init_2_19 : decode cJ2_init_2 19 = .ok (.iload_n 1, 1) := by decide +kernel
theorem dJ2_init_2_20 : decode cJ2_init_2 20 = .ok (.ifCond .ne 13, 3) := by decide +kernel
theorem dJ2_init_2_23 : decode cJ2_init_2 23 = .ok (.aload_n 0, 1) := by decide +kernel
theorem dJ2_init_2_24 : decode cJ2_init_2 24 = .ok (.getstatic 15, 3) := by decide +kernel
theorem dJ2_init_2_27 : decode cJ2_init_2 27 = .ok (.putfield 9, 3) := by decide +kernel
theorem dJ2_init_2_30 : decode cJ2_init_2 30 = .ok (.goto 30, 3) := by decide +kernel
theorem dJ2_init_2_33 : decode cJ2_init_2 33 = .ok (.new 18, 3) := by decide +kernel
theorem dJ2_init_2_36 : decode cJ2_init_2 36 = .ok (.dup, 1) := by decide +kernel
theorem dJ2_init_2_37 : decode cJ2_init_2 37 = .ok (.new 20, 3) := by decide +kernel
theorem dJ2_init_2_40 : decode cJ2_init_2 40 = .ok (.dup, 1) := by decide +kernel
theorem dJ2_init_2_41 : decode cJ2_init_2 41 = .ok (.invokespecial 22, 3) := by decide +kernel
theorem dJ2_init_2_44 : decode cJ2_init_2 44 = .ok (.ldc 23, 2) := by decide +kernel
theorem dJ2_init_2_46 : decode cJ2_init_2 46 = .ok (.invokevirtual 25, 3) := by decide +kernel
theorem dJ2_init_2_49 : decode cJ2_init_2 49 = .ok (.iload_n 1, 1) := by decide +kernel
theorem dJ2_init_2_50 : decode cJ2_init_2 50 = .ok (.invokevirtual 29, 3) := by decide +kernel
theorem dJ2_init_2_53 : decode cJ2_init_2 53 = .ok (.invokevirtual 32, 3) := by decide +kernel
theorem dJ2_init_2_56 : decode cJ2_init_2 56 = .ok (.invokespecial 36, 3) := by decide +kernel
theorem dJ2_init_2_59 : decode cJ2_init_2 59 = .ok (.athrow, 1) := by decide +kernel
theorem dJ2_init_2_60 : decode cJ2_init_2 60 = .ok (.return_, 1) := by decide +kernel
def c_J2_init_2 (μ : MEM) (a0 a1 : Int) : Option zc_O := ck (zt [21] (μ a0 (-1)) = true) (bc (c_J1_init μ a0) (fun _ μ2 => if a1 ≤ 0 then (if a1 = 0 then none else none) else (ck ((0 : Int) ≤ a1 ∧ a1 ≤ 1000000) (ck (1 ≤ μ2 0 1 ∧ a1 ≤ μ2 0 2) (nu (mnew μ2 36 a1 a1) (fun μ3 => ck (zt [21] (μ3 a0 (-1)) = true) (nu (mup μ3 a0 1 (μ2 0 0)) (fun μ6 => some (0, 0, μ6)))))))))
theorem u_J2_init_2 {G : zc_G} (μ : MEM) (a0 a1 : Int) (ha1 : inR a1) (o : zc_O) (hd : c_J2_init_2 μ a0 a1 = some o) : zc_Met G yJ2_init_2 cJ2_init_2 2 (Option.none : Option FieldType) 0 3 60 μ [zc_rv G a0, iv a1] o := by
  refine zc_intro hd (by decide) (by simp [lg_sl, zc_rv_cat, iv_cat, jv_cat]) (lv := [(0, zc_rv G a0), (1, iv a1)]) (by simp [lv_args, zc_rv_cat, iv_cat, jv_cat]) (fun C h hc => ?_)
  have h : zv_Ok C cJ2_init_2 "java/util/ArrayList" := h
  have hc : zc_C C G μ 2 (Option.none : Option FieldType) 0 3 60 "<init>" [] := hc
  have hN : ∀ i, i < 2 → i < zv_n C := fun i q => by rw [hc.2.1]; exact q
  unfold c_J2_init_2
  refine c_aload_n (x := a0) h 0 dJ2_init_2_0 rfl rfl ?_
  refine r_ck (fun ht1 => ?_)
  refine c_callI (x := a0) h hc (As := []) (fun o1 e1 => u_J1_init _ a0 o1 e1) [21] ht1 (by decide) q182 q183 rfl q184 q134 (by omega) (by omega) zc_s0 (by omega) (fun z hz => by cases hz) ⟨by decide, by decide⟩ (n := 0) (by decide +kernel) rfl rfl dJ2_init_2_1 (fun _ μ2 _ => r_k0 ?_)
  refine r_iload_n h 1 dJ2_init_2_4 rfl rfl ?_
  refine r_if_le (x := a1) h ha1 19 dJ2_init_2_5 rfl ?_ ?_
  · refine r_iload_n h 1 dJ2_init_2_19 rfl rfl ?_
    refine r_if_ne (x := a1) h ha1 33 dJ2_init_2_20 rfl ?_ ?_
    · refine c_aload_n (x := a0) h 0 dJ2_init_2_23 rfl rfl ?_
      exact r_none
    · exact r_none
  · refine c_aload_n (x := a0) h 0 dJ2_init_2_8 rfl rfl ?_
    refine r_iload_n h 1 dJ2_init_2_9 rfl rfl ?_
    refine c_na36 (x := a1) h hc q304 ha1 dJ2_init_2_10 (fun _ _ μ3 he4 => ?_)
    refine r_ck (fun ht5 => ?_)
    refine c_putR (x := a0) (y := (μ2 0 0)) h hc [21] 1 false (zc_lk1 h q191) ht5 (by decide) (Or.inl rfl) (ty := (.array (.object "java/lang/Object"))) (by decide +kernel) (Or.inr ⟨_, rfl⟩) dJ2_init_2_13 (fun μ6 he7 => ?_)
    refine r_goto h 60 dJ2_init_2_16 rfl ?_
    exact c_vret h hc rfl dJ2_init_2_60
theorem dJ2_size_0 : decode cJ2_size 0 = .ok (.aload_n 0, 1) := by decide +kernel
theorem dJ2_size_1 : decode cJ2_size 1 = .ok (.getfield 48, 3) := by decide +kernel
theorem dJ2_size_4 : decode cJ2_size 4 = .ok (.ireturn, 1) := by decide +kernel
def c_J2_size (μ : MEM) (a0 : Int) : Option zc_O := ck (zt [21] (μ a0 (-1)) = true) (some (0, (μ a0 2), μ))
theorem u_J2_size {G : zc_G} (μ : MEM) (a0 : Int) (o : zc_O) (hd : c_J2_size μ a0 = some o) : zc_Met G yJ2_size cJ2_size 1 (Option.some FieldType.int) 1 0 0 μ [zc_rv G a0] o := by
  refine zc_intro hd (by decide) (by simp [lg_sl, zc_rv_cat, iv_cat, jv_cat]) (lv := [(0, zc_rv G a0)]) (by simp [lv_args, zc_rv_cat, iv_cat, jv_cat]) (fun C h hc => ?_)
  have h : zv_Ok C cJ2_size "java/util/ArrayList" := h
  have hc : zc_C C G μ 1 (Option.some FieldType.int) 1 0 0 "size" [] := hc
  have hN : ∀ i, i < 1 → i < zv_n C := fun i q => by rw [hc.2.1]; exact q
  unfold c_J2_size
  refine c_aload_n (x := a0) h 0 dJ2_size_0 rfl rfl ?_
  refine r_ck (fun ht1 => ?_)
  refine c_getI (fin := false) h hc [21] 2 (zc_lk1 h q192) ht1 (by decide) dJ2_size_1 (fun hr2 => ?_)
  exact c_iret h hc rfl hr2 dJ2_size_4
theorem dJ8_checkIndex_0 : decode cJ8_checkIndex 0 = .ok (.iload_n 0, 1) := by decide +kernel
theorem dJ8_checkIndex_1 : decode cJ8_checkIndex 1 = .ok (.ifCond .lt 8, 3) := by decide +kernel
theorem dJ8_checkIndex_4 : decode cJ8_checkIndex 4 = .ok (.iload_n 0, 1) := by decide +kernel
theorem dJ8_checkIndex_5 : decode cJ8_checkIndex 5 = .ok (.iload_n 1, 1) := by decide +kernel
theorem dJ8_checkIndex_6 : decode cJ8_checkIndex 6 = .ok (.if_icmp .lt 10, 3) := by decide +kernel
theorem dJ8_checkIndex_9 : decode cJ8_checkIndex 9 = .ok (.aload_n 2, 1) := by decide +kernel
theorem dJ8_checkIndex_10 : decode cJ8_checkIndex 10 = .ok (.iload_n 0, 1) := by decide +kernel
theorem dJ8_checkIndex_11 : decode cJ8_checkIndex 11 = .ok (.iload_n 1, 1) := by decide +kernel
theorem dJ8_checkIndex_12 : decode cJ8_checkIndex 12 = .ok (.invokestatic 95, 3) := by decide +kernel
theorem dJ8_checkIndex_15 : decode cJ8_checkIndex 15 = .ok (.athrow, 1) := by decide +kernel
theorem dJ8_checkIndex_16 : decode cJ8_checkIndex 16 = .ok (.iload_n 0, 1) := by decide +kernel
theorem dJ8_checkIndex_17 : decode cJ8_checkIndex 17 = .ok (.ireturn, 1) := by decide +kernel
def c_J8_checkIndex (μ : MEM) (a0 a1 a2 : Int) : Option zc_O := if a0 < 0 then none else (if a0 < a1 then (some (0, a0, μ)) else none)
theorem u_J8_checkIndex {G : zc_G} (μ : MEM) (a0 a1 a2 : Int) (ha0 : inR a0) (ha1 : inR a1) (o : zc_O) (hd : c_J8_checkIndex μ a0 a1 a2 = some o) : zc_Met G yJ8_checkIndex cJ8_checkIndex 3 (Option.some FieldType.int) 1 0 0 μ [iv a0, iv a1, zc_rv G a2] o := by
  refine zc_intro hd (by decide) (by simp [lg_sl, zc_rv_cat, iv_cat, jv_cat]) (lv := [(0, iv a0), (1, iv a1), (2, zc_rv G a2)]) (by simp [lv_args, zc_rv_cat, iv_cat, jv_cat]) (fun C h hc => ?_)
  have h : zv_Ok C cJ8_checkIndex "jdk/internal/util/Preconditions" := h
  have hc : zc_C C G μ 3 (Option.some FieldType.int) 1 0 0 "checkIndex" [] := hc
  have hN : ∀ i, i < 3 → i < zv_n C := fun i q => by rw [hc.2.1]; exact q
  unfold c_J8_checkIndex
  refine r_iload_n h 0 dJ8_checkIndex_0 rfl rfl ?_
  refine r_if_lt (x := a0) h ha0 9 dJ8_checkIndex_1 rfl ?_ ?_
  · refine c_aload_n (x := a2) h 2 dJ8_checkIndex_9 rfl rfl ?_
    refine r_iload_n h 0 dJ8_checkIndex_10 rfl rfl ?_
    refine r_iload_n h 1 dJ8_checkIndex_11 rfl rfl ?_
    exact r_none
  · refine r_iload_n h 0 dJ8_checkIndex_4 rfl rfl ?_
    refine r_iload_n h 1 dJ8_checkIndex_5 rfl rfl ?_
    refine r_icmp_lt (x := a0) (y := a1) h ha0 ha1 16 dJ8_checkIndex_6 rfl ?_ ?_
    · refine r_iload_n h 0 dJ8_checkIndex_16 rfl rfl ?_
      exact c_iret h hc rfl ha0 dJ8_checkIndex_17
    · refine c_aload_n (x := a2) h 2 dJ8_checkIndex_9 rfl rfl ?_
      refine r_iload_n h 0 dJ8_checkIndex_10 rfl rfl ?_
      refine r_iload_n h 1 dJ8_checkIndex_11 rfl rfl ?_
      exact r_none
theorem dJ13_checkIndex_0 : decode cJ13_checkIndex 0 = .ok (.iload_n 0, 1) := by decide +kernel
theorem dJ13_checkIndex_1 : decode cJ13_checkIndex 1 = .ok (.iload_n 1, 1) := by decide +kernel
theorem dJ13_checkIndex_2 : decode cJ13_checkIndex 2 = .ok (.aconst_null, 1) := by decide +kernel
theorem dJ13_checkIndex_3 : decode cJ13_checkIndex 3 = .ok (.invokestatic 105, 3) := by decide +kernel
theorem dJ13_checkIndex_6 : decode cJ13_checkIndex 6 = .ok (.ireturn, 1) := by decide +kernel
def c_J13_checkIndex (μ : MEM) (a0 a1 : Int) : Option zc_O := bc (c_J8_checkIndex μ a0 a1 0) (fun r1 μ2 => some (0, r1, μ2))
theorem u_J13_checkIndex {G : zc_G} (μ : MEM) (a0 a1 : Int) (ha0 : inR a0) (ha1 : inR a1) (o : zc_O) (hd : c_J13_checkIndex μ a0 a1 = some o) : zc_Met G yJ13_checkIndex cJ13_checkIndex 2 (Option.some FieldType.int) 1 1 22 μ [iv a0, iv a1] o := by
  refine zc_intro hd (by decide) (Nat.le_of_ble_eq_true rfl) rfl (fun C h hc => ?_)
  have h : zv_Ok C cJ13_checkIndex "java/util/Objects" := h
  have hc : zc_C C G μ 2 (Option.some FieldType.int) 1 1 22 "checkIndex" [] := hc
  have hN : ∀ i, i < 2 → i < zv_n C := fun i q => by rw [hc.2.1]; exact q
  unfold c_J13_checkIndex
  refine r_iload_n h 0 dJ13_checkIndex_0 rfl rfl ?_
  refine r_iload_n h 1 dJ13_checkIndex_1 rfl rfl ?_
  refine c_null G h dJ13_checkIndex_2 ?_
  refine c_callS h hc (As := [iv a0, iv a1, zc_rv G 0]) (fun o1 e1 => u_J8_checkIndex _ a0 a1 0 ha0 ha1 o1 e1) q850 q538 q539 q148 (by omega) (by omega) zc_s0 (by omega) (fun z hz => by cases hz) ⟨by decide, by decide⟩ (n := 3) (by decide +kernel) rfl rfl dJ13_checkIndex_3 (fun r1 μ2 hr3 => r_k1 ?_)
  exact c_iret h hc rfl hr3 dJ13_checkIndex_6
theorem dJ2_elementData_0 : decode cJ2_elementData 0 = .ok (.aload_n 0, 1) := by decide +kernel
theorem dJ2_elementData_1 : decode cJ2_elementData 1 = .ok (.getfield 9, 3) := by decide +kernel
theorem dJ2_elementData_4 : decode cJ2_elementData 4 = .ok (.iload_n 1, 1) := by decide +kernel
theorem dJ2_elementData_5 : decode cJ2_elementData 5 = .ok (.aaload, 1) := by decide +kernel
theorem dJ2_elementData_6 : decode cJ2_elementData 6 = .ok (.areturn, 1) := by decide +kernel
def c_J2_elementData (μ : MEM) (a0 a1 : Int) : Option zc_O := ck (zt [21] (μ a0 (-1)) = true) (ck (zt [36] (μ (μ a0 1) (-1)) = true) (ck ((0 : Int) ≤ a1 ∧ a1 < μ (μ a0 1) (-2)) (some (0, (μ (μ a0 1) a1), μ))))
theorem u_J2_elementData {G : zc_G} (μ : MEM) (a0 a1 : Int) (ha1 : inR a1) (o : zc_O) (hd : c_J2_elementData μ a0 a1 = some o) : zc_Met G yJ2_elementData cJ2_elementData 2 (Option.some (FieldType.object "java/lang/Object")) 4 0 0 μ [zc_rv G a0, iv a1] o := by
  refine zc_intro hd (by decide) (by simp [lg_sl, zc_rv_cat, iv_cat, jv_cat]) (lv := [(0, zc_rv G a0), (1, iv a1)]) (by simp [lv_args, zc_rv_cat, iv_cat, jv_cat]) (fun C h hc => ?_)
  have h : zv_Ok C cJ2_elementData "java/util/ArrayList" := h
  have hc : zc_C C G μ 2 (Option.some (FieldType.object "java/lang/Object")) 4 0 0 "elementData" [] := hc
  have hN : ∀ i, i < 2 → i < zv_n C := fun i q => by rw [hc.2.1]; exact q
  unfold c_J2_elementData
  refine c_aload_n (x := a0) h 0 dJ2_elementData_0 rfl rfl ?_
  refine r_ck (fun ht1 => ?_)
  refine c_getR (fin := false) h hc [21] 1 (zc_lk1 h q191) ht1 (by decide) dJ2_elementData_1 ?_
  refine r_iload_n h 1 dJ2_elementData_4 rfl rfl ?_
  refine r_ck (fun ht2 => ?_)
  refine c_ldR36 h hc ht2 dJ2_elementData_5 (fun _ => ?_)
  exact c_aret h hc rfl (Or.inl ⟨_, rfl⟩) dJ2_elementData_6
theorem dJ2_get_0 : decode cJ2_get 0 = .ok (.iload_n 1, 1) := by decide +kernel
theorem dJ2_get_1 : decode cJ2_get 1 = .ok (.aload_n 0, 1) := by decide +kernel
theorem dJ2_get_2 : decode cJ2_get 2 = .ok (.getfield 48, 3) := by decide +kernel
theorem dJ2_get_5 : decode cJ2_get 5 = .ok (.invokestatic 118, 3) := by decide +kernel
theorem dJ2_get_8 : decode cJ2_get 8 = .ok (.pop, 1) := by decide +kernel
theorem dJ2_get_9 : decode cJ2_get 9 = .ok (.aload_n 0, 1) := by decide +kernel
theorem dJ2_get_10 : decode cJ2_get 10 = .ok (.iload_n 1, 1) := by decide +kernel
theorem dJ2_get_11 : decode cJ2_get 11 = .ok (.invokevirtual 123, 3) := by decide +kernel
theorem dJ2_get_14 : decode cJ2_get 14 = .ok (.areturn, 1) := by decide +kernel
def c_J2_get (μ : MEM) (a0 a1 : Int) : Option zc_O := ck (zt [21] (μ a0 (-1)) = true) (bc (c_J13_checkIndex μ a1 (μ a0 2)) (fun r3 μ4 => ck (zt [21] (μ4 a0 (-1)) = true) (bc (c_J2_elementData μ4 a0 a1) (fun r7 μ8 => some (0, r7, μ8)))))
theorem u_J2_get {G : zc_G} (μ : MEM) (a0 a1 : Int) (ha1 : inR a1) (o : zc_O) (hd : c_J2_get μ a0 a1 = some o) : zc_Met G yJ2_get cJ2_get 2 (Option.some (FieldType.object "java/lang/Object")) 4 2 43 μ [zc_rv G a0, iv a1] o := by
  refine zc_intro hd (by decide) (by simp [lg_sl, zc_rv_cat, iv_cat, jv_cat]) (lv := [(0, zc_rv G a0), (1, iv a1)]) (by simp [lv_args, zc_rv_cat, iv_cat, jv_cat]) (fun C h hc => ?_)
  have h : zv_Ok C cJ2_get "java/util/ArrayList" := h
  have hc : zc_C C G μ 2 (Option.some (FieldType.object "java/lang/Object")) 4 2 43 "get" [] := hc
  have hN : ∀ i, i < 2 → i < zv_n C := fun i q => by rw [hc.2.1]; exact q
  unfold c_J2_get
  refine r_iload_n h 1 dJ2_get_0 rfl rfl ?_
  refine c_aload_n (x := a0) h 0 dJ2_get_1 rfl rfl ?_
  refine r_ck (fun ht1 => ?_)
  refine c_getI (fin := false) h hc [21] 2 (zc_lk1 h q192) ht1 (by decide) dJ2_get_2 (fun hr2 => ?_)
  refine c_callS h hc (As := [iv a1, iv (μ a0 2)]) (fun o1 e1 => u_J13_checkIndex _ a1 (μ a0 2) ha1 hr2 o1 e1) q847 q848 q849 q157 (by omega) (by omega) zc_s0 (by omega) (fun z hz => by cases hz) ⟨by decide, by decide⟩ (n := 2) (by decide +kernel) rfl rfl dJ2_get_5 (fun r3 μ4 hr5 => r_k1 ?_)
  refine r_pop h dJ2_get_8 (iv_cat _) ?_
  refine c_aload_n (x := a0) h 0 dJ2_get_9 rfl rfl ?_
  refine r_iload_n h 1 dJ2_get_10 rfl rfl ?_
  refine r_ck (fun ht6 => ?_)
  refine c_callV (x := a0) h hc (As := [iv a1]) (fun o1 e1 => u_J2_elementData _ a0 a1 ha1 o1 e1) [21] ht6 (by decide) q851 q852 (fun t ht => by cases List.mem_singleton.mp ht; exact q853) q854 q135 (by omega) (by omega) zc_s0 (by omega) (fun z hz => by cases hz) ⟨by decide, by decide⟩ (n := 1) (by decide +kernel) rfl rfl dJ2_get_11 (fun r7 μ8 hr9 => r_k4 ?_)
  exact c_aret h hc rfl (Or.inl ⟨_, rfl⟩) dJ2_get_14
theorem dJ2_clear_0 : decode cJ2_clear 0 = .ok (.aload_n 0, 1) := by decide +kernel
theorem dJ2_clear_1 : decode cJ2_clear 1 = .ok (.dup, 1) := by decide +kernel
theorem dJ2_clear_2 : decode cJ2_clear 2 = .ok (.getfield 63, 3) := by decide +kernel
theorem dJ2_clear_5 : decode cJ2_clear 5 = .ok (.iconst 1, 1) := by decide +kernel
theorem dJ2_clear_6 : decode cJ2_clear 6 = .ok (.iadd, 1) := by decide +kernel
theorem dJ2_clear_7 : decode cJ2_clear 7 = .ok (.putfield 63, 3) := by decide +kernel
theorem dJ2_clear_10 : decode cJ2_clear 10 = .ok (.aload_n 0, 1) := by decide +kernel
theorem dJ2_clear_11 : decode cJ2_clear 11 = .ok (.getfield 9, 3) := by decide +kernel
theorem dJ2_clear_14 : decode cJ2_clear 14 = .ok (.astore_n 1, 1) := by decide +kernel
theorem dJ2_clear_15 : decode cJ2_clear 15 = .ok (.aload_n 0, 1) := by decide +kernel
theorem dJ2_clear_16 : decode cJ2_clear 16 = .ok (.getfield 48, 3) := by decide +kernel
theorem dJ2_clear_19 : decode cJ2_clear 19 = .ok (.istore_n 2, 1) := by decide +kernel
theorem dJ2_clear_20 : decode cJ2_clear 20 = .ok (.aload_n 0, 1) := by decide +kernel
theorem dJ2_clear_21 : decode cJ2_clear 21 = .ok (.iconst 0, 1) := by decide +kernel
theorem dJ2_clear_22 : decode cJ2_clear 22 = .ok (.dup_x1, 1) := by decide +kernel
theorem dJ2_clear_23 : decode cJ2_clear 23 = .ok (.putfield 48, 3) := by decide +kernel
theorem dJ2_clear_26 : decode cJ2_clear 26 = .ok (.istore_n 3, 1) := by decide +kernel
theorem dJ2_clear_27 : decode cJ2_clear 27 = .ok (.iload_n 3, 1) := by decide +kernel
theorem dJ2_clear_28 : decode cJ2_clear 28 = .ok (.iload_n 2, 1) := by decide +kernel
theorem dJ2_clear_29 : decode cJ2_clear 29 = .ok (.if_icmp .ge 13, 3) := by decide +kernel
theorem dJ2_clear_32 : decode cJ2_clear 32 = .ok (.aload_n 1, 1) := by decide +kernel
theorem dJ2_clear_33 : decode cJ2_clear 33 = .ok (.iload_n 3, 1) := by decide +kernel
theorem dJ2_clear_34 : decode cJ2_clear 34 = .ok (.aconst_null, 1) := by decide +kernel
theorem dJ2_clear_35 : decode cJ2_clear 35 = .ok (.aastore, 1) := by decide +kernel
theorem dJ2_clear_36 : decode cJ2_clear 36 = .ok (.iinc 3 1, 3) := by decide +kernel
theorem dJ2_clear_39 : decode cJ2_clear 39 = .ok (.goto (-12), 3) := by decide +kernel
theorem dJ2_clear_42 : decode cJ2_clear 42 = .ok (.return_, 1) := by decide +kernel
def c_J2_clear_27 : Nat → MEM → Int → Int → Int → Option zc_O
  | 0, _, _, _, _ => none
  | n + 1, μ, x1, x2, x3 => if x2 ≤ x3 then (some (0, 0, μ)) else (ck (zt [36] (μ x1 (-1)) = true) (ck (0 = 0 ∨ zt zc_vt (μ 0 (-1)) = true) (ck ((0 : Int) ≤ x3 ∧ x3 < μ x1 (-2)) (nu (mup μ x1 x3 0) (fun μ2 => ck (inR (x3 + 1)) (c_J2_clear_27 n μ2 x1 x2 (x3 + 1)))))))
theorem u_J2_clear_27 {C : zv_Cx zc_O} {G : zc_G} {μ0 : MEM} (h : zv_Ok C cJ2_clear "java/util/ArrayList") (hc : zc_C C G μ0 4 (Option.none : Option FieldType) 0 0 0 "clear" []) : ∀ (n : Nat) (μ : MEM) (x1 x2 x3 : Int), inR x2 → inR x3 → VV C (c_J2_clear_27 n μ x1 x2 x3) μ [(1, zc_rv G x1), (2, iv x2), (3, iv x3)] [] 27 := by
  have hN : ∀ i, i < 4 → i < zv_n C := fun i q => by rw [hc.2.1]; exact q
  intro n
  induction n with
  | zero => intros; exact r_none
  | succ n ih =>
    intro μ x1 x2 x3 hx2 hx3
    rw [c_J2_clear_27]
    refine r_iload_n h 2 dJ2_clear_27 rfl rfl ?_
    refine r_iload_n h 1 dJ2_clear_28 rfl rfl ?_
    refine r_icmp_ge (x := x3) (y := x2) h hx3 hx2 42 dJ2_clear_29 rfl ?_ ?_
    · exact c_vret h hc rfl dJ2_clear_42
    · refine c_aload_n (x := x1) h 0 dJ2_clear_32 rfl rfl ?_
      refine r_iload_n h 2 dJ2_clear_33 rfl rfl ?_
      refine c_null G h dJ2_clear_34 ?_
      refine r_ck (fun ht1 => ?_)
      refine c_stR36 (x := x1) (y := x3) (z := 0) h hc ht1  dJ2_clear_35 (fun hb4 μ2 he3 => ?_)
      refine r_iinc (lv' := [(3, iv (x3 + 1)), (1, zc_rv G x1), (2, iv x2)]) h 2 dJ2_clear_36 rfl (hN _ (by decide)) rfl ?_
      refine r_goto h 27 dJ2_clear_39 rfl ?_
      refine r_ck (fun hk5 => ?_)
      exact r_lv [1, 2, 0] rfl (ih _ x1 x2 (x3 + 1) hx2 hk5)
def c_J2_clear (μ : MEM) (a0 : Int) : Option zc_O := ck (zt [21] (μ a0 (-1)) = true) (nu (mup μ a0 0 (zw ((μ a0 0) + 1))) (fun μ3 => nu (mup μ3 a0 2 0) (fun μ6 => c_J2_clear_27 zF μ6 (μ3 a0 1) (μ3 a0 2) 0)))
theorem u_J2_clear {G : zc_G} (μ : MEM) (a0 : Int) (o : zc_O) (hd : c_J2_clear μ a0 = some o) : zc_Met G yJ2_clear cJ2_clear 4 (Option.none : Option FieldType) 0 0 0 μ [zc_rv G a0] o := by
  refine zc_intro hd (by decide) (by simp [lg_sl, zc_rv_cat, iv_cat, jv_cat]) (lv := [(0, zc_rv G a0)]) (by simp [lv_args, zc_rv_cat, iv_cat, jv_cat]) (fun C h hc => ?_)
  have h : zv_Ok C cJ2_clear "java/util/ArrayList" := h
  have hc : zc_C C G μ 4 (Option.none : Option FieldType) 0 0 0 "clear" [] := hc
  have hN : ∀ i, i < 4 → i < zv_n C := fun i q => by rw [hc.2.1]; exact q
  unfold c_J2_clear
  refine c_aload_n (x := a0) h 0 dJ2_clear_0 rfl rfl ?_
  refine r_dup h dJ2_clear_1 (zc_rv_cat G _) ?_
  refine r_ck (fun ht1 => ?_)
  refine c_getI (fin := false) h hc [21] 0 (zc_lk2 h q194 q195) ht1 (by decide) dJ2_clear_2 (fun hr2 => ?_)
  refine r_iconst h dJ2_clear_5 ?_
  refine r_iadd h dJ2_clear_6 ?_
  refine c_putIw (x := a0) (y := ((μ a0 0) + 1)) h hc [21] 0 false (zc_lk2 h q194 q195) ht1 (by decide) (Or.inl rfl)  dJ2_clear_7 (fun μ3 he4 => ?_)
  refine c_aload_n (x := a0) h 0 dJ2_clear_10 rfl rfl ?_
  refine c_getR (fin := false) h hc [21] 1 (zc_lk1 h q191) (zt_mup he4 (by decide) ht1) (by decide) dJ2_clear_11 ?_
  refine c_astore_n (i := 1) (lv' := [(1, zc_rv G (μ3 a0 1)), (0, zc_rv G a0)]) h dJ2_clear_14 rfl (hN _ (by decide)) (by simp [zc_rv_cat]) ?_
  refine c_aload_n (x := a0) h 1 dJ2_clear_15 rfl rfl ?_
  refine c_getI (fin := false) h hc [21] 2 (zc_lk1 h q192) (zt_mup he4 (by decide) ht1) (by decide) dJ2_clear_16 (fun hr5 => ?_)
  refine r_istore_n (i := 2) (lv' := [(2, iv (μ3 a0 2)), (1, zc_rv G (μ3 a0 1)), (0, zc_rv G a0)]) h dJ2_clear_19 rfl (hN _ (by decide)) (by simp [zc_rv_cat]) ?_
  refine c_aload_n (x := a0) h 2 dJ2_clear_20 rfl rfl ?_
  refine r_iconst h dJ2_clear_21 ?_
  refine r_dup_x1 h dJ2_clear_22 (iv_cat _) (zc_rv_cat G _) ?_
  refine c_putI (x := a0) (y := 0) h hc [21] 2 false (zc_lk1 h q192) (zt_mup he4 (by decide) ht1) (by decide) (Or.inl rfl) (by decide) dJ2_clear_23 (fun μ6 he7 => ?_)
  refine r_istore_n (i := 3) (lv' := [(3, iv 0), (2, iv (μ3 a0 2)), (1, zc_rv G (μ3 a0 1)), (0, zc_rv G a0)]) h dJ2_clear_26 rfl (hN _ (by decide)) rfl ?_
  exact r_lv [2, 1, 0] rfl (u_J2_clear_27 h hc zF _ (μ3 a0 1) (μ3 a0 2) 0 hr5 (by decide))
theorem dJ3_newLength_0 : decode cJ3_newLength 0 = .ok (.iload_n 0, 1) := by decide +kernel
theorem dJ3_newLength_1 : decode cJ3_newLength 1 = .ok (.iload_n 1, 1) := by decide +kernel
theorem dJ3_newLength_2 : decode cJ3_newLength 2 = .ok (.iload_n 2, 1) := by decide +kernel
theorem dJ3_newLength_3 : decode cJ3_newLength 3 = .ok (.invokestatic 194, 3) := by decide +kernel
theorem dJ3_newLength_6 : decode cJ3_newLength 6 = .ok (.iadd, 1) := by decide +kernel
theorem dJ3_newLength_7 : decode cJ3_newLength 7 = .ok (.istore_n 3, 1) := by decide +kernel
theorem dJ3_newLength_8 : decode cJ3_newLength 8 = .ok (.iconst 0, 1) := by decide +kernel
theorem dJ3_newLength_9 : decode cJ3_newLength 9 = .ok (.iload_n 3, 1) := by decide +kernel
theorem dJ3_newLength_10 : decode cJ3_newLength 10 = .ok (.if_icmp .ge 11, 3) := by decide +kernel
theorem dJ3_newLength_13 : decode cJ3_newLength 13 = .ok (.iload_n 3, 1) := by decide +kernel
theorem dJ3_newLength_14 : decode cJ3_newLength 14 = .ok (.ldc 200, 2) := by decide +kernel
theorem dJ3_newLength_16 : decode cJ3_newLength 16 = .ok (.if_icmp .gt 5, 3) := by decide +kernel
theorem dJ3_newLength_19 : decode cJ3_newLength 19 = .ok (.iload_n 3, 1) := by decide +kernel
theorem dJ3_newLength_20 : decode cJ3_newLength 20 = .ok (.ireturn, 1) := by decide +kernel
theorem dJ3_newLength_21 : decode cJ3_newLength 21 = .ok (.iload_n 0, 1) := by decide +kernel
theorem dJ3_newLength_22 : decode cJ3_newLength 22 = .ok (.iload_n 1, 1) := by decide +kernel
theorem dJ3_newLength_23 : decode cJ3_newLength 23 = .ok (.invokestatic 201, 3) := by decide +kernel
theorem dJ3_newLength_26 : decode cJ3_newLength 26 = .ok (.ireturn, 1) := by decide +kernel
def c_J3_newLength (μ : MEM) (a0 a1 a2 : Int) : Option zc_O := ck (inR (a0 + (zmax a1 a2))) (if (a0 + (zmax a1 a2)) ≤ (0 : Int) then none else (if 2147483639 < (a0 + (zmax a1 a2)) then none else (some (0, (a0 + (zmax a1 a2)), μ))))
theorem u_J3_newLength {G : zc_G} (μ : MEM) (a0 a1 a2 : Int) (ha0 : inR a0) (ha1 : inR a1) (ha2 : inR a2) (o : zc_O) (hd : c_J3_newLength μ a0 a1 a2 = some o) : zc_Met G yJ3_newLength cJ3_newLength 4 (Option.some FieldType.int) 1 1 21 μ [iv a0, iv a1, iv a2] o := by
  refine zc_intro hd (by decide) (Nat.le_of_ble_eq_true rfl) rfl (fun C h hc => ?_)
  have h : zv_Ok C cJ3_newLength "jdk/internal/util/ArraysSupport" := h
  have hc : zc_C C G μ 4 (Option.some FieldType.int) 1 1 21 "newLength" [] := hc
  have hN : ∀ i, i < 4 → i < zv_n C := fun i q => by rw [hc.2.1]; exact q
  unfold c_J3_newLength
  refine r_iload_n h 0 dJ3_newLength_0 rfl rfl ?_
  refine r_iload_n h 1 dJ3_newLength_1 rfl rfl ?_
  refine r_iload_n h 2 dJ3_newLength_2 rfl rfl ?_
  refine c_mmax (x := a1) (y := a2) h hc ha1 ha2 q365 (by omega) (zc_sc (iv_cat _) zc_s0) (by omega) dJ3_newLength_3 ?_
  refine r_iadd h dJ3_newLength_6 ?_
  refine r_istore_n (i := 3) (lv' := [(3, iv (a0 + (zmax a1 a2))), (0, iv a0), (1, iv a1), (2, iv a2)]) h dJ3_newLength_7 rfl (hN _ (by decide)) rfl ?_
  refine r_iconst h dJ3_newLength_8 ?_
  refine r_iload_n h 0 dJ3_newLength_9 rfl rfl ?_
  refine r_ck (fun hk1 => ?_)
  refine r_icmp_ge (x := 0) (y := (a0 + (zmax a1 a2))) h (by decide) hk1 21 dJ3_newLength_10 rfl ?_ ?_
  · refine r_iload_n h 1 dJ3_newLength_21 rfl rfl ?_
    refine r_iload_n h 2 dJ3_newLength_22 rfl rfl ?_
    exact r_none
  · refine r_iload_n h 0 dJ3_newLength_13 rfl rfl ?_
    refine r_ldc (x := 2147483639) h q368 (by decide) dJ3_newLength_14 ?_
    refine r_icmp_gt (x := (a0 + (zmax a1 a2))) (y := 2147483639) h hk1 (by decide) 21 dJ3_newLength_16 rfl ?_ ?_
    · refine r_iload_n h 1 dJ3_newLength_21 rfl rfl ?_
      refine r_iload_n h 2 dJ3_newLength_22 rfl rfl ?_
      exact r_none
    · refine r_iload_n h 0 dJ3_newLength_19 rfl rfl ?_
      exact c_iret h hc rfl hk1 dJ3_newLength_20
theorem dJ5_copyOf_2_0 : decode cJ5_copyOf_2 0 = .ok (.aload_n 2, 1) := by decide +kernel
theorem dJ5_copyOf_2_1 : decode cJ5_copyOf_2 1 = .ok (.ldc 110, 2) := by decide +kernel
theorem dJ5_copyOf_2_3 : decode cJ5_copyOf_2 3 = .ok (.if_acmp .ne 10, 3) := by decide +kernel
theorem dJ5_copyOf_2_6 : decode cJ5_copyOf_2 6 = .ok (.iload_n 1, 1) := by decide +kernel
theorem dJ5_copyOf_2_7 : decode cJ5_copyOf_2 7 = .ok (.anewarray 2, 3) := by decide +kernel
theorem dJ5_copyOf_2_10 : decode cJ5_copyOf_2 10 = .ok (.goto 14, 3) := by decide +kernel
theorem dJ5_copyOf_2_13 : decode cJ5_copyOf_2 13 = .ok (.aload_n 2, 1) := by decide +kernel
theorem dJ5_copyOf_2_14 : decode cJ5_copyOf_2 14 = .ok (.invokevirtual 90, 3) := by decide +kernel
theorem dJ5_copyOf_2_17 : decode cJ5_copyOf_2 17 = .ok (.iload_n 1, 1) := by decide +kernel
theorem dJ5_copyOf_2_18 : decode cJ5_copyOf_2 18 = .ok (.invokestatic 95, 3) := by decide +kernel
theorem dJ5_copyOf_2_21 : decode cJ5_copyOf_2 21 = .ok (.checkcast 110, 3) := by decide +kernel
theorem dJ5_copyOf_2_24 : decode cJ5_copyOf_2 24 = .ok (.astore_n 3, 1) := by decide +kernel
theorem dJ5_copyOf_2_25 : decode cJ5_copyOf_2 25 = .ok (.aload_n 0, 1) := by decide +kernel
theorem dJ5_copyOf_2_26 : decode cJ5_copyOf_2 26 = .ok (.iconst 0, 1) := by decide +kernel
theorem dJ5_copyOf_2_27 : decode cJ5_copyOf_2 27 = .ok (.aload_n 3, 1) := by decide +kernel
theorem dJ5_copyOf_2_28 : decode cJ5_copyOf_2 28 = .ok (.iconst 0, 1) := by decide +kernel
theorem dJ5_copyOf_2_29 : decode cJ5_copyOf_2 29 = .ok (.aload_n 0, 1) := by decide +kernel
theorem dJ5_copyOf_2_30 : decode cJ5_copyOf_2 30 = .ok (.arraylength, 1) := by decide +kernel
theorem dJ5_copyOf_2_31 : decode cJ5_copyOf_2 31 = .ok (.iload_n 1, 1) := by decide +kernel
theorem dJ5_copyOf_2_32 : decode cJ5_copyOf_2 32 = .ok (.invokestatic 304, 3) := by decide +kernel
theorem dJ5_copyOf_2_35 : decode cJ5_copyOf_2 35 = .ok (.invokestatic 150, 3) := by decide +kernel
theorem dJ5_copyOf_2_38 : decode cJ5_copyOf_2 38 = .ok (.aload_n 3, 1) := by decide +kernel
theorem dJ5_copyOf_2_39 : decode cJ5_copyOf_2 39 = .ok (.areturn, 1) := by decide +kernel
def c_J5_copyOf_2_24 (μ : MEM) (x0 x1 s0 : Int) : Option zc_O := ck (zt [36, 37] (μ x0 (-1)) = true) (ck (zt [36] (μ x0 (-1)) = true) (ck (zt [36] (μ s0 (-1)) = true) (ck ((0 : Int) ≤ 0 ∧ (0 : Int) ≤ 0 ∧ (0 : Int) ≤ (zmin (μ x0 (-2)) x1) ∧ 0 + (zmin (μ x0 (-2)) x1) ≤ μ x0 (-2) ∧ 0 + (zmin (μ x0 (-2)) x1) ≤ μ s0 (-2)) (ck (zc_rfok zc_vt μ x0 0 (zmin (μ x0 (-2)) x1) = true) (nu (mcpy μ x0 0 s0 0 (zmin (μ x0 (-2)) x1)) (fun μ5 => some (0, s0, μ5)))))))
theorem u_J5_copyOf_2_24 {C : zv_Cx zc_O} {G : zc_G} {μ0 : MEM} (h : zv_Ok C cJ5_copyOf_2 "java/util/Arrays") (hc : zc_C C G μ0 4 (Option.some (FieldType.array (FieldType.object "java/lang/Object"))) 4 1 21 "copyOf" []) (μ : MEM) (x0 x1 s0 : Int) (hx1 : inR x1) : VV C (c_J5_copyOf_2_24 μ x0 x1 s0) μ [(0, zc_rv G x0), (1, iv x1)] [zc_rv G s0] 24 := by
  have hN : ∀ i, i < 4 → i < zv_n C := fun i q => by rw [hc.2.1]; exact q
  unfold c_J5_copyOf_2_24
  refine c_astore_n (i := 3) (lv' := [(3, zc_rv G s0), (0, zc_rv G x0), (1, iv x1)]) h dJ5_copyOf_2_24 rfl (hN _ (by decide)) rfl ?_
  refine c_aload_n (x := x0) h 1 dJ5_copyOf_2_25 rfl rfl ?_
  refine r_iconst h dJ5_copyOf_2_26 ?_
  refine c_aload_n (x := s0) h 0 dJ5_copyOf_2_27 rfl rfl ?_
  refine r_iconst h dJ5_copyOf_2_28 ?_
  refine c_aload_n (x := x0) h 1 dJ5_copyOf_2_29 rfl rfl ?_
  refine r_ck (fun ht1 => ?_)
  refine c_alen h hc [36, 37] ht1 (by decide) dJ5_copyOf_2_30 (fun hr2 => ?_)
  refine r_iload_n h 2 dJ5_copyOf_2_31 rfl rfl ?_
  refine c_mmin (x := (μ x0 (-2))) (y := x1) h hc hr2 hx1 q402 (by omega) (zc_sc (iv_cat _) (zc_sc (zc_rv_cat G _) (zc_sc (iv_cat _) (zc_sc (zc_rv_cat G _) zc_s0)))) (by omega) dJ5_copyOf_2_32 ?_
  refine r_ck (fun ht3 => ?_)
  refine r_ck (fun ht4 => ?_)
  refine c_cp36 (x := x0) (y := s0) (sp := 0) (dp := 0) (n := (zmin (μ x0 (-2)) x1)) h hc q405 (by decide) (by decide) (zmin_r hr2 hx1) ht3 ht4 (by omega) (by show 7 + 11 ≤ _; omega) dJ5_copyOf_2_35 (fun μ5 _ => ?_)
  refine c_aload_n (x := s0) h 0 dJ5_copyOf_2_38 rfl rfl ?_
  exact c_aret h hc rfl (Or.inr ⟨_, rfl⟩) dJ5_copyOf_2_39
def c_J5_copyOf_2 (μ : MEM) (a0 a1 a2 : Int) : Option zc_O := ck (a2 = (-52)) (ck ((0 : Int) ≤ a1 ∧ a1 ≤ 1000000) (ck (1 ≤ μ 0 1 ∧ a1 ≤ μ 0 2) (nu (mnew μ 36 a1 a1) (fun μ1 => c_J5_copyOf_2_24 μ1 a0 a1 (μ 0 0)))))
theorem u_J5_copyOf_2 {G : zc_G} (μ : MEM) (a0 a1 a2 : Int) (ha1 : inR a1) (o : zc_O) (hd : c_J5_copyOf_2 μ a0 a1 a2 = some o) : zc_Met G yJ5_copyOf_2 cJ5_copyOf_2 4 (Option.some (FieldType.array (FieldType.object "java/lang/Object"))) 4 1 21 μ [zc_rv G a0, iv a1, zc_rv G a2] o := by
  refine zc_intro hd (by decide) (by simp [lg_sl, zc_rv_cat, iv_cat, jv_cat]) (lv := [(0, zc_rv G a0), (1, iv a1), (2, zc_rv G a2)]) (by simp [lv_args, zc_rv_cat, iv_cat, jv_cat]) (fun C h hc => ?_)
  have h : zv_Ok C cJ5_copyOf_2 "java/util/Arrays" := h
  have hc : zc_C C G μ 4 (Option.some (FieldType.array (FieldType.object "java/lang/Object"))) 4 1 21 "copyOf" [] := hc
  have hN : ∀ i, i < 4 → i < zv_n C := fun i q => by rw [hc.2.1]; exact q
  unfold c_J5_copyOf_2
  refine c_aload_n (x := a2) h 2 dJ5_copyOf_2_0 rfl rfl ?_
  refine c_ldcM h hc q400 dJ5_copyOf_2_1 ?_
  refine c_acmpM_ne (x := a2) h 13 dJ5_copyOf_2_3 rfl ?_
  refine r_iload_n h 1 dJ5_copyOf_2_6 rfl rfl ?_
  refine c_na36 (x := a1) h hc q401 ha1 dJ5_copyOf_2_7 (fun _ _ μ1 he2 => ?_)
  refine r_goto h 24 dJ5_copyOf_2_10 rfl ?_
  exact r_lv [0, 1] rfl (u_J5_copyOf_2_24 h hc _ a0 a1 (μ 0 0) ha1)
theorem dJ5_copyOf_0 : decode cJ5_copyOf 0 = .ok (.aload_n 0, 1) := by decide +kernel
theorem dJ5_copyOf_1 : decode cJ5_copyOf 1 = .ok (.iload_n 1, 1) := by decide +kernel
theorem dJ5_copyOf_2 : decode cJ5_copyOf 2 = .ok (.aload_n 0, 1) := by decide +kernel
theorem dJ5_copyOf_3 : decode cJ5_copyOf 3 = .ok (.invokevirtual 86, 3) := by decide +kernel
theorem dJ5_copyOf_6 : decode cJ5_copyOf 6 = .ok (.invokestatic 300, 3) := by decide +kernel
theorem dJ5_copyOf_9 : decode cJ5_copyOf 9 = .ok (.areturn, 1) := by decide +kernel
def c_J5_copyOf (μ : MEM) (a0 a1 : Int) : Option zc_O := ck (zt [36] (μ a0 (-1)) = true) (bc (c_J5_copyOf_2 μ a0 a1 (-52)) (fun r2 μ3 => some (0, r2, μ3)))
theorem u_J5_copyOf {G : zc_G} (μ : MEM) (a0 a1 : Int) (ha1 : inR a1) (o : zc_O) (hd : c_J5_copyOf μ a0 a1 = some o) : zc_Met G yJ5_copyOf cJ5_copyOf 2 (Option.some (FieldType.array (FieldType.object "java/lang/Object"))) 4 2 44 μ [zc_rv G a0, iv a1] o := by
  refine zc_intro hd (by decide) (by simp [lg_sl, zc_rv_cat, iv_cat, jv_cat]) (lv := [(0, zc_rv G a0), (1, iv a1)]) (by simp [lv_args, zc_rv_cat, iv_cat, jv_cat]) (fun C h hc => ?_)
  have h : zv_Ok C cJ5_copyOf "java/util/Arrays" := h
  have hc : zc_C C G μ 2 (Option.some (FieldType.array (FieldType.object "java/lang/Object"))) 4 2 44 "copyOf" [] := hc
  have hN : ∀ i, i < 2 → i < zv_n C := fun i q => by rw [hc.2.1]; exact q
  unfold c_J5_copyOf
  refine c_aload_n (x := a0) h 0 dJ5_copyOf_0 rfl rfl ?_
  refine r_iload_n h 1 dJ5_copyOf_1 rfl rfl ?_
  refine c_aload_n (x := a0) h 0 dJ5_copyOf_2 rfl rfl ?_
  refine r_ck (fun ht1 => ?_)
  refine c_getclass h hc q375 ht1 (by omega) (zc_sc (iv_cat _) (zc_sc (zc_rv_cat G _) zc_s0)) (by omega) dJ5_copyOf_3 ?_
  refine c_callS h hc (As := [zc_rv G a0, iv a1, zc_rv G (-52)]) (fun o1 e1 => u_J5_copyOf_2 _ a0 a1 (-52) ha1 o1 e1) q397 q398 q399 q145 (by omega) (by omega) zc_s0 (by omega) (fun z hz => by cases hz) ⟨by decide, by decide⟩ (n := 3) (by decide +kernel) rfl rfl dJ5_copyOf_6 (fun r2 μ3 hr4 => r_k4 ?_)
  exact c_aret h hc rfl (Or.inr ⟨_, rfl⟩) dJ5_copyOf_9
theorem dJ2_grow_2_0 : decode cJ2_grow_2 0 = .ok (.aload_n 0, 1) := by decide +kernel
theorem dJ2_grow_2_1 : decode cJ2_grow_2 1 = .ok (.getfield 9, 3) := by decide +kernel
theorem dJ2_grow_2_4 : decode cJ2_grow_2 4 = .ok (.arraylength, 1) := by decide +kernel
theorem dJ2_grow_2_5 : decode cJ2_grow_2 5 = .ok (.istore_n 2, 1) := by decide +kernel
theorem dJ2_grow_2_6 : decode cJ2_grow_2 6 = .ok (.iload_n 2, 1) := by decide +kernel
theorem dJ2_grow_2_7 : decode cJ2_grow_2 7 = .ok (.ifCond .gt 13, 3) := by decide +kernel
theorem dJ2_grow_2_10 : decode cJ2_grow_2 10 = .ok (.aload_n 0, 1) := by decide +kernel
theorem dJ2_grow_2_11 : decode cJ2_grow_2 11 = .ok (.getfield 9, 3) := by decide +kernel
theorem dJ2_grow_2_14 : decode cJ2_grow_2 14 = .ok (.getstatic 39, 3) := by decide +kernel
theorem dJ2_grow_2_17 : decode cJ2_grow_2 17 = .ok (.if_acmp .eq 28, 3) := by decide +kernel
theorem dJ2_grow_2_20 : decode cJ2_grow_2 20 = .ok (.iload_n 2, 1) := by decide +kernel
theorem dJ2_grow_2_21 : decode cJ2_grow_2 21 = .ok (.iload_n 1, 1) := by decide +kernel
theorem dJ2_grow_2_22 : decode cJ2_grow_2 22 = .ok (.iload_n 2, 1) := by decide +kernel
theorem dJ2_grow_2_23 : decode cJ2_grow_2 23 = .ok (.isub, 1) := by decide +kernel
theorem dJ2_grow_2_24 : decode cJ2_grow_2 24 = .ok (.iload_n 2, 1) := by decide +kernel
theorem dJ2_grow_2_25 : decode cJ2_grow_2 25 = .ok (.iconst 1, 1) := by decide +kernel
theorem dJ2_grow_2_26 : decode cJ2_grow_2 26 = .ok (.ishr, 1) := by decide +kernel
theorem dJ2_grow_2_27 : decode cJ2_grow_2 27 = .ok (.invokestatic 73, 3) := by decide +kernel
theorem dJ2_grow_2_30 : decode cJ2_grow_2 30 = .ok (.istore_n 3, 1) := by decide +kernel
theorem dJ2_grow_2_31 : decode cJ2_grow_2 31 = .ok (.aload_n 0, 1) := by decide +kernel
theorem dJ2_grow_2_32 : decode cJ2_grow_2 32 = .ok (.aload_n 0, 1) := by decide +kernel
theorem dJ2_grow_2_33 : decode cJ2_grow_2 33 = .ok (.getfield 9, 3) := by decide +kernel
theorem dJ2_grow_2_36 : decode cJ2_grow_2 36 = .ok (.iload_n 3, 1) := by decide +kernel
theorem dJ2_grow_2_37 : decode cJ2_grow_2 37 = .ok (.invokestatic 66, 3) := by decide +kernel
theorem dJ2_grow_2_40 : decode cJ2_grow_2 40 = .ok (.dup_x1, 1) := by decide +kernel
theorem dJ2_grow_2_41 : decode cJ2_grow_2 41 = .ok (.putfield 9, 3) := by decide +kernel
theorem dJ2_grow_2_44 : decode cJ2_grow_2 44 = .ok (.areturn, 1) := by decide +kernel
theorem dJ2_grow_2_45 : decode cJ2_grow_2 45 = .ok (.aload_n 0, 1) := by decide +kernel
theorem dJ2_grow_2_46 : decode cJ2_grow_2 46 = .ok (.bipush 10, 2) := by decide +kernel
theorem dJ2_grow_2_48 : decode cJ2_grow_2 48 = .ok (.iload_n 1, 1) := by decide +kernel
theorem dJ2_grow_2_49 : decode cJ2_grow_2 49 = .ok (.invokestatic 79, 3) := by decide +kernel
theorem dJ2_grow_2_52 : decode cJ2_grow_2 52 = .ok (.anewarray 7, 3) := by decide +kernel
theorem dJ2_grow_2_55 : decode cJ2_grow_2 55 = .ok (.dup_x1, 1) := by decide +kernel
theorem dJ2_grow_2_56 : decode cJ2_grow_2 56 = .ok (.putfield 9, 3) := by decide +kernel
theorem dJ2_grow_2_59 : decode cJ2_grow_2 59 = .ok (.areturn, 1) := by decide +kernel
def c_J2_grow_2_20 (μ : MEM) (x0 x1 x2 : Int) : Option zc_O := ck (inR (x1 - x2)) (bc (c_J3_newLength μ x2 (x1 - x2) (i_shr x2 1)) (fun r2 μ3 => ck (zt [21] (μ3 x0 (-1)) = true) (bc (c_J5_copyOf μ3 (μ3 x0 1) r2) (fun r6 μ7 => ck (zt [21] (μ7 x0 (-1)) = true) (nu (mup μ7 x0 1 r6) (fun μ10 => some (0, r6, μ10)))))))
theorem u_J2_grow_2_20 {C : zv_Cx zc_O} {G : zc_G} {μ0 : MEM} (h : zv_Ok C cJ2_grow_2 "java/util/ArrayList") (hc : zc_C C G μ0 4 (Option.some (FieldType.array (FieldType.object "java/lang/Object"))) 4 3 65 "grow" []) (μ : MEM) (x0 x1 x2 : Int) (hx1 : inR x1) (hx2 : inR x2) : VV C (c_J2_grow_2_20 μ x0 x1 x2) μ [(0, zc_rv G x0), (1, iv x1), (2, iv x2)] [] 20 := by
  have hN : ∀ i, i < 4 → i < zv_n C := fun i q => by rw [hc.2.1]; exact q
  unfold c_J2_grow_2_20
  refine r_iload_n h 2 dJ2_grow_2_20 rfl rfl ?_
  refine r_iload_n h 1 dJ2_grow_2_21 rfl rfl ?_
  refine r_iload_n h 2 dJ2_grow_2_22 rfl rfl ?_
  refine r_isub h dJ2_grow_2_23 ?_
  refine r_iload_n h 2 dJ2_grow_2_24 rfl rfl ?_
  refine r_iconst h dJ2_grow_2_25 ?_
  refine r_ishr h dJ2_grow_2_26 ?_
  refine r_ck (fun hk1 => ?_)
  refine c_callS h hc (As := [iv x2, iv (x1 - x2), iv (i_shr x2 1)]) (fun o1 e1 => u_J3_newLength _ x2 (x1 - x2) (i_shr x2 1) hx2 hk1 (inR_t _) o1 e1) q362 q363 q364 q143 (by omega) (by omega) zc_s0 (by omega) (fun z hz => by cases hz) ⟨by decide, by decide⟩ (n := 3) (by decide +kernel) rfl rfl dJ2_grow_2_27 (fun r2 μ3 hr4 => r_k1 ?_)
  refine r_istore_n (i := 3) (lv' := [(3, iv r2), (0, zc_rv G x0), (1, iv x1), (2, iv x2)]) h dJ2_grow_2_30 rfl (hN _ (by decide)) rfl ?_
  refine c_aload_n (x := x0) h 1 dJ2_grow_2_31 rfl rfl ?_
  refine c_aload_n (x := x0) h 1 dJ2_grow_2_32 rfl rfl ?_
  refine r_ck (fun ht5 => ?_)
  refine c_getR (fin := false) h hc [21] 1 (zc_lk1 h q191) ht5 (by decide) dJ2_grow_2_33 ?_
  refine r_iload_n h 0 dJ2_grow_2_36 rfl rfl ?_
  refine c_callS h hc (As := [zc_rv G (μ3 x0 1), iv r2]) (fun o1 e1 => u_J5_copyOf _ (μ3 x0 1) r2 hr4 o1 e1) q372 q373 q374 q145 (by omega) (by omega) (zc_sc (zc_rv_cat G _) zc_s0) (by omega) (fun z hz => by cases hz) ⟨by decide, by decide⟩ (n := 2) (by decide +kernel) rfl rfl dJ2_grow_2_37 (fun r6 μ7 hr8 => r_k4 ?_)
  refine r_dup_x1 h dJ2_grow_2_40 (zc_rv_cat G _) (zc_rv_cat G _) ?_
  refine r_ck (fun ht9 => ?_)
  refine c_putR (x := x0) (y := r6) h hc [21] 1 false (zc_lk1 h q191) ht9 (by decide) (Or.inl rfl) (ty := (.array (.object "java/lang/Object"))) (by decide +kernel) (Or.inr ⟨_, rfl⟩) dJ2_grow_2_41 (fun μ10 he11 => ?_)
  exact c_aret h hc rfl (Or.inr ⟨_, rfl⟩) dJ2_grow_2_44
def c_J2_grow_2 (μ : MEM) (a0 a1 : Int) : Option zc_O := ck (zt [21] (μ a0 (-1)) = true) (ck (zt [36, 37] (μ (μ a0 1) (-1)) = true) (if 0 < (μ (μ a0 1) (-2)) then (c_J2_grow_2_20 μ a0 a1 (μ (μ a0 1) (-2))) else (ck ((μ a0 1) = -51 ∨ zt [36] (μ (μ a0 1) (-1)) = true) (if (μ a0 1) = -51 then (ck ((0 : Int) ≤ (zmax 10 a1) ∧ (zmax 10 a1) ≤ 1000000) (ck (1 ≤ μ 0 1 ∧ (zmax 10 a1) ≤ μ 0 2) (nu (mnew μ 36 (zmax 10 a1) (zmax 10 a1)) (fun μ4 => ck (zt [21] (μ4 a0 (-1)) = true) (nu (mup μ4 a0 1 (μ 0 0)) (fun μ7 => some (0, (μ 0 0), μ7))))))) else (c_J2_grow_2_20 μ a0 a1 (μ (μ a0 1) (-2)))))))
theorem u_J2_grow_2 {G : zc_G} (μ : MEM) (a0 a1 : Int) (ha1 : inR a1) (o : zc_O) (hd : c_J2_grow_2 μ a0 a1 = some o) : zc_Met G yJ2_grow_2 cJ2_grow_2 4 (Option.some (FieldType.array (FieldType.object "java/lang/Object"))) 4 3 65 μ [zc_rv G a0, iv a1] o := by
  refine zc_intro hd (by decide) (by simp [lg_sl, zc_rv_cat, iv_cat, jv_cat]) (lv := [(0, zc_rv G a0), (1, iv a1)]) (by simp [lv_args, zc_rv_cat, iv_cat, jv_cat]) (fun C h hc => ?_)
  have h : zv_Ok C cJ2_grow_2 "java/util/ArrayList" := h
  have hc : zc_C C G μ 4 (Option.some (FieldType.array (FieldType.object "java/lang/Object"))) 4 3 65 "grow" [] := hc
  have hN : ∀ i, i < 4 → i < zv_n C := fun i q => by rw [hc.2.1]; exact q
  unfold c_J2_grow_2
  refine c_aload_n (x := a0) h 0 dJ2_grow_2_0 rfl rfl ?_
  refine r_ck (fun ht1 => ?_)
  refine c_getR (fin := false) h hc [21] 1 (zc_lk1 h q191) ht1 (by decide) dJ2_grow_2_1 ?_
  refine r_ck (fun ht2 => ?_)
  refine c_alen h hc [36, 37] ht2 (by decide) dJ2_grow_2_4 (fun hr3 => ?_)
  refine r_istore_n (i := 2) (lv' := [(2, iv (μ (μ a0 1) (-2))), (0, zc_rv G a0), (1, iv a1)]) h dJ2_grow_2_5 rfl (hN _ (by decide)) rfl ?_
  refine r_iload_n h 0 dJ2_grow_2_6 rfl rfl ?_
  refine r_if_gt (x := (μ (μ a0 1) (-2))) h hr3 20 dJ2_grow_2_7 rfl ?_ ?_
  · exact r_lv [1, 2, 0] rfl (u_J2_grow_2_20 h hc _ a0 a1 (μ (μ a0 1) (-2)) ha1 hr3)
  · refine c_aload_n (x := a0) h 1 dJ2_grow_2_10 rfl rfl ?_
    refine c_getR (fin := false) h hc [21] 1 (zc_lk1 h q191) ht1 (by decide) dJ2_grow_2_11 ?_
    refine c_empty h hc q189 dJ2_grow_2_14 ?_
    refine c_acmpE_eq (x := (μ a0 1)) h hc 45 dJ2_grow_2_17 rfl ?_ ?_
    · refine c_aload_n (x := a0) h 1 dJ2_grow_2_45 rfl rfl ?_
      refine r_bipush h dJ2_grow_2_46 (by decide) ?_
      refine r_iload_n h 2 dJ2_grow_2_48 rfl rfl ?_
      refine c_mmax (x := 10) (y := a1) h hc (by decide) ha1 q406 (by omega) (zc_sc (zc_rv_cat G _) zc_s0) (by omega) dJ2_grow_2_49 ?_
      refine c_na36 (x := (zmax 10 a1)) h hc q304 (zmax_r (by decide) ha1) dJ2_grow_2_52 (fun _ _ μ4 he5 => ?_)
      refine r_dup_x1 h dJ2_grow_2_55 (zc_rv_cat G _) (zc_rv_cat G _) ?_
      refine r_ck (fun ht6 => ?_)
      refine c_putR (x := a0) (y := (μ 0 0)) h hc [21] 1 false (zc_lk1 h q191) ht6 (by decide) (Or.inl rfl) (ty := (.array (.object "java/lang/Object"))) (by decide +kernel) (Or.inr ⟨_, rfl⟩) dJ2_grow_2_56 (fun μ7 he8 => ?_)
      exact c_aret h hc rfl (Or.inr ⟨_, rfl⟩) dJ2_grow_2_59
    · exact r_lv [1, 2, 0] rfl (u_J2_grow_2_20 h hc _ a0 a1 (μ (μ a0 1) (-2)) ha1 hr3)
theorem dJ2_grow_0 : decode cJ2_grow 0 = .ok (.aload_n 0, 1) := by decide +kernel
theorem dJ2_grow_1 : decode cJ2_grow 1 = .ok (.aload_n 0, 1) := by decide +kernel
theorem dJ2_grow_2 : decode cJ2_grow 2 = .ok (.getfield 48, 3) := by decide +kernel
theorem dJ2_grow_5 : decode cJ2_grow 5 = .ok (.iconst 1, 1) := by decide +kernel
theorem dJ2_grow_6 : decode cJ2_grow 6 = .ok (.iadd, 1) := by decide +kernel
theorem dJ2_grow_7 : decode cJ2_grow 7 = .ok (.invokevirtual 69, 3) := by decide +kernel
theorem dJ2_grow_10 : decode cJ2_grow 10 = .ok (.areturn, 1) := by decide +kernel
def c_J2_grow (μ : MEM) (a0 : Int) : Option zc_O := ck (zt [21] (μ a0 (-1)) = true) (ck (inR ((μ a0 2) + 1)) (bc (c_J2_grow_2 μ a0 ((μ a0 2) + 1)) (fun r4 μ5 => some (0, r4, μ5))))
theorem u_J2_grow {G : zc_G} (μ : MEM) (a0 : Int) (o : zc_O) (hd : c_J2_grow μ a0 = some o) : zc_Met G yJ2_grow cJ2_grow 1 (Option.some (FieldType.array (FieldType.object "java/lang/Object"))) 4 4 88 μ [zc_rv G a0] o := by
  refine zc_intro hd (by decide) (by simp [lg_sl, zc_rv_cat, iv_cat, jv_cat]) (lv := [(0, zc_rv G a0)]) (by simp [lv_args, zc_rv_cat, iv_cat, jv_cat]) (fun C h hc => ?_)
  have h : zv_Ok C cJ2_grow "java/util/ArrayList" := h
  have hc : zc_C C G μ 1 (Option.some (FieldType.array (FieldType.object "java/lang/Object"))) 4 4 88 "grow" [] := hc
  have hN : ∀ i, i < 1 → i < zv_n C := fun i q => by rw [hc.2.1]; exact q
  unfold c_J2_grow
  refine c_aload_n (x := a0) h 0 dJ2_grow_0 rfl rfl ?_
  refine c_aload_n (x := a0) h 0 dJ2_grow_1 rfl rfl ?_
  refine r_ck (fun ht1 => ?_)
  refine c_getI (fin := false) h hc [21] 2 (zc_lk1 h q192) ht1 (by decide) dJ2_grow_2 (fun hr2 => ?_)
  refine r_iconst h dJ2_grow_5 ?_
  refine r_iadd h dJ2_grow_6 ?_
  refine r_ck (fun hk3 => ?_)
  refine c_callV (x := a0) h hc (As := [iv ((μ a0 2) + 1)]) (fun o1 e1 => u_J2_grow_2 _ a0 ((μ a0 2) + 1) hk3 o1 e1) [21] ht1 (by decide) q358 q360 (fun t ht => by cases List.mem_singleton.mp ht; exact qs3) q361 q135 (by omega) (by omega) zc_s0 (by omega) (fun z hz => by cases hz) ⟨by decide, by decide⟩ (n := 1) (by decide +kernel) rfl rfl dJ2_grow_7 (fun r4 μ5 hr6 => r_k4 ?_)
  exact c_aret h hc rfl (Or.inr ⟨_, rfl⟩) dJ2_grow_10
theorem dJ2_add_2_0 : decode cJ2_add_2 0 = .ok (.iload_n 3, 1) := by decide +kernel
theorem dJ2_add_2_1 : decode cJ2_add_2 1 = .ok (.aload_n 2, 1) := by decide +kernel
theorem dJ2_add_2_2 : decode cJ2_add_2 2 = .ok (.arraylength, 1) := by decide +kernel
theorem dJ2_add_2_3 : decode cJ2_add_2 3 = .ok (.if_icmp .ne 8, 3) := by decide +kernel
theorem dJ2_add_2_6 : decode cJ2_add_2 6 = .ok (.aload_n 0, 1) := by decide +kernel
theorem dJ2_add_2_7 : decode cJ2_add_2 7 = .ok (.invokevirtual 129, 3) := by decide +kernel
theorem dJ2_add_2_10 : decode cJ2_add_2 10 = .ok (.astore_n 2, 1) := by decide +kernel
theorem dJ2_add_2_11 : decode cJ2_add_2 11 = .ok (.aload_n 2, 1) := by decide +kernel
theorem dJ2_add_2_12 : decode cJ2_add_2 12 = .ok (.iload_n 3, 1) := by decide +kernel
theorem dJ2_add_2_13 : decode cJ2_add_2 13 = .ok (.aload_n 1, 1) := by decide +kernel
theorem dJ2_add_2_14 : decode cJ2_add_2 14 = .ok (.aastore, 1) := by decide +kernel
theorem dJ2_add_2_15 : decode cJ2_add_2 15 = .ok (.aload_n 0, 1) := by decide +kernel
theorem dJ2_add_2_16 : decode cJ2_add_2 16 = .ok (.iload_n 3, 1) := by decide +kernel
theorem dJ2_add_2_17 : decode cJ2_add_2 17 = .ok (.iconst 1, 1) := by decide +kernel
theorem dJ2_add_2_18 : decode cJ2_add_2 18 = .ok (.iadd, 1) := by decide +kernel
theorem dJ2_add_2_19 : decode cJ2_add_2 19 = .ok (.putfield 48, 3) := by decide +kernel
theorem dJ2_add_2_22 : decode cJ2_add_2 22 = .ok (.return_, 1) := by decide +kernel
def c_J2_add_2_11 (μ : MEM) (x0 x1 x2 x3 : Int) : Option zc_O := ck (zt [36] (μ x2 (-1)) = true) (ck (x1 = 0 ∨ zt zc_vt (μ x1 (-1)) = true) (ck ((0 : Int) ≤ x3 ∧ x3 < μ x2 (-2)) (nu (mup μ x2 x3 x1) (fun μ2 => ck (inR (x3 + 1)) (ck (zt [21] (μ2 x0 (-1)) = true) (nu (mup μ2 x0 2 (x3 + 1)) (fun μ7 => some (0, 0, μ7))))))))
theorem u_J2_add_2_11 {C : zv_Cx zc_O} {G : zc_G} {μ0 : MEM} (h : zv_Ok C cJ2_add_2 "java/util/ArrayList") (hc : zc_C C G μ0 4 (Option.none : Option FieldType) 0 5 108 "add" []) (μ : MEM) (x0 x1 x2 x3 : Int) (hx3 : inR x3) : VV C (c_J2_add_2_11 μ x0 x1 x2 x3) μ [(0, zc_rv G x0), (1, zc_rv G x1), (2, zc_rv G x2), (3, iv x3)] [] 11 := by
  have hN : ∀ i, i < 4 → i < zv_n C := fun i q => by rw [hc.2.1]; exact q
  unfold c_J2_add_2_11
  refine c_aload_n (x := x2) h 2 dJ2_add_2_11 rfl rfl ?_
  refine r_iload_n h 3 dJ2_add_2_12 rfl rfl ?_
  refine c_aload_n (x := x1) h 1 dJ2_add_2_13 rfl rfl ?_
  refine r_ck (fun ht1 => ?_)
  refine c_stR36 (x := x2) (y := x3) (z := x1) h hc ht1  dJ2_add_2_14 (fun hb4 μ2 he3 => ?_)
  refine c_aload_n (x := x0) h 0 dJ2_add_2_15 rfl rfl ?_
  refine r_iload_n h 3 dJ2_add_2_16 rfl rfl ?_
  refine r_iconst h dJ2_add_2_17 ?_
  refine r_iadd h dJ2_add_2_18 ?_
  refine r_ck (fun hk5 => ?_)
  refine r_ck (fun ht6 => ?_)
  refine c_putI (x := x0) (y := (x3 + 1)) h hc [21] 2 false (zc_lk1 h q192) ht6 (by decide) (Or.inl rfl) hk5 dJ2_add_2_19 (fun μ7 he8 => ?_)
  exact c_vret h hc rfl dJ2_add_2_22
def c_J2_add_2 (μ : MEM) (a0 a1 a2 a3 : Int) : Option zc_O := ck (zt [36, 37] (μ a2 (-1)) = true) (if a3 = (μ a2 (-2)) then (ck (zt [21] (μ a0 (-1)) = true) (bc (c_J2_grow μ a0) (fun r4 μ5 => c_J2_add_2_11 μ5 a0 a1 r4 a3))) else (c_J2_add_2_11 μ a0 a1 a2 a3))
theorem u_J2_add_2 {G : zc_G} (μ : MEM) (a0 a1 a2 a3 : Int) (ha3 : inR a3) (o : zc_O) (hd : c_J2_add_2 μ a0 a1 a2 a3 = some o) : zc_Met G yJ2_add_2 cJ2_add_2 4 (Option.none : Option FieldType) 0 5 108 μ [zc_rv G a0, zc_rv G a1, zc_rv G a2, iv a3] o := by
  refine zc_intro hd (by decide) (by simp [lg_sl, zc_rv_cat, iv_cat, jv_cat]) (lv := [(0, zc_rv G a0), (1, zc_rv G a1), (2, zc_rv G a2), (3, iv a3)]) (by simp [lv_args, zc_rv_cat, iv_cat, jv_cat]) (fun C h hc => ?_)
  have h : zv_Ok C cJ2_add_2 "java/util/ArrayList" := h
  have hc : zc_C C G μ 4 (Option.none : Option FieldType) 0 5 108 "add" [] := hc
  have hN : ∀ i, i < 4 → i < zv_n C := fun i q => by rw [hc.2.1]; exact q
  unfold c_J2_add_2
  refine r_iload_n h 3 dJ2_add_2_0 rfl rfl ?_
  refine c_aload_n (x := a2) h 2 dJ2_add_2_1 rfl rfl ?_
  refine r_ck (fun ht1 => ?_)
  refine c_alen h hc [36, 37] ht1 (by decide) dJ2_add_2_2 (fun hr2 => ?_)
  refine r_icmp_ne (x := a3) (y := (μ a2 (-2))) h ha3 hr2 11 dJ2_add_2_3 rfl ?_ ?_
  · refine c_aload_n (x := a0) h 0 dJ2_add_2_6 rfl rfl ?_
    refine r_ck (fun ht3 => ?_)
    refine c_callV (x := a0) h hc (As := []) (fun o1 e1 => u_J2_grow _ a0 o1 e1) [21] ht3 (by decide) q354 q356 (fun t ht => by cases List.mem_singleton.mp ht; exact qs2) q357 q135 (by omega) (by omega) zc_s0 (by omega) (fun z hz => by cases hz) ⟨by decide, by decide⟩ (n := 0) (by decide +kernel) rfl rfl dJ2_add_2_7 (fun r4 μ5 hr6 => r_k4 ?_)
    refine c_astore_n (i := 2) (lv' := [(2, zc_rv G r4), (0, zc_rv G a0), (1, zc_rv G a1), (3, iv a3)]) h dJ2_add_2_10 rfl (hN _ (by decide)) (by simp [zc_rv_cat]) ?_
    exact r_lv [1, 2, 0, 3] rfl (u_J2_add_2_11 h hc _ a0 a1 r4 a3 ha3)
  · exact r_lv [0, 1, 2, 3] rfl (u_J2_add_2_11 h hc _ a0 a1 a2 a3 ha3)
theorem dJ2_add_0 : decode cJ2_add 0 = .ok (.aload_n 0, 1) := by decide +kernel
theorem dJ2_add_1 : decode cJ2_add 1 = .ok (.dup, 1) := by decide +kernel
theorem dJ2_add_2 : decode cJ2_add 2 = .ok (.getfield 63, 3) := by decide +kernel
theorem dJ2_add_5 : decode cJ2_add 5 = .ok (.iconst 1, 1) := by decide +kernel
theorem dJ2_add_6 : decode cJ2_add 6 = .ok (.iadd, 1) := by decide +kernel
theorem dJ2_add_7 : decode cJ2_add 7 = .ok (.putfield 63, 3) := by decide +kernel
theorem dJ2_add_10 : decode cJ2_add 10 = .ok (.aload_n 0, 1) := by decide +kernel
theorem dJ2_add_11 : decode cJ2_add 11 = .ok (.aload_n 1, 1) := by decide +kernel
theorem dJ2_add_12 : decode cJ2_add 12 = .ok (.aload_n 0, 1) := by decide +kernel
theorem dJ2_add_13 : decode cJ2_add 13 = .ok (.getfield 9, 3) := by decide +kernel
theorem dJ2_add_16 : decode cJ2_add 16 = .ok (.aload_n 0, 1) := by decide +kernel
theorem dJ2_add_17 : decode cJ2_add 17 = .ok (.getfield 48, 3) := by decide +kernel
theorem dJ2_add_20 : decode cJ2_add 20 = .ok (.invokevirtual 131, 3) := by decide +kernel
theorem dJ2_add_23 : decode cJ2_add 23 = .ok (.iconst 1, 1) := by decide +kernel
theorem dJ2_add_24 : decode cJ2_add 24 = .ok (.ireturn, 1) := by decide +kernel
def c_J2_add (μ : MEM) (a0 a1 : Int) : Option zc_O := ck (zt [21] (μ a0 (-1)) = true) (nu (mup μ a0 0 (zw ((μ a0 0) + 1))) (fun μ3 => bc (c_J2_add_2 μ3 a0 a1 (μ3 a0 1) (μ3 a0 2)) (fun _ μ6 => some (0, 1, μ6))))
theorem u_J2_add {G : zc_G} (μ : MEM) (a0 a1 : Int) (o : zc_O) (hd : c_J2_add μ a0 a1 = some o) : zc_Met G yJ2_add cJ2_add 2 (Option.some FieldType.boolean) 3 6 131 μ [zc_rv G a0, zc_rv G a1] o := by
  refine zc_intro hd (by decide) (by simp [lg_sl, zc_rv_cat, iv_cat, jv_cat]) (lv := [(0, zc_rv G a0), (1, zc_rv G a1)]) (by simp [lv_args, zc_rv_cat, iv_cat, jv_cat]) (fun C h hc => ?_)
  have h : zv_Ok C cJ2_add "java/util/ArrayList" := h
  have hc : zc_C C G μ 2 (Option.some FieldType.boolean) 3 6 131 "add" [] := hc
  have hN : ∀ i, i < 2 → i < zv_n C := fun i q => by rw [hc.2.1]; exact q
  unfold c_J2_add
  refine c_aload_n (x := a0) h 0 dJ2_add_0 rfl rfl ?_
  refine r_dup h dJ2_add_1 (zc_rv_cat G _) ?_
  refine r_ck (fun ht1 => ?_)
  refine c_getI (fin := false) h hc [21] 0 (zc_lk2 h q194 q195) ht1 (by decide) dJ2_add_2 (fun hr2 => ?_)
  refine r_iconst h dJ2_add_5 ?_
  refine r_iadd h dJ2_add_6 ?_
  refine c_putIw (x := a0) (y := ((μ a0 0) + 1)) h hc [21] 0 false (zc_lk2 h q194 q195) ht1 (by decide) (Or.inl rfl)  dJ2_add_7 (fun μ3 he4 => ?_)
  refine c_aload_n (x := a0) h 0 dJ2_add_10 rfl rfl ?_
  refine c_aload_n (x := a1) h 1 dJ2_add_11 rfl rfl ?_
  refine c_aload_n (x := a0) h 0 dJ2_add_12 rfl rfl ?_
  refine c_getR (fin := false) h hc [21] 1 (zc_lk1 h q191) (zt_mup he4 (by decide) ht1) (by decide) dJ2_add_13 ?_
  refine c_aload_n (x := a0) h 0 dJ2_add_16 rfl rfl ?_
  refine c_getI (fin := false) h hc [21] 2 (zc_lk1 h q192) (zt_mup he4 (by decide) ht1) (by decide) dJ2_add_17 (fun hr5 => ?_)
  refine c_callV (x := a0) h hc (As := [zc_rv G a1, zc_rv G (μ3 a0 1), iv (μ3 a0 2)]) (fun o1 e1 => u_J2_add_2 _ a0 a1 (μ3 a0 1) (μ3 a0 2) hr5 o1 e1) [21] (zt_mup he4 (by decide) ht1) (by decide) q350 q352 (fun t ht => by cases List.mem_singleton.mp ht; exact qs1) q353 q135 (by omega) (by omega) zc_s0 (by omega) (fun z hz => by cases hz) ⟨by decide, by decide⟩ (n := 3) (by decide +kernel) rfl rfl dJ2_add_20 (fun _ μ6 _ => r_k0 ?_)
  refine r_iconst h dJ2_add_23 ?_
  exact c_zret h hc rfl (by decide) dJ2_add_24
theorem dJ6_coder_0 : decode cJ6_coder 0 = .ok (.getstatic 38, 3) := by decide +kernel
theorem dJ6_coder_3 : decode cJ6_coder 3 = .ok (.ifCond .eq 10, 3) := by decide +kernel
theorem dJ6_coder_6 : decode cJ6_coder 6 = .ok (.aload_n 0, 1) := by decide +kernel
theorem dJ6_coder_7 : decode cJ6_coder 7 = .ok (.getfield 15, 3) := by decide +kernel
theorem dJ6_coder_10 : decode cJ6_coder 10 = .ok (.goto 4, 3) := by decide +kernel
theorem dJ6_coder_13 : decode cJ6_coder 13 = .ok (.iconst 1, 1) := by decide +kernel
theorem dJ6_coder_14 : decode cJ6_coder 14 = .ok (.ireturn, 1) := by decide +kernel
def c_J6_coder (μ : MEM) (a0 : Int) : Option zc_O := if (1 : Int) = 0 then (some (0, 1, μ)) else (ck ((-43 : Int) ≤ a0 ∧ a0 < 0) (some (0, 0, μ)))
theorem u_J6_coder {G : zc_G} (μ : MEM) (a0 : Int) (o : zc_O) (hd : c_J6_coder μ a0 = some o) : zc_Met G yJ6_coder cJ6_coder 1 (Option.some FieldType.byte) 6 0 0 μ [zc_rv G a0] o := by
  refine zc_intro hd (by decide) (by simp [lg_sl, zc_rv_cat, iv_cat, jv_cat]) (lv := [(0, zc_rv G a0)]) (by simp [lv_args, zc_rv_cat, iv_cat, jv_cat]) (fun C h hc => ?_)
  have h : zv_Ok C cJ6_coder "java/lang/String" := h
  have hc : zc_C C G μ 1 (Option.some FieldType.byte) 6 0 0 "coder" [] := hc
  have hN : ∀ i, i < 1 → i < zv_n C := fun i q => by rw [hc.2.1]; exact q
  unfold c_J6_coder
  refine c_compact h hc q519 dJ6_coder_0 ?_
  refine r_if_eq (x := 1) h (by decide) 13 dJ6_coder_3 rfl ?_ ?_
  · refine r_iconst h dJ6_coder_13 ?_
    exact c_bret h hc rfl (by decide) dJ6_coder_14
  · refine c_aload_n (x := a0) h 0 dJ6_coder_6 rfl rfl ?_
    refine r_ck (fun hs1 => ?_)
    refine c_strC h hc q2252 hs1 dJ6_coder_7 ?_
    refine r_goto h 14 dJ6_coder_10 rfl ?_
    exact c_bret h hc rfl (by decide) dJ6_coder_14
theorem dJ6_length_0 : decode cJ6_length 0 = .ok (.aload_n 0, 1) := by decide +kernel
theorem dJ6_length_1 : decode cJ6_length 1 = .ok (.getfield 9, 3) := by decide +kernel
theorem dJ6_length_4 : decode cJ6_length 4 = .ok (.arraylength, 1) := by decide +kernel
theorem dJ6_length_5 : decode cJ6_length 5 = .ok (.aload_n 0, 1) := by decide +kernel
theorem dJ6_length_6 : decode cJ6_length 6 = .ok (.invokevirtual 335, 3) := by decide +kernel
theorem dJ6_length_9 : decode cJ6_length 9 = .ok (.ishr, 1) := by decide +kernel
theorem dJ6_length_10 : decode cJ6_length 10 = .ok (.ireturn, 1) := by decide +kernel
def c_J6_length (μ : MEM) (a0 : Int) : Option zc_O := ck ((-43 : Int) ≤ a0 ∧ a0 < 0) (ck (zt [30, 31] (μ (a0 - 100) (-1)) = true) (ck ((-43 : Int) ≤ a0 ∧ a0 < 0) (bc (c_J6_coder μ a0) (fun r5 μ6 => some (0, (i_shr (μ (a0 - 100) (-2)) r5), μ6)))))
theorem u_J6_length {G : zc_G} (μ : MEM) (a0 : Int) (o : zc_O) (hd : c_J6_length μ a0 = some o) : zc_Met G yJ6_length cJ6_length 1 (Option.some FieldType.int) 1 1 20 μ [zc_rv G a0] o := by
  refine zc_intro hd (by decide) (by simp [lg_sl, zc_rv_cat, iv_cat, jv_cat]) (lv := [(0, zc_rv G a0)]) (by simp [lv_args, zc_rv_cat, iv_cat, jv_cat]) (fun C h hc => ?_)
  have h : zv_Ok C cJ6_length "java/lang/String" := h
  have hc : zc_C C G μ 1 (Option.some FieldType.int) 1 1 20 "length" [] := hc
  have hN : ∀ i, i < 1 → i < zv_n C := fun i q => by rw [hc.2.1]; exact q
  unfold c_J6_length
  refine c_aload_n (x := a0) h 0 dJ6_length_0 rfl rfl ?_
  refine r_ck (fun hs1 => ?_)
  refine c_strV h hc q2251 hs1 dJ6_length_1 ?_
  refine r_ck (fun ht2 => ?_)
  refine c_alen h hc [30, 31] ht2 (by decide) dJ6_length_4 (fun hr3 => ?_)
  refine c_aload_n (x := a0) h 0 dJ6_length_5 rfl rfl ?_
  refine r_ck (fun hs4 => ?_)
  refine c_callStr (x := a0) h hc (As := []) (fun o1 e1 => u_J6_coder _ a0 o1 e1) hs4 q515 q516 q517 q518 q146 (by omega) (by omega) (zc_sc (iv_cat _) zc_s0) (by omega) (fun z hz => by cases hz) ⟨by decide, by decide⟩ (n := 0) (by decide +kernel) rfl rfl dJ6_length_6 (fun r5 μ6 hr7 => r_k6 ?_)
  refine r_ishr h dJ6_length_9 ?_
  exact c_iret h hc rfl (inR_t _) dJ6_length_10
theorem dJ6_isLatin1_0 : decode cJ6_isLatin1 0 = .ok (.getstatic 38, 3) := by decide +kernel
theorem dJ6_isLatin1_3 : decode cJ6_isLatin1 3 = .ok (.ifCond .eq 14, 3) := by decide +kernel
theorem dJ6_isLatin1_6 : decode cJ6_isLatin1 6 = .ok (.aload_n 0, 1) := by decide +kernel
theorem dJ6_isLatin1_7 : decode cJ6_isLatin1 7 = .ok (.getfield 15, 3) := by decide +kernel
theorem dJ6_isLatin1_10 : decode cJ6_isLatin1 10 = .ok (.ifCond .ne 7, 3) := by decide +kernel
theorem dJ6_isLatin1_13 : decode cJ6_isLatin1 13 = .ok (.iconst 1, 1) := by decide +kernel
theorem dJ6_isLatin1_14 : decode cJ6_isLatin1 14 = .ok (.goto 4, 3) := by decide +kernel
theorem dJ6_isLatin1_17 : decode cJ6_isLatin1 17 = .ok (.iconst 0, 1) := by decide +kernel
theorem dJ6_isLatin1_18 : decode cJ6_isLatin1 18 = .ok (.ireturn, 1) := by decide +kernel
def c_J6_isLatin1 (μ : MEM) (a0 : Int) : Option zc_O := if (1 : Int) = 0 then (some (0, 0, μ)) else (ck ((-43 : Int) ≤ a0 ∧ a0 < 0) (if (0 : Int) = 0 then (some (0, 1, μ)) else (some (0, 0, μ))))
theorem u_J6_isLatin1 {G : zc_G} (μ : MEM) (a0 : Int) (o : zc_O) (hd : c_J6_isLatin1 μ a0 = some o) : zc_Met G yJ6_isLatin1 cJ6_isLatin1 1 (Option.some FieldType.boolean) 3 0 0 μ [zc_rv G a0] o := by
  refine zc_intro hd (by decide) (by simp [lg_sl, zc_rv_cat, iv_cat, jv_cat]) (lv := [(0, zc_rv G a0)]) (by simp [lv_args, zc_rv_cat, iv_cat, jv_cat]) (fun C h hc => ?_)
  have h : zv_Ok C cJ6_isLatin1 "java/lang/String" := h
  have hc : zc_C C G μ 1 (Option.some FieldType.boolean) 3 0 0 "isLatin1" [] := hc
  have hN : ∀ i, i < 1 → i < zv_n C := fun i q => by rw [hc.2.1]; exact q
  unfold c_J6_isLatin1
  refine c_compact h hc q519 dJ6_isLatin1_0 ?_
  refine r_if_eq (x := 1) h (by decide) 17 dJ6_isLatin1_3 rfl ?_ ?_
  · refine r_iconst h dJ6_isLatin1_17 ?_
    exact c_zret h hc rfl (by decide) dJ6_isLatin1_18
  · refine c_aload_n (x := a0) h 0 dJ6_isLatin1_6 rfl rfl ?_
    refine r_ck (fun hs1 => ?_)
    refine c_strC h hc q2252 hs1 dJ6_isLatin1_7 ?_
    refine r_if_ne (x := 0) h (by decide) 17 dJ6_isLatin1_10 rfl ?_ ?_
    · refine r_iconst h dJ6_isLatin1_13 ?_
      refine r_goto h 18 dJ6_isLatin1_14 rfl ?_
      exact c_zret h hc rfl (by decide) dJ6_isLatin1_18
    · refine r_iconst h dJ6_isLatin1_17 ?_
      exact c_zret h hc rfl (by decide) dJ6_isLatin1_18
theorem dJ6_checkIndex_0 : decode cJ6_checkIndex 0 = .ok (.iload_n 0, 1) := by decide +kernel
theorem dJ6_checkIndex_1 : decode cJ6_checkIndex 1 = .ok (.iload_n 1, 1) := by decide +kernel
theorem dJ6_checkIndex_2 : decode cJ6_checkIndex 2 = .ok (.getstatic 1053, 3) := by decide +kernel
theorem dJ6_checkIndex_5 : decode cJ6_checkIndex 5 = .ok (.invokestatic 1059, 3) := by decide +kernel
theorem dJ6_checkIndex_8 : decode cJ6_checkIndex 8 = .ok (.pop, 1) := by decide +kernel
theorem dJ6_checkIndex_9 : decode cJ6_checkIndex 9 = .ok (.return_, 1) := by decide +kernel
def c_J6_checkIndex (G : zc_G) (μ : MEM) (a0 a1 : Int) : Option zc_O := bc (c_J8_checkIndex μ a0 a1 (zc_sf G)) (fun r1 μ2 => some (0, 0, μ2))
theorem u_J6_checkIndex {G : zc_G} (μ : MEM) (a0 a1 : Int) (ha0 : inR a0) (ha1 : inR a1) (o : zc_O) (hd : c_J6_checkIndex G μ a0 a1 = some o) : zc_Met G yJ6_checkIndex cJ6_checkIndex 2 (Option.none : Option FieldType) 0 1 22 μ [iv a0, iv a1] o := by
  refine zc_intro hd (by decide) (Nat.le_of_ble_eq_true rfl) rfl (fun C h hc => ?_)
  have h : zv_Ok C cJ6_checkIndex "java/lang/String" := h
  have hc : zc_C C G μ 2 (Option.none : Option FieldType) 0 1 22 "checkIndex" [] := hc
  have hN : ∀ i, i < 2 → i < zv_n C := fun i q => by rw [hc.2.1]; exact q
  unfold c_J6_checkIndex
  refine r_iload_n h 0 dJ6_checkIndex_0 rfl rfl ?_
  refine r_iload_n h 1 dJ6_checkIndex_1 rfl rfl ?_
  refine c_sioobe h hc q535 dJ6_checkIndex_2 ?_
  refine c_callS h hc (As := [iv a0, iv a1, zc_rv G (zc_sf G)]) (fun o1 e1 => u_J8_checkIndex _ a0 a1 (zc_sf G) ha0 ha1 o1 e1) q537 q538 q539 q148 (by omega) (by omega) zc_s0 (by omega) (fun z hz => by cases hz) ⟨by decide, by decide⟩ (n := 3) (by decide +kernel) rfl rfl dJ6_checkIndex_5 (fun r1 μ2 hr3 => r_k1 ?_)
  refine r_pop h dJ6_checkIndex_8 (iv_cat _) ?_
  exact c_vret h hc rfl dJ6_checkIndex_9
theorem dJ7_charAt_0 : decode cJ7_charAt 0 = .ok (.iload_n 1, 1) := by decide +kernel
theorem dJ7_charAt_1 : decode cJ7_charAt 1 = .ok (.aload_n 0, 1) := by decide +kernel
theorem dJ7_charAt_2 : decode cJ7_charAt 2 = .ok (.arraylength, 1) := by decide +kernel
theorem dJ7_charAt_3 : decode cJ7_charAt 3 = .ok (.invokestatic 9, 3) := by decide +kernel
theorem dJ7_charAt_6 : decode cJ7_charAt 6 = .ok (.aload_n 0, 1) := by decide +kernel
theorem dJ7_charAt_7 : decode cJ7_charAt 7 = .ok (.iload_n 1, 1) := by decide +kernel
theorem dJ7_charAt_8 : decode cJ7_charAt 8 = .ok (.baload, 1) := by decide +kernel
theorem dJ7_charAt_9 : decode cJ7_charAt 9 = .ok (.sipush 255, 3) := by decide +kernel
theorem dJ7_charAt_12 : decode cJ7_charAt 12 = .ok (.iand, 1) := by decide +kernel
theorem dJ7_charAt_13 : decode cJ7_charAt 13 = .ok (.i2c, 1) := by decide +kernel
theorem dJ7_charAt_14 : decode cJ7_charAt 14 = .ok (.ireturn, 1) := by decide +kernel
def c_J7_charAt (G : zc_G) (μ : MEM) (a0 a1 : Int) : Option zc_O := ck (zt [30, 31] (μ a0 (-1)) = true) (bc (c_J6_checkIndex G μ a1 (μ a0 (-2))) (fun _ μ3 => ck (zt [30, 31] (μ3 a0 (-1)) = true) (ck ((0 : Int) ≤ a1 ∧ a1 < μ3 a0 (-2)) (ck (isC (i_c (i_and (μ3 a0 a1) 255))) (some (0, (i_c (i_and (μ3 a0 a1) 255)), μ3))))))
theorem u_J7_charAt {G : zc_G} (μ : MEM) (a0 a1 : Int) (ha1 : inR a1) (o : zc_O) (hd : c_J7_charAt G μ a0 a1 = some o) : zc_Met G yJ7_charAt cJ7_charAt 2 (Option.some FieldType.char) 5 2 43 μ [zc_rv G a0, iv a1] o := by
  refine zc_intro hd (by decide) (by simp [lg_sl, zc_rv_cat, iv_cat, jv_cat]) (lv := [(0, zc_rv G a0), (1, iv a1)]) (by simp [lv_args, zc_rv_cat, iv_cat, jv_cat]) (fun C h hc => ?_)
  have h : zv_Ok C cJ7_charAt "java/lang/StringLatin1" := h
  have hc : zc_C C G μ 2 (Option.some FieldType.char) 5 2 43 "charAt" [] := hc
  have hN : ∀ i, i < 2 → i < zv_n C := fun i q => by rw [hc.2.1]; exact q
  unfold c_J7_charAt
  refine r_iload_n h 1 dJ7_charAt_0 rfl rfl ?_
  refine c_aload_n (x := a0) h 0 dJ7_charAt_1 rfl rfl ?_
  refine r_ck (fun ht1 => ?_)
  refine c_alen h hc [30, 31] ht1 (by decide) dJ7_charAt_2 (fun hr2 => ?_)
  refine c_callS h hc (As := [iv a1, iv (μ a0 (-2))]) (fun o1 e1 => u_J6_checkIndex _ a1 (μ a0 (-2)) ha1 hr2 o1 e1) q532 q533 q534 q146 (by omega) (by omega) zc_s0 (by omega) (fun z hz => by cases hz) ⟨by decide, by decide⟩ (n := 2) (by decide +kernel) rfl rfl dJ7_charAt_3 (fun _ μ3 _ => r_k0 ?_)
  refine c_aload_n (x := a0) h 0 dJ7_charAt_6 rfl rfl ?_
  refine r_iload_n h 1 dJ7_charAt_7 rfl rfl ?_
  refine r_ck (fun ht4 => ?_)
  refine c_ldB h hc ht4 dJ7_charAt_8 (fun _ hr5 => ?_)
  refine r_sipush h dJ7_charAt_9 (by decide) ?_
  refine r_iand h dJ7_charAt_12 ?_
  refine r_i2c h dJ7_charAt_13 ?_
  refine r_ck (fun hk6 => ?_)
  exact c_cret h hc rfl hk6 dJ7_charAt_14
theorem dJ6_charAt_0 : decode cJ6_charAt 0 = .ok (.aload_n 0, 1) := by decide +kernel
theorem dJ6_charAt_1 : decode cJ6_charAt 1 = .ok (.invokevirtual 492, 3) := by decide +kernel
theorem dJ6_charAt_4 : decode cJ6_charAt 4 = .ok (.ifCond .eq 12, 3) := by decide +kernel
theorem dJ6_charAt_7 : decode cJ6_charAt 7 = .ok (.aload_n 0, 1) := by decide +kernel
theorem dJ6_charAt_8 : decode cJ6_charAt 8 = .ok (.getfield 9, 3) := by decide +kernel
theorem dJ6_charAt_11 : decode cJ6_charAt 11 = .ok (.iload_n 1, 1) := by decide +kernel
theorem dJ6_charAt_12 : decode cJ6_charAt 12 = .ok (.invokestatic 495, 3) := by decide +kernel
theorem dJ6_charAt_15 : decode cJ6_charAt 15 = .ok (.ireturn, 1) := by decide +kernel
theorem dJ6_charAt_16 : decode cJ6_charAt 16 = .ok (.aload_n 0, 1) := by decide +kernel
theorem dJ6_charAt_17 : decode cJ6_charAt 17 = .ok (.getfield 9, 3) := by decide +kernel
theorem dJ6_charAt_20 : decode cJ6_charAt 20 = .ok (.iload_n 1, 1) := by decide +kernel
theorem dJ6_charAt_21 : decode cJ6_charAt 21 = .ok (.invokestatic 498, 3) := by decide +kernel
theorem dJ6_charAt_24 : decode cJ6_charAt 24 = .ok (.ireturn, 1) := by decide +kernel
def c_J6_charAt (G : zc_G) (μ : MEM) (a0 a1 : Int) : Option zc_O := ck ((-43 : Int) ≤ a0 ∧ a0 < 0) (bc (c_J6_isLatin1 μ a0) (fun r2 μ3 => if r2 = 0 then (ck ((-43 : Int) ≤ a0 ∧ a0 < 0) (none)) else (ck ((-43 : Int) ≤ a0 ∧ a0 < 0) (bc (c_J7_charAt G μ3 (a0 - 100) a1) (fun r7 μ8 => some (0, r7, μ8))))))
theorem u_J6_charAt {G : zc_G} (μ : MEM) (a0 a1 : Int) (ha1 : inR a1) (o : zc_O) (hd : c_J6_charAt G μ a0 a1 = some o) : zc_Met G yJ6_charAt cJ6_charAt 2 (Option.some FieldType.char) 5 3 64 μ [zc_rv G a0, iv a1] o := by
  refine zc_intro hd (by decide) (by simp [lg_sl, zc_rv_cat, iv_cat, jv_cat]) (lv := [(0, zc_rv G a0), (1, iv a1)]) (by simp [lv_args, zc_rv_cat, iv_cat, jv_cat]) (fun C h hc => ?_)
  have h : zv_Ok C cJ6_charAt "java/lang/String" := h
  have hc : zc_C C G μ 2 (Option.some FieldType.char) 5 3 64 "charAt" [] := hc
  have hN : ∀ i, i < 2 → i < zv_n C := fun i q => by rw [hc.2.1]; exact q
  unfold c_J6_charAt
  refine c_aload_n (x := a0) h 0 dJ6_charAt_0 rfl rfl ?_
  refine r_ck (fun hs1 => ?_)
  refine c_callStr (x := a0) h hc (As := []) (fun o1 e1 => u_J6_isLatin1 _ a0 o1 e1) hs1 q525 q526 q527 q528 q146 (by omega) (by omega) zc_s0 (by omega) (fun z hz => by cases hz) ⟨by decide, by decide⟩ (n := 0) (by decide +kernel) rfl rfl dJ6_charAt_1 (fun r2 μ3 hr4 => r_k3 ?_)
  refine r_if_eq (x := r2) h hr4.r 16 dJ6_charAt_4 rfl ?_ ?_
  · refine c_aload_n (x := a0) h 0 dJ6_charAt_16 rfl rfl ?_
    refine r_ck (fun hs5 => ?_)
    refine c_strV h hc q2251 hs5 dJ6_charAt_17 ?_
    refine r_iload_n h 1 dJ6_charAt_20 rfl rfl ?_
    exact r_none
  · refine c_aload_n (x := a0) h 0 dJ6_charAt_7 rfl rfl ?_
    refine r_ck (fun hs6 => ?_)
    refine c_strV h hc q2251 hs6 dJ6_charAt_8 ?_
    refine r_iload_n h 1 dJ6_charAt_11 rfl rfl ?_
    refine c_callS h hc (As := [zc_rv G (a0 - 100), iv a1]) (fun o1 e1 => u_J7_charAt _ (a0 - 100) a1 ha1 o1 e1) q529 q530 q531 q147 (by omega) (by omega) zc_s0 (by omega) (fun z hz => by cases hz) ⟨by decide, by decide⟩ (n := 2) (by decide +kernel) rfl rfl dJ6_charAt_12 (fun r7 μ8 hr9 => r_k5 ?_)
    exact c_cret h hc rfl hr9 dJ6_charAt_15
