set_option maxRecDepth 100000
set_option maxHeartbeats 1000000
/-! TreePress.read, TreePress.select (began as the generator's print) -/

theorem dX0_read_0 : decode cX0_read 0 = .ok (.iload_n 1, 1) := by decide +kernel
theorem dX0_read_1 : decode cX0_read 1 = .ok (.ifCond .lt 11, 3) := by decide +kernel
theorem dX0_read_4 : decode cX0_read 4 = .ok (.iload_n 1, 1) := by decide +kernel
theorem dX0_read_5 : decode cX0_read 5 = .ok (.aload_n 0, 1) := by decide +kernel
theorem dX0_read_6 : decode cX0_read 6 = .ok (.getfield 59, 3) := by decide +kernel
theorem dX0_read_9 : decode cX0_read 9 = .ok (.if_icmp .le 5, 3) := by decide +kernel
theorem dX0_read_12 : decode cX0_read 12 = .ok (.iconst 0, 1) := by decide +kernel
theorem dX0_read_13 : decode cX0_read 13 = .ok (.ireturn, 1) := by decide +kernel
theorem dX0_read_14 : decode cX0_read 14 = .ok (.new 66, 3) := by decide +kernel
theorem dX0_read_17 : decode cX0_read 17 = .ok (.dup, 1) := by decide +kernel
theorem dX0_read_18 : decode cX0_read 18 = .ok (.aload_n 0, 1) := by decide +kernel
theorem dX0_read_19 : decode cX0_read 19 = .ok (.getfield 19, 3) := by decide +kernel
theorem dX0_read_22 : decode cX0_read 22 = .ok (.iload_n 1, 1) := by decide +kernel
theorem dX0_read_23 : decode cX0_read 23 = .ok (.invokespecial 68, 3) := by decide +kernel
theorem dX0_read_26 : decode cX0_read 26 = .ok (.astore_n 2, 1) := by decide +kernel
theorem dX0_read_27 : decode cX0_read 27 = .ok (.aload_n 0, 1) := by decide +kernel
theorem dX0_read_28 : decode cX0_read 28 = .ok (.iconst 0, 1) := by decide +kernel
theorem dX0_read_29 : decode cX0_read 29 = .ok (.putfield 59, 3) := by decide +kernel
theorem dX0_read_32 : decode cX0_read 32 = .ok (.aload_n 0, 1) := by decide +kernel
theorem dX0_read_33 : decode cX0_read 33 = .ok (.iconst (-1), 1) := by decide +kernel
theorem dX0_read_34 : decode cX0_read 34 = .ok (.putfield 23, 3) := by decide +kernel
theorem dX0_read_37 : decode cX0_read 37 = .ok (.aload_n 0, 1) := by decide +kernel
theorem dX0_read_38 : decode cX0_read 38 = .ok (.aload_n 2, 1) := by decide +kernel
theorem dX0_read_39 : decode cX0_read 39 = .ok (.invokevirtual 71, 3) := by decide +kernel
theorem dX0_read_42 : decode cX0_read 42 = .ok (.putfield 75, 3) := by decide +kernel
theorem dX0_read_45 : decode cX0_read 45 = .ok (.aload_n 0, 1) := by decide +kernel
theorem dX0_read_46 : decode cX0_read 46 = .ok (.getfield 46, 3) := by decide +kernel
theorem dX0_read_49 : decode cX0_read 49 = .ok (.invokevirtual 79, 3) := by decide +kernel
theorem dX0_read_52 : decode cX0_read 52 = .ok (.aload_n 0, 1) := by decide +kernel
theorem dX0_read_53 : decode cX0_read 53 = .ok (.iconst 0, 1) := by decide +kernel
theorem dX0_read_54 : decode cX0_read 54 = .ok (.putfield 82, 3) := by decide +kernel
theorem dX0_read_57 : decode cX0_read 57 = .ok (.aload_n 0, 1) := by decide +kernel
theorem dX0_read_58 : decode cX0_read 58 = .ok (.getfield 75, 3) := by decide +kernel
theorem dX0_read_61 : decode cX0_read 61 = .ok (.getfield 85, 3) := by decide +kernel
theorem dX0_read_64 : decode cX0_read 64 = .ok (.invokevirtual 90, 3) := by decide +kernel
theorem dX0_read_67 : decode cX0_read 67 = .ok (.ireturn, 1) := by decide +kernel
theorem dX0_read_68 : decode cX0_read 68 = .ok (.astore_n 3, 1) := by decide +kernel
theorem dX0_read_69 : decode cX0_read 69 = .ok (.aload_n 0, 1) := by decide +kernel
theorem dX0_read_70 : decode cX0_read 70 = .ok (.aload_n 3, 1) := by decide +kernel
theorem dX0_read_71 : decode cX0_read 71 = .ok (.getfield 95, 3) := by decide +kernel
theorem dX0_read_74 : decode cX0_read 74 = .ok (.putfield 23, 3) := by decide +kernel
theorem dX0_read_77 : decode cX0_read 77 = .ok (.aload_n 3, 1) := by decide +kernel
theorem dX0_read_78 : decode cX0_read 78 = .ok (.getfield 96, 3) := by decide +kernel
theorem dX0_read_81 : decode cX0_read 81 = .ok (.ireturn, 1) := by decide +kernel
def c_X0_read (μ : MEM) (a0 a1 : Int) : Option zc_O := if a1 < 0 then (some (0, 0, μ)) else (ck (zt [1] (μ a0 (-1)) = true) (if a1 ≤ (μ a0 1) then (ck (1 ≤ μ 0 1 ∧ (8 : Int) ≤ μ 0 2) (nu (mnew μ 3 0 8) (fun μ3 => ck (zt [1] (μ3 a0 (-1)) = true) (bc (c_X3_init μ3 (μ 0 0) (μ3 a0 0) a1) (fun _ μ6 => ck (zt [1] (μ6 a0 (-1)) = true) (nu (mup μ6 a0 1 0) (fun μ8 => nu (mup μ8 a0 2 (-1)) (fun μ10 => ck (zt [3] (μ10 (μ 0 0) (-1)) = true) (bcc (c_X3_document μ10 (μ 0 0)) (fun r13 μ14 => ck (zt [1] (μ14 a0 (-1)) = true) (nu (mup μ14 a0 3 r13) (fun μ17 => ck (zt [40] (μ17 (μ17 a0 11) (-1)) = true) (bcc (b_lclear μ17 (μ17 a0 11)) (fun _ μ20 => ck (zt [1] (μ20 a0 (-1)) = true) (nu (mup μ20 a0 10 0) (fun μ22 => ck (zt [4] (μ22 (μ22 a0 3) (-1)) = true) (ck (zt [40] (μ22 (μ22 (μ22 a0 3) 1) (-1)) = true) (bcc (b_lsize μ22 (μ22 (μ22 a0 3) 1)) (fun r26 μ27 => some (0, r26, μ27)) (fun rF μF => ck (zt [7] (μF rF (-1)) = true) (none))))))) (fun rF μF => ck (zt [7] (μF rF (-1)) = true) (none)))))) (fun rF μF => ck (zt [7] (μF rF (-1)) = true) (ck (zt [1] (μF a0 (-1)) = true) (nu (mup μF a0 2 (μF rF 7)) (fun μG => ck (zt [7] (μG rF (-1)) = true) (some (0, μG rF 6, μG))))))))))))))) else (some (0, 0, μ))))
theorem u_X0_read {G : zc_G} (μ : MEM) (a0 a1 : Int) (ha1 : inR a1) (o : zc_O) (hd : c_X0_read μ a0 a1 = some o) : zc_MetX G yX0_read cX0_read 4 (Option.some FieldType.int) [(37, 67, 68, 93)] 1 376 8366 μ [zc_rv G a0, iv a1] o := by
  refine zc_introX hd (by decide) (by simp [lg_sl, zc_rv_cat, iv_cat, jv_cat]) (lv := [(0, zc_rv G a0), (1, iv a1)]) (by simp [lv_args, zc_rv_cat, iv_cat, jv_cat]) (fun C z hz h hc => ?_)
  have h : zv_Ok C cX0_read "TreePress" := h
  have hc : zc_C C G μ 4 (Option.some FieldType.int) 1 376 8366 "read" [z] := hc
  have hN : ∀ i, i < 4 → i < zv_n C := fun i q => by rw [hc.2.1]; exact q
  unfold c_X0_read
  refine r_iload_n h 1 dX0_read_0 rfl rfl ?_
  refine r_if_lt (x := a1) h ha1 12 dX0_read_1 rfl ?_ ?_
  · refine r_iconst h dX0_read_12 ?_
    exact c_iret h hc rfl (by decide) dX0_read_13
  · refine r_iload_n h 1 dX0_read_4 rfl rfl ?_
    refine c_aload_n (x := a0) h 0 dX0_read_5 rfl rfl ?_
    refine r_ck (fun ht1 => ?_)
    refine c_getI (fin := false) h hc [1] 1 (zc_lk1 h q206) ht1 (by decide) dX0_read_6 (fun hr2 => ?_)
    refine r_icmp_le (x := a1) (y := (μ a0 1)) h ha1 hr2 14 dX0_read_9 rfl ?_ ?_
    · refine c_new h hc 3 (N := 8) rfl (by decide) q273 q274 q138 dX0_read_14 (fun _ μ3 he4 => ?_)
      refine r_dup h dX0_read_17 (zc_rv_cat G _) ?_
      refine c_aload_n (x := a0) h 0 dX0_read_18 rfl rfl ?_
      refine r_ck (fun ht5 => ?_)
      refine c_getR (fin := true) h hc [1] 0 (zc_lk1 h q205) ht5 (by decide) dX0_read_19 ?_
      refine r_iload_n h 1 dX0_read_22 rfl rfl ?_
      refine c_callI (x := (μ 0 0)) h hc (As := [zc_rv G (μ3 a0 0), iv a1]) (fun o1 e1 => u_X3_init _ (μ 0 0) (μ3 a0 0) a1 ha1 o1 e1) [3] (zt_nw he4) (by decide) q275 q276 rfl q277 q138 (by omega) (by omega) (zc_sc (zc_rv_cat G _) zc_s0) (by omega) (zc_cvN hz (by decide)) ⟨by decide, by decide⟩ (n := 2) (by decide +kernel) rfl rfl dX0_read_23 (fun _ μ6 _ => r_k0 ?_)
      refine c_astore_n (i := 2) (lv' := [(2, zc_rv G (μ 0 0)), (0, zc_rv G a0), (1, iv a1)]) h dX0_read_26 rfl (hN _ (by decide)) rfl ?_
      refine c_aload_n (x := a0) h 1 dX0_read_27 rfl rfl ?_
      refine r_iconst h dX0_read_28 ?_
      refine r_ck (fun ht7 => ?_)
      refine c_putI (x := a0) (y := 0) h hc [1] 1 false (zc_lk1 h q206) ht7 (by decide) (Or.inl rfl) (by decide) dX0_read_29 (fun μ8 he9 => ?_)
      refine c_aload_n (x := a0) h 1 dX0_read_32 rfl rfl ?_
      refine r_iconst h dX0_read_33 ?_
      refine c_putI (x := a0) (y := (-1)) h hc [1] 2 false (zc_lk1 h q207) (zt_mup he9 (by decide) ht7) (by decide) (Or.inl rfl) (by decide) dX0_read_34 (fun μ10 he11 => ?_)
      refine c_aload_n (x := a0) h 1 dX0_read_37 rfl rfl ?_
      refine c_aload_n (x := (μ 0 0)) h 0 dX0_read_38 rfl rfl ?_
      refine r_ck (fun ht12 => ?_)
      refine c_callVC (x := (μ 0 0)) h hc (As := []) (fun o1 e1 => u_X3_document _ (μ 0 0) o1 e1) [3] ht12 (by decide) q471 q472 (fun t ht => by cases List.mem_singleton.mp ht; exact q473) q474 q138 (by omega) (by omega) (zc_sc (zc_rv_cat G _) zc_s0) (by omega) hz (by decide) q272 ⟨by decide, by decide⟩ (n := 0) (by decide +kernel) rfl rfl dX0_read_39 (fun r13 μ14 hr15 => r_k4 ?_) ?_
      refine r_ck (fun ht16 => ?_)
      refine c_putR (x := a0) (y := r13) h hc [1] 3 false (zc_lk1 h q208) ht16 (by decide) (Or.inl rfl) (ty := (.object "TreePress$Document")) (by decide +kernel) (Or.inl ⟨_, rfl⟩) dX0_read_42 (fun μ17 he18 => ?_)
      refine c_aload_n (x := a0) h 1 dX0_read_45 rfl rfl ?_
      refine c_getR (fin := true) h hc [1] 11 (zc_lk1 h q216) (zt_mup he18 (by decide) ht16) (by decide) dX0_read_46 ?_
      refine r_ck (fun ht19 => ?_)
      refine c_callVC (x := (μ17 a0 11)) h hc (As := []) (fun o1 e1 => w_lclear _ (μ17 a0 11) o1 e1) [40] ht19 (by decide) q1126 q1127 (fun t ht => by cases List.mem_singleton.mp ht; exact q1128) q1129 q135 (by omega) (by omega) zc_s0 (by omega) hz (by decide) q272 ⟨by decide, by decide⟩ (n := 0) (by decide +kernel) rfl rfl dX0_read_49 (fun _ μ20 _ => r_k0 ?_) ?_
      refine c_aload_n (x := a0) h 1 dX0_read_52 rfl rfl ?_
      refine r_iconst h dX0_read_53 ?_
      refine r_ck (fun ht21 => ?_)
      refine c_putI (x := a0) (y := 0) h hc [1] 10 false (zc_lk1 h q215) ht21 (by decide) (Or.inl rfl) (by decide) dX0_read_54 (fun μ22 he23 => ?_)
      refine c_aload_n (x := a0) h 1 dX0_read_57 rfl rfl ?_
      refine c_getR (fin := false) h hc [1] 3 (zc_lk1 h q208) (zt_mup he23 (by decide) ht21) (by decide) dX0_read_58 ?_
      refine r_ck (fun ht24 => ?_)
      refine c_getR (fin := true) h hc [4] 1 (zc_lk3 hc (O := "TreePress$Document") (n := "nodes") (ds := "Ljava/util/ArrayList;") (host := "TreePress") (by decide)) ht24 (by decide) dX0_read_61 ?_
      refine r_ck (fun ht25 => ?_)
      refine c_callVC (x := (μ22 (μ22 a0 3) 1)) h hc (As := []) (fun o1 e1 => w_lsize _ (μ22 (μ22 a0 3) 1) o1 e1) [40] ht25 (by decide) q1130 q343 (fun t ht => by cases List.mem_singleton.mp ht; exact q344) q345 q135 (by omega) (by omega) zc_s0 (by omega) hz (by decide) q272 ⟨by decide, by decide⟩ (n := 0) (by decide +kernel) rfl rfl dX0_read_64 (fun r26 μ27 hr28 => r_k1 ?_) ?_
      exact c_iret h hc rfl hr28 dX0_read_67
      exact fun _ _ _ => r_none
      exact fun _ _ _ => r_none
      · refine fun rF μF htF => ?_
        refine c_astore_n (i := 3) (lv' := [(3, zc_rv G rF), (2, zc_rv G (μ 0 0)), (0, zc_rv G a0), (1, iv a1)]) h dX0_read_68 rfl (hN _ (by decide)) (by simp [zc_rv_cat]) ?_
        refine c_aload_n (x := a0) h 2 dX0_read_69 rfl rfl ?_
        refine c_aload_n (x := rF) h 0 dX0_read_70 rfl rfl ?_
        refine r_ck (fun htG => ?_)
        refine c_getI (fin := true) h hc [7] 7 (zc_lk3 hc (O := "TreePress$Fault") (n := "place") (ds := "I") (host := "TreePress") (by decide)) htF (by decide) dX0_read_71 (fun hrP => ?_)
        refine c_putI (x := a0) (y := (μF rF 7)) h hc [1] 2 false (zc_lk1 h q207) htG (by decide) (Or.inl rfl) hrP dX0_read_74 (fun μG heG => ?_)
        refine c_aload_n (x := rF) h 0 dX0_read_77 rfl rfl ?_
        refine r_ck (fun htK => ?_)
        refine c_getI (fin := true) h hc [7] 6 (zc_lk3 hc (O := "TreePress$Fault") (n := "kind") (ds := "I") (host := "TreePress") (by decide)) htK (by decide) dX0_read_78 (fun hrK => ?_)
        exact c_iret h hc rfl hrK dX0_read_81
    · refine r_iconst h dX0_read_12 ?_
      exact c_iret h hc rfl (by decide) dX0_read_13
theorem dX0_select_0 : decode cX0_select 0 = .ok (.aload_n 0, 1) := by decide +kernel
theorem dX0_select_1 : decode cX0_select 1 = .ok (.iload_n 1, 1) := by decide +kernel
theorem dX0_select_2 : decode cX0_select 2 = .ok (.invokevirtual 107, 3) := by decide +kernel
theorem dX0_select_5 : decode cX0_select 5 = .ok (.astore_n 3, 1) := by decide +kernel
theorem dX0_select_6 : decode cX0_select 6 = .ok (.aload_n 3, 1) := by decide +kernel
theorem dX0_select_7 : decode cX0_select 7 = .ok (.ifnull 15, 3) := by decide +kernel
theorem dX0_select_10 : decode cX0_select 10 = .ok (.iload_n 2, 1) := by decide +kernel
theorem dX0_select_11 : decode cX0_select 11 = .ok (.ifCond .lt 11, 3) := by decide +kernel
theorem dX0_select_14 : decode cX0_select 14 = .ok (.iload_n 2, 1) := by decide +kernel
theorem dX0_select_15 : decode cX0_select 15 = .ok (.aload_n 0, 1) := by decide +kernel
theorem dX0_select_16 : decode cX0_select 16 = .ok (.getfield 59, 3) := by decide +kernel
theorem dX0_select_19 : decode cX0_select 19 = .ok (.if_icmp .le 6, 3) := by decide +kernel
theorem dX0_select_22 : decode cX0_select 22 = .ok (.bipush (-9), 2) := by decide +kernel
theorem dX0_select_24 : decode cX0_select 24 = .ok (.ireturn, 1) := by decide +kernel
theorem dX0_select_25 : decode cX0_select 25 = .ok (.new 227, 3) := by decide +kernel
theorem dX0_select_28 : decode cX0_select 28 = .ok (.dup, 1) := by decide +kernel
theorem dX0_select_29 : decode cX0_select 29 = .ok (.aload_n 0, 1) := by decide +kernel
theorem dX0_select_30 : decode cX0_select 30 = .ok (.getfield 19, 3) := by decide +kernel
theorem dX0_select_33 : decode cX0_select 33 = .ok (.iload_n 2, 1) := by decide +kernel
theorem dX0_select_34 : decode cX0_select 34 = .ok (.invokespecial 229, 3) := by decide +kernel
theorem dX0_select_37 : decode cX0_select 37 = .ok (.astore 4, 2) := by decide +kernel
theorem dX0_select_39 : decode cX0_select 39 = .ok (.aload_n 0, 1) := by decide +kernel
theorem dX0_select_40 : decode cX0_select 40 = .ok (.iconst 0, 1) := by decide +kernel
theorem dX0_select_41 : decode cX0_select 41 = .ok (.putfield 59, 3) := by decide +kernel
theorem dX0_select_44 : decode cX0_select 44 = .ok (.aload_n 0, 1) := by decide +kernel
theorem dX0_select_45 : decode cX0_select 45 = .ok (.iconst (-1), 1) := by decide +kernel
theorem dX0_select_46 : decode cX0_select 46 = .ok (.putfield 23, 3) := by decide +kernel
theorem dX0_select_49 : decode cX0_select 49 = .ok (.aload 4, 2) := by decide +kernel
theorem dX0_select_51 : decode cX0_select 51 = .ok (.invokevirtual 230, 3) := by decide +kernel
theorem dX0_select_54 : decode cX0_select 54 = .ok (.goto 20, 3) := by decide +kernel
theorem dX0_select_57 : decode cX0_select 57 = .ok (.astore 5, 2) := by decide +kernel
theorem dX0_select_59 : decode cX0_select 59 = .ok (.aload_n 0, 1) := by decide +kernel
theorem dX0_select_60 : decode cX0_select 60 = .ok (.aload 5, 2) := by decide +kernel
theorem dX0_select_62 : decode cX0_select 62 = .ok (.getfield 95, 3) := by decide +kernel
theorem dX0_select_65 : decode cX0_select 65 = .ok (.putfield 23, 3) := by decide +kernel
theorem dX0_select_68 : decode cX0_select 68 = .ok (.aload 5, 2) := by decide +kernel
theorem dX0_select_70 : decode cX0_select 70 = .ok (.getfield 96, 3) := by decide +kernel
theorem dX0_select_73 : decode cX0_select 73 = .ok (.ireturn, 1) := by decide +kernel
theorem dX0_select_74 : decode cX0_select 74 = .ok (.aload_n 0, 1) := by decide +kernel
theorem dX0_select_75 : decode cX0_select 75 = .ok (.getfield 29, 3) := by decide +kernel
theorem dX0_select_78 : decode cX0_select 78 = .ok (.iconst 0, 1) := by decide +kernel
theorem dX0_select_79 : decode cX0_select 79 = .ok (.aload 4, 2) := by decide +kernel
theorem dX0_select_81 : decode cX0_select 81 = .ok (.getfield 233, 3) := by decide +kernel
theorem dX0_select_84 : decode cX0_select 84 = .ok (.ifCond .eq 13, 3) := by decide +kernel
theorem dX0_select_87 : decode cX0_select 87 = .ok (.aload_n 0, 1) := by decide +kernel
theorem dX0_select_88 : decode cX0_select 88 = .ok (.getfield 75, 3) := by decide +kernel
theorem dX0_select_91 : decode cX0_select 91 = .ok (.getfield 236, 3) := by decide +kernel
theorem dX0_select_94 : decode cX0_select 94 = .ok (.goto 4, 3) := by decide +kernel
theorem dX0_select_97 : decode cX0_select 97 = .ok (.aload_n 3, 1) := by decide +kernel
theorem dX0_select_98 : decode cX0_select 98 = .ok (.aastore, 1) := by decide +kernel
theorem dX0_select_99 : decode cX0_select 99 = .ok (.aload_n 0, 1) := by decide +kernel
theorem dX0_select_100 : decode cX0_select 100 = .ok (.iconst 1, 1) := by decide +kernel
theorem dX0_select_101 : decode cX0_select 101 = .ok (.putfield 205, 3) := by decide +kernel
theorem dX0_select_104 : decode cX0_select 104 = .ok (.iconst 0, 1) := by decide +kernel
theorem dX0_select_105 : decode cX0_select 105 = .ok (.istore 5, 2) := by decide +kernel
theorem dX0_select_107 : decode cX0_select 107 = .ok (.iload 5, 2) := by decide +kernel
theorem dX0_select_109 : decode cX0_select 109 = .ok (.aload 4, 2) := by decide +kernel
theorem dX0_select_111 : decode cX0_select 111 = .ok (.getfield 239, 3) := by decide +kernel
theorem dX0_select_114 : decode cX0_select 114 = .ok (.invokevirtual 90, 3) := by decide +kernel
theorem dX0_select_117 : decode cX0_select 117 = .ok (.if_icmp .ge 26, 3) := by decide +kernel
theorem dX0_select_120 : decode cX0_select 120 = .ok (.aload_n 0, 1) := by decide +kernel
theorem dX0_select_121 : decode cX0_select 121 = .ok (.aload 4, 2) := by decide +kernel
theorem dX0_select_123 : decode cX0_select 123 = .ok (.getfield 239, 3) := by decide +kernel
theorem dX0_select_126 : decode cX0_select 126 = .ok (.iload 5, 2) := by decide +kernel
theorem dX0_select_128 : decode cX0_select 128 = .ok (.invokevirtual 103, 3) := by decide +kernel
theorem dX0_select_131 : decode cX0_select 131 = .ok (.checkcast 188, 3) := by decide +kernel
theorem dX0_select_134 : decode cX0_select 134 = .ok (.invokevirtual 242, 3) := by decide +kernel
theorem dX0_select_137 : decode cX0_select 137 = .ok (.iinc 5 1, 3) := by decide +kernel
theorem dX0_select_140 : decode cX0_select 140 = .ok (.goto (-33), 3) := by decide +kernel
theorem dX0_select_143 : decode cX0_select 143 = .ok (.aload_n 0, 1) := by decide +kernel
theorem dX0_select_144 : decode cX0_select 144 = .ok (.getfield 29, 3) := by decide +kernel
theorem dX0_select_147 : decode cX0_select 147 = .ok (.iconst 0, 1) := by decide +kernel
theorem dX0_select_148 : decode cX0_select 148 = .ok (.aload_n 0, 1) := by decide +kernel
theorem dX0_select_149 : decode cX0_select 149 = .ok (.getfield 36, 3) := by decide +kernel
theorem dX0_select_152 : decode cX0_select 152 = .ok (.iconst 0, 1) := by decide +kernel
theorem dX0_select_153 : decode cX0_select 153 = .ok (.aload_n 0, 1) := by decide +kernel
theorem dX0_select_154 : decode cX0_select 154 = .ok (.getfield 205, 3) := by decide +kernel
theorem dX0_select_157 : decode cX0_select 157 = .ok (.invokestatic 246, 3) := by decide +kernel
theorem dX0_select_160 : decode cX0_select 160 = .ok (.aload_n 0, 1) := by decide +kernel
theorem dX0_select_161 : decode cX0_select 161 = .ok (.aload_n 0, 1) := by decide +kernel
theorem dX0_select_162 : decode cX0_select 162 = .ok (.getfield 205, 3) := by decide +kernel
theorem dX0_select_165 : decode cX0_select 165 = .ok (.putfield 82, 3) := by decide +kernel
theorem dX0_select_168 : decode cX0_select 168 = .ok (.aload_n 0, 1) := by decide +kernel
theorem dX0_select_169 : decode cX0_select 169 = .ok (.getfield 82, 3) := by decide +kernel
theorem dX0_select_172 : decode cX0_select 172 = .ok (.ireturn, 1) := by decide +kernel
def c_X0_select_107 : Nat → MEM → Int → Int → Int → Option zc_O
  | 0, _, _, _, _ => none
  | n + 1, μ, x0, x4, x5 => ck (zt [15] (μ x4 (-1)) = true) (ck (zt [40] (μ (μ x4 3) (-1)) = true) (bc (b_lsize μ (μ x4 3)) (fun r3 μ4 => if r3 ≤ x5 then (ck (zt [1] (μ4 x0 (-1)) = true) (ck (zt [35] (μ4 (μ4 x0 4) (-1)) = true) (ck (zt [35] (μ4 (μ4 x0 6) (-1)) = true) (ck ((0 : Int) ≤ 0 ∧ (0 : Int) ≤ 0 ∧ (0 : Int) ≤ (μ4 x0 8) ∧ 0 + (μ4 x0 8) ≤ μ4 (μ4 x0 4) (-2) ∧ 0 + (μ4 x0 8) ≤ μ4 (μ4 x0 6) (-2)) (ck (zc_rfok [6, 11, 13, 14] μ4 (μ4 x0 4) 0 (μ4 x0 8) = true) (nu (mcpy μ4 (μ4 x0 4) 0 (μ4 x0 6) 0 (μ4 x0 8)) (fun μ10 => ck (zt [1] (μ10 x0 (-1)) = true) (nu (mup μ10 x0 10 (μ10 x0 8)) (fun μ13 => some (0, (μ13 x0 10), μ13)))))))))) else (ck (zt [15] (μ4 x4 (-1)) = true) (ck (zt [40] (μ4 (μ4 x4 3) (-1)) = true) (bc (b_lget μ4 (μ4 x4 3) x5) (fun r18 μ19 => ck (zt [16] (μ19 r18 (-1)) = true) (ck (zt [1] (μ19 x0 (-1)) = true) (bc (c_X0_walk μ19 x0 r18) (fun _ μ23 => ck (inR (x5 + 1)) (c_X0_select_107 n μ23 x0 x4 (x5 + 1))))))))))))
theorem u_X0_select_107 {C : zv_Cx zc_O} {G : zc_G} {μ0 : MEM} {z : ExceptionTableEntry} (hz : zc_zz z 49 54 57 93) (h : zv_Ok C cX0_select "TreePress") (hc : zc_C C G μ0 6 (Option.some FieldType.int) 1 78 2952 "select" [z]) : ∀ (n : Nat) (μ : MEM) (x0 x4 x5 : Int), inR x5 → VV C (c_X0_select_107 n μ x0 x4 x5) μ [(0, zc_rv G x0), (4, zc_rv G x4), (5, iv x5)] [] 107 := by
  have hN : ∀ i, i < 6 → i < zv_n C := fun i q => by rw [hc.2.1]; exact q
  intro n
  induction n with
  | zero => intros; exact r_none
  | succ n ih =>
    intro μ x0 x4 x5 hx5
    rw [c_X0_select_107]
    refine r_iload h 2 dX0_select_107 rfl ?_
    refine c_aload (x := x4) h 1 dX0_select_109 rfl ?_
    refine r_ck (fun ht1 => ?_)
    refine c_getR (fin := true) h hc [15] 3 (zc_lk3 hc (O := "TreePress$PathReader") (n := "steps") (ds := "Ljava/util/ArrayList;") (host := "TreePress") (by decide)) ht1 (by decide) dX0_select_111 ?_
    refine r_ck (fun ht2 => ?_)
    refine c_callV (x := (μ x4 3)) h hc (As := []) (fun o1 e1 => w_lsize _ (μ x4 3) o1 e1) [40] ht2 (by decide) q1130 q343 (fun t ht => by cases List.mem_singleton.mp ht; exact q344) q345 q135 (by omega) (by omega) (zc_sc (iv_cat _) zc_s0) (by omega) (zc_cvN hz (by decide)) ⟨by decide, by decide⟩ (n := 0) (by decide +kernel) rfl rfl dX0_select_114 (fun r3 μ4 hr5 => r_k1 ?_)
    refine r_icmp_ge (x := x5) (y := r3) h hx5 hr5 143 dX0_select_117 rfl ?_ ?_
    · refine c_aload_n (x := x0) h 0 dX0_select_143 rfl rfl ?_
      refine r_ck (fun ht6 => ?_)
      refine c_getR (fin := true) h hc [1] 4 (zc_lk1 h q209) ht6 (by decide) dX0_select_144 ?_
      refine r_iconst h dX0_select_147 ?_
      refine c_aload_n (x := x0) h 0 dX0_select_148 rfl rfl ?_
      refine c_getR (fin := true) h hc [1] 6 (zc_lk1 h q211) ht6 (by decide) dX0_select_149 ?_
      refine r_iconst h dX0_select_152 ?_
      refine c_aload_n (x := x0) h 0 dX0_select_153 rfl rfl ?_
      refine c_getI (fin := false) h hc [1] 8 (zc_lk1 h q213) ht6 (by decide) dX0_select_154 (fun hr7 => ?_)
      refine r_ck (fun ht8 => ?_)
      refine r_ck (fun ht9 => ?_)
      refine c_cp35 (x := (μ4 x0 4)) (y := (μ4 x0 6)) (sp := 0) (dp := 0) (n := (μ4 x0 8)) h hc q1383 (by decide) (by decide) hr7 ht8 ht9 (by omega) (by show 7 + 11 ≤ _; omega) dX0_select_157 (fun μ10 _ => ?_)
      refine c_aload_n (x := x0) h 0 dX0_select_160 rfl rfl ?_
      refine c_aload_n (x := x0) h 0 dX0_select_161 rfl rfl ?_
      refine r_ck (fun ht11 => ?_)
      refine c_getI (fin := false) h hc [1] 8 (zc_lk1 h q213) ht11 (by decide) dX0_select_162 (fun hr12 => ?_)
      refine c_putI (x := x0) (y := (μ10 x0 8)) h hc [1] 10 false (zc_lk1 h q215) ht11 (by decide) (Or.inl rfl) hr12 dX0_select_165 (fun μ13 he14 => ?_)
      refine c_aload_n (x := x0) h 0 dX0_select_168 rfl rfl ?_
      refine c_getI (fin := false) h hc [1] 10 (zc_lk1 h q215) (zt_mup he14 (by decide) ht11) (by decide) dX0_select_169 (fun hr15 => ?_)
      exact c_iret h hc rfl hr15 dX0_select_172
    · refine c_aload_n (x := x0) h 0 dX0_select_120 rfl rfl ?_
      refine c_aload (x := x4) h 1 dX0_select_121 rfl ?_
      refine r_ck (fun ht16 => ?_)
      refine c_getR (fin := true) h hc [15] 3 (zc_lk3 hc (O := "TreePress$PathReader") (n := "steps") (ds := "Ljava/util/ArrayList;") (host := "TreePress") (by decide)) ht16 (by decide) dX0_select_123 ?_
      refine r_iload h 2 dX0_select_126 rfl ?_
      refine r_ck (fun ht17 => ?_)
      refine c_callV (x := (μ4 x4 3)) h hc (As := [iv x5]) (fun o1 e1 => w_lget _ (μ4 x4 3) x5 hx5 o1 e1) [40] ht17 (by decide) q1146 q844 (fun t ht => by cases List.mem_singleton.mp ht; exact q845) q846 q135 (by omega) (by omega) (zc_sc (zc_rv_cat G _) zc_s0) (by omega) (zc_cvN hz (by decide)) ⟨by decide, by decide⟩ (n := 1) (by decide +kernel) rfl rfl dX0_select_128 (fun r18 μ19 hr20 => r_k4 ?_)
      refine r_ck (fun ht21 => ?_)
      refine c_cast h hc [16] q1351 ht21 (by decide) dX0_select_131 ?_
      refine r_ck (fun ht22 => ?_)
      refine c_callV (x := x0) h hc (As := [zc_rv G r18]) (fun o1 e1 => u_X0_walk _ x0 r18 o1 e1) [1] ht22 (by decide) q1352 q1354 (fun t ht => by cases List.mem_singleton.mp ht; exact qs45) q1355 q132 (by omega) (by omega) zc_s0 (by omega) (zc_cvN hz (by decide)) ⟨by decide, by decide⟩ (n := 1) (by decide +kernel) rfl rfl dX0_select_134 (fun _ μ23 _ => r_k0 ?_)
      refine r_iinc (lv' := [(5, iv (x5 + 1)), (0, zc_rv G x0), (4, zc_rv G x4)]) h 2 dX0_select_137 rfl (hN _ (by decide)) (by simp [zc_rv_cat]) ?_
      refine r_goto h 107 dX0_select_140 rfl ?_
      refine r_ck (fun hk24 => ?_)
      exact r_lv [1, 2, 0] rfl (ih _ x0 x4 (x5 + 1) hk24)
def c_X0_select_98 (μ : MEM) (x0 x4 s0 s1 s2 : Int) : Option zc_O := ck (zt [35] (μ s0 (-1)) = true) (ck (s2 = 0 ∨ zt [6, 11, 13, 14] (μ s2 (-1)) = true) (ck ((0 : Int) ≤ s1 ∧ s1 < μ s0 (-2)) (nu (mup μ s0 s1 s2) (fun μ2 => ck (zt [1] (μ2 x0 (-1)) = true) (nu (mup μ2 x0 8 1) (fun μ6 => c_X0_select_107 zF μ6 x0 x4 0))))))
theorem u_X0_select_98 {C : zv_Cx zc_O} {G : zc_G} {μ0 : MEM} {z : ExceptionTableEntry} (hz : zc_zz z 49 54 57 93) (h : zv_Ok C cX0_select "TreePress") (hc : zc_C C G μ0 6 (Option.some FieldType.int) 1 78 2952 "select" [z]) (μ : MEM) (x0 x4 s0 s1 s2 : Int) (hs1 : isB s1) : VV C (c_X0_select_98 μ x0 x4 s0 s1 s2) μ [(0, zc_rv G x0), (4, zc_rv G x4)] [zc_rv G s2, iv s1, zc_rv G s0] 98 := by
  have hN : ∀ i, i < 6 → i < zv_n C := fun i q => by rw [hc.2.1]; exact q
  unfold c_X0_select_98
  refine r_ck (fun ht1 => ?_)
  refine c_stR35 (x := s0) (y := s1) (z := s2) h hc ht1  dX0_select_98 (fun hb4 μ2 he3 => ?_)
  refine c_aload_n (x := x0) h 0 dX0_select_99 rfl rfl ?_
  refine r_iconst h dX0_select_100 ?_
  refine r_ck (fun ht5 => ?_)
  refine c_putI (x := x0) (y := 1) h hc [1] 8 false (zc_lk1 h q213) ht5 (by decide) (Or.inl rfl) (by decide) dX0_select_101 (fun μ6 he7 => ?_)
  refine r_iconst h dX0_select_104 ?_
  refine r_istore (lv' := [(5, iv 0), (0, zc_rv G x0), (4, zc_rv G x4)]) h dX0_select_105 (hN _ (by decide)) (by simp [zc_rv_cat]) ?_
  exact r_lv [1, 2, 0] rfl (u_X0_select_107 hz h hc zF _ x0 x4 0 (by decide))
def c_X0_select (μ : MEM) (a0 a1 a2 : Int) : Option zc_O := ck (zt [1] (μ a0 (-1)) = true) (bc (c_X0_nodeOf μ a0 a1) (fun r2 μ3 => if r2 = 0 then (some (0, (-9), μ3)) else (if a2 < 0 then (some (0, (-9), μ3)) else (ck (zt [1] (μ3 a0 (-1)) = true) (if a2 ≤ (μ3 a0 1) then (ck (1 ≤ μ3 0 1 ∧ (5 : Int) ≤ μ3 0 2) (nu (mnew μ3 15 0 5) (fun μ7 => ck (zt [1] (μ7 a0 (-1)) = true) (bc (c_X15_init μ7 (μ3 0 0) (μ7 a0 0) a2) (fun _ μ10 => ck (zt [1] (μ10 a0 (-1)) = true) (nu (mup μ10 a0 1 0) (fun μ12 => nu (mup μ12 a0 2 (-1)) (fun μ14 => ck (zt [15] (μ14 (μ3 0 0) (-1)) = true) (bcc (c_X15_path μ14 (μ3 0 0)) (fun _ μ17 => ck (zt [1] (μ17 a0 (-1)) = true) (ck (zt [15] (μ17 (μ3 0 0) (-1)) = true) (if (μ17 (μ3 0 0) 4) = 0 then (c_X0_select_98 μ17 a0 (μ3 0 0) (μ17 a0 4) 0 r2) else (ck (zt [4] (μ17 (μ17 a0 3) (-1)) = true) (c_X0_select_98 μ17 a0 (μ3 0 0) (μ17 a0 4) 0 (μ17 (μ17 a0 3) 0)))))) (fun rF μF => ck (zt [7] (μF rF (-1)) = true) (ck (zt [1] (μF a0 (-1)) = true) (nu (mup μF a0 2 (μF rF 7)) (fun μG => ck (zt [7] (μG rF (-1)) = true) (some (0, μG rF 6, μG))))))))))))))) else (some (0, (-9), μ3)))))))
theorem u_X0_select {G : zc_G} (μ : MEM) (a0 a1 a2 : Int) (ha1 : inR a1) (ha2 : inR a2) (o : zc_O) (hd : c_X0_select μ a0 a1 a2 = some o) : zc_MetX G yX0_select cX0_select 6 (Option.some FieldType.int) [(49, 54, 57, 93)] 1 78 2952 μ [zc_rv G a0, iv a1, iv a2] o := by
  refine zc_introX hd (by decide) (by simp [lg_sl, zc_rv_cat, iv_cat, jv_cat]) (lv := [(0, zc_rv G a0), (1, iv a1), (2, iv a2)]) (by simp [lv_args, zc_rv_cat, iv_cat, jv_cat]) (fun C z hz h hc => ?_)
  have h : zv_Ok C cX0_select "TreePress" := h
  have hc : zc_C C G μ 6 (Option.some FieldType.int) 1 78 2952 "select" [z] := hc
  have hN : ∀ i, i < 6 → i < zv_n C := fun i q => by rw [hc.2.1]; exact q
  unfold c_X0_select
  refine c_aload_n (x := a0) h 0 dX0_select_0 rfl rfl ?_
  refine r_iload_n h 1 dX0_select_1 rfl rfl ?_
  refine r_ck (fun ht1 => ?_)
  refine c_callV (x := a0) h hc (As := [iv a1]) (fun o1 e1 => u_X0_nodeOf _ a0 a1 ha1 o1 e1) [1] ht1 (by decide) q1139 q1141 (fun t ht => by cases List.mem_singleton.mp ht; exact qs41) q1142 q132 (by omega) (by omega) zc_s0 (by omega) (zc_cvN hz (by decide)) ⟨by decide, by decide⟩ (n := 1) (by decide +kernel) rfl rfl dX0_select_2 (fun r2 μ3 hr4 => r_k4 ?_)
  refine c_astore_n (i := 3) (lv' := [(3, zc_rv G r2), (0, zc_rv G a0), (1, iv a1), (2, iv a2)]) h dX0_select_5 rfl (hN _ (by decide)) rfl ?_
  refine c_aload_n (x := r2) h 0 dX0_select_6 rfl rfl ?_
  refine c_ifnull (x := r2) h 22 dX0_select_7 rfl ?_ ?_
  · refine r_bipush h dX0_select_22 (by decide) ?_
    exact c_iret h hc rfl (by decide) dX0_select_24
  · refine r_iload_n h 3 dX0_select_10 rfl rfl ?_
    refine r_if_lt (x := a2) h ha2 22 dX0_select_11 rfl ?_ ?_
    · refine r_bipush h dX0_select_22 (by decide) ?_
      exact c_iret h hc rfl (by decide) dX0_select_24
    · refine r_iload_n h 3 dX0_select_14 rfl rfl ?_
      refine c_aload_n (x := a0) h 1 dX0_select_15 rfl rfl ?_
      refine r_ck (fun ht5 => ?_)
      refine c_getI (fin := false) h hc [1] 1 (zc_lk1 h q206) ht5 (by decide) dX0_select_16 (fun hr6 => ?_)
      refine r_icmp_le (x := a2) (y := (μ3 a0 1)) h ha2 hr6 25 dX0_select_19 rfl ?_ ?_
      · refine c_new h hc 15 (N := 5) rfl (by decide) q1219 q1220 q162 dX0_select_25 (fun _ μ7 he8 => ?_)
        refine r_dup h dX0_select_28 (zc_rv_cat G _) ?_
        refine c_aload_n (x := a0) h 1 dX0_select_29 rfl rfl ?_
        refine r_ck (fun ht9 => ?_)
        refine c_getR (fin := true) h hc [1] 0 (zc_lk1 h q205) ht9 (by decide) dX0_select_30 ?_
        refine r_iload_n h 3 dX0_select_33 rfl rfl ?_
        refine c_callI (x := (μ3 0 0)) h hc (As := [zc_rv G (μ7 a0 0), iv a2]) (fun o1 e1 => u_X15_init _ (μ3 0 0) (μ7 a0 0) a2 ha2 o1 e1) [15] (zt_nw he8) (by decide) q1221 q1222 rfl q1223 q162 (by omega) (by omega) (zc_sc (zc_rv_cat G _) zc_s0) (by omega) (zc_cvN hz (by decide)) ⟨by decide, by decide⟩ (n := 2) (by decide +kernel) rfl rfl dX0_select_34 (fun _ μ10 _ => r_k0 ?_)
        refine c_astore (lv' := [(4, zc_rv G (μ3 0 0)), (3, zc_rv G r2), (0, zc_rv G a0), (1, iv a1), (2, iv a2)]) h dX0_select_37 (hN _ (by decide)) (by simp [zc_rv_cat]) ?_
        refine c_aload_n (x := a0) h 2 dX0_select_39 rfl rfl ?_
        refine r_iconst h dX0_select_40 ?_
        refine r_ck (fun ht11 => ?_)
        refine c_putI (x := a0) (y := 0) h hc [1] 1 false (zc_lk1 h q206) ht11 (by decide) (Or.inl rfl) (by decide) dX0_select_41 (fun μ12 he13 => ?_)
        refine c_aload_n (x := a0) h 2 dX0_select_44 rfl rfl ?_
        refine r_iconst h dX0_select_45 ?_
        refine c_putI (x := a0) (y := (-1)) h hc [1] 2 false (zc_lk1 h q207) (zt_mup he13 (by decide) ht11) (by decide) (Or.inl rfl) (by decide) dX0_select_46 (fun μ14 he15 => ?_)
        refine c_aload (x := (μ3 0 0)) h 0 dX0_select_49 rfl ?_
        refine r_ck (fun ht16 => ?_)
        refine c_callVC (x := (μ3 0 0)) h hc (As := []) (fun o1 e1 => u_X15_path _ (μ3 0 0) o1 e1) [15] ht16 (by decide) q1239 q1240 (fun t ht => by cases List.mem_singleton.mp ht; exact q1241) q1242 q162 (by omega) (by omega) zc_s0 (by omega) hz (by decide) q272 ⟨by decide, by decide⟩ (n := 0) (by decide +kernel) rfl rfl dX0_select_51 (fun _ μ17 _ => r_k0 ?_) ?_
        rotate_left
        · refine fun rF μF htF => ?_
          refine c_astore (lv' := [(5, zc_rv G rF), (4, zc_rv G (μ3 0 0)), (3, zc_rv G r2), (0, zc_rv G a0), (1, iv a1), (2, iv a2)]) h dX0_select_57 (hN _ (by decide)) (by simp [zc_rv_cat]) ?_
          refine c_aload_n (x := a0) h 3 dX0_select_59 rfl rfl ?_
          refine c_aload (x := rF) h 0 dX0_select_60 rfl ?_
          refine r_ck (fun htG => ?_)
          refine c_getI (fin := true) h hc [7] 7 (zc_lk3 hc (O := "TreePress$Fault") (n := "place") (ds := "I") (host := "TreePress") (by decide)) htF (by decide) dX0_select_62 (fun hrP => ?_)
          refine c_putI (x := a0) (y := (μF rF 7)) h hc [1] 2 false (zc_lk1 h q207) htG (by decide) (Or.inl rfl) hrP dX0_select_65 (fun μG heG => ?_)
          refine c_aload (x := rF) h 0 dX0_select_68 rfl ?_
          refine r_ck (fun htK => ?_)
          refine c_getI (fin := true) h hc [7] 6 (zc_lk3 hc (O := "TreePress$Fault") (n := "kind") (ds := "I") (host := "TreePress") (by decide)) htK (by decide) dX0_select_70 (fun hrK => ?_)
          exact c_iret h hc rfl hrK dX0_select_73
        refine r_goto h 74 dX0_select_54 rfl ?_
        refine c_aload_n (x := a0) h 2 dX0_select_74 rfl rfl ?_
        refine r_ck (fun ht18 => ?_)
        refine c_getR (fin := true) h hc [1] 4 (zc_lk1 h q209) ht18 (by decide) dX0_select_75 ?_
        refine r_iconst h dX0_select_78 ?_
        refine c_aload (x := (μ3 0 0)) h 0 dX0_select_79 rfl ?_
        refine r_ck (fun ht19 => ?_)
        refine c_getZ (fin := false) h hc [15] 4 (zc_lk3 hc (O := "TreePress$PathReader") (n := "top") (ds := "Z") (host := "TreePress") (by decide)) ht19 (by decide) dX0_select_81 (fun hr20 => ?_)
        refine r_if_eq (x := (μ17 (μ3 0 0) 4)) h hr20.r 97 dX0_select_84 rfl ?_ ?_
        · refine c_aload_n (x := r2) h 1 dX0_select_97 rfl rfl ?_
          exact r_lv [2, 0] rfl (u_X0_select_98 hz h hc _ a0 (μ3 0 0) (μ17 a0 4) 0 r2 (by decide))
        · refine c_aload_n (x := a0) h 2 dX0_select_87 rfl rfl ?_
          refine c_getR (fin := false) h hc [1] 3 (zc_lk1 h q208) ht18 (by decide) dX0_select_88 ?_
          refine r_ck (fun ht21 => ?_)
          refine c_getR (fin := true) h hc [4] 0 (zc_lk3 hc (O := "TreePress$Document") (n := "root") (ds := "LTreePress$Parent;") (host := "TreePress") (by decide)) ht21 (by decide) dX0_select_91 ?_
          refine r_goto h 98 dX0_select_94 rfl ?_
          exact r_lv [2, 0] rfl (u_X0_select_98 hz h hc _ a0 (μ3 0 0) (μ17 a0 4) 0 (μ17 (μ17 a0 3) 0) (by decide))
      · refine r_bipush h dX0_select_22 (by decide) ?_
        exact c_iret h hc rfl (by decide) dX0_select_24
