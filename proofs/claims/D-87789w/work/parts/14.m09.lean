set_option maxRecDepth 100000
set_option maxHeartbeats 1000000
/-! methods of the class side: decode rows, denotations c_.., walks u_.. (written by wip/gen/cmain.py) -/
theorem dX8_hasPlace_0 : decode cX8_hasPlace 0 = .ok (.aload_n 0, 1) := by decide +kernel
theorem dX8_hasPlace_1 : decode cX8_hasPlace 1 = .ok (.ldc2_w 47, 3) := by decide +kernel
theorem dX8_hasPlace_4 : decode cX8_hasPlace 4 = .ok (.aload_n 1, 1) := by decide +kernel
theorem dX8_hasPlace_5 : decode cX8_hasPlace 5 = .ok (.invokevirtual 49, 3) := by decide +kernel
theorem dX8_hasPlace_8 : decode cX8_hasPlace 8 = .ok (.lconst 0, 1) := by decide +kernel
theorem dX8_hasPlace_9 : decode cX8_hasPlace 9 = .ok (.lcmp, 1) := by decide +kernel
theorem dX8_hasPlace_10 : decode cX8_hasPlace 10 = .ok (.ifCond .eq 7, 3) := by decide +kernel
theorem dX8_hasPlace_13 : decode cX8_hasPlace 13 = .ok (.iconst 1, 1) := by decide +kernel
theorem dX8_hasPlace_14 : decode cX8_hasPlace 14 = .ok (.goto 4, 3) := by decide +kernel
theorem dX8_hasPlace_17 : decode cX8_hasPlace 17 = .ok (.iconst 0, 1) := by decide +kernel
theorem dX8_hasPlace_18 : decode cX8_hasPlace 18 = .ok (.ireturn, 1) := by decide +kernel
def c_X8_hasPlace (μ : MEM) (a0 a1 : Int) : Option zc_O := ck (zt [8] (μ a0 (-1)) = true) (bc (c_X8_of μ a0 (-1) a1) (fun r2 μ3 => if (j_cmp r2 0) = 0 then (some (0, 0, μ3)) else (some (0, 1, μ3))))
theorem u_X8_hasPlace {G : zc_G} (μ : MEM) (a0 a1 : Int) (o : zc_O) (hd : c_X8_hasPlace μ a0 a1 = some o) : zc_Met G yX8_hasPlace cX8_hasPlace 2 (Option.some FieldType.boolean) 3 4 90 μ [zc_rv G a0, zc_rv G a1] o := by
  refine zc_intro hd (by decide) (by simp [lg_sl, zc_rv_cat, iv_cat, jv_cat]) (lv := [(0, zc_rv G a0), (1, zc_rv G a1)]) (by simp [lv_args, zc_rv_cat, iv_cat, jv_cat]) (fun C h hc => ?_)
  have h : zv_Ok C cX8_hasPlace "TreePress$Spec" := h
  have hc : zc_C C G μ 2 (Option.some FieldType.boolean) 3 4 90 "hasPlace" [] := hc
  have hN : ∀ i, i < 2 → i < zv_n C := fun i q => by rw [hc.2.1]; exact q
  unfold c_X8_hasPlace
  refine c_aload_n (x := a0) h 0 dX8_hasPlace_0 rfl rfl ?_
  refine r_ldc2 (x := (-1)) h q1119 (by decide) dX8_hasPlace_1 ?_
  refine c_aload_n (x := a1) h 1 dX8_hasPlace_4 rfl rfl ?_
  refine r_ck (fun ht1 => ?_)
  refine c_callV (x := a0) h hc (As := [jv (-1), zc_rv G a1]) (fun o1 e1 => u_X8_of _ a0 (-1) a1 (by decide) o1 e1) [8] ht1 (by decide) q1093 q1095 (fun t ht => by cases List.mem_singleton.mp ht; exact qs38) q1096 q154 (by omega) (by omega) zc_s0 (by omega) (fun z hz => by cases hz) ⟨by decide, by decide⟩ (n := 2) (by decide +kernel) rfl rfl dX8_hasPlace_5 (fun r2 μ3 hr4 => r_k2 ?_)
  refine r_lconst (x := 0) h dX8_hasPlace_8 (by decide) ?_
  refine r_lcmp h hr4 (by decide) dX8_hasPlace_9 ?_
  refine r_if_eq (x := (j_cmp r2 0)) h (j_cmp_r _ _) 17 dX8_hasPlace_10 rfl ?_ ?_
  · refine r_iconst h dX8_hasPlace_17 ?_
    exact c_zret h hc rfl (by decide) dX8_hasPlace_18
  · refine r_iconst h dX8_hasPlace_13 ?_
    refine r_goto h 18 dX8_hasPlace_14 rfl ?_
    exact c_zret h hc rfl (by decide) dX8_hasPlace_18
theorem dX4_fits_0 : decode cX4_fits 0 = .ok (.aload_n 2, 1) := by decide +kernel
theorem dX4_fits_1 : decode cX4_fits 1 = .ok (.getfield 85, 3) := by decide +kernel
theorem dX4_fits_4 : decode cX4_fits 4 = .ok (.ifCond .ne 19, 3) := by decide +kernel
theorem dX4_fits_7 : decode cX4_fits 7 = .ok (.aload_n 1, 1) := by decide +kernel
theorem dX4_fits_8 : decode cX4_fits 8 = .ok (.getfield 113, 3) := by decide +kernel
theorem dX4_fits_11 : decode cX4_fits 11 = .ok (.invokevirtual 41, 3) := by decide +kernel
theorem dX4_fits_14 : decode cX4_fits 14 = .ok (.ifCond .ne 7, 3) := by decide +kernel
theorem dX4_fits_17 : decode cX4_fits 17 = .ok (.iconst 1, 1) := by decide +kernel
theorem dX4_fits_18 : decode cX4_fits 18 = .ok (.goto 4, 3) := by decide +kernel
theorem dX4_fits_21 : decode cX4_fits 21 = .ok (.iconst 0, 1) := by decide +kernel
theorem dX4_fits_22 : decode cX4_fits 22 = .ok (.ireturn, 1) := by decide +kernel
theorem dX4_fits_23 : decode cX4_fits 23 = .ok (.aload_n 2, 1) := by decide +kernel
theorem dX4_fits_24 : decode cX4_fits 24 = .ok (.getfield 85, 3) := by decide +kernel
theorem dX4_fits_27 : decode cX4_fits 27 = .ok (.iconst 3, 1) := by decide +kernel
theorem dX4_fits_28 : decode cX4_fits 28 = .ok (.if_icmp .ne 9, 3) := by decide +kernel
theorem dX4_fits_31 : decode cX4_fits 31 = .ok (.aload_n 2, 1) := by decide +kernel
theorem dX4_fits_32 : decode cX4_fits 32 = .ok (.aload_n 1, 1) := by decide +kernel
theorem dX4_fits_33 : decode cX4_fits 33 = .ok (.invokevirtual 116, 3) := by decide +kernel
theorem dX4_fits_36 : decode cX4_fits 36 = .ok (.ireturn, 1) := by decide +kernel
theorem dX4_fits_37 : decode cX4_fits 37 = .ok (.iconst 1, 1) := by decide +kernel
theorem dX4_fits_38 : decode cX4_fits 38 = .ok (.istore_n 3, 1) := by decide +kernel
theorem dX4_fits_39 : decode cX4_fits 39 = .ok (.iconst 0, 1) := by decide +kernel
theorem dX4_fits_40 : decode cX4_fits 40 = .ok (.istore 4, 2) := by decide +kernel
theorem dX4_fits_42 : decode cX4_fits 42 = .ok (.iload 4, 2) := by decide +kernel
theorem dX4_fits_44 : decode cX4_fits 44 = .ok (.aload_n 1, 1) := by decide +kernel
theorem dX4_fits_45 : decode cX4_fits 45 = .ok (.getfield 113, 3) := by decide +kernel
theorem dX4_fits_48 : decode cX4_fits 48 = .ok (.invokevirtual 41, 3) := by decide +kernel
theorem dX4_fits_51 : decode cX4_fits 51 = .ok (.if_icmp .ge 77, 3) := by decide +kernel
theorem dX4_fits_54 : decode cX4_fits 54 = .ok (.iload_n 3, 1) := by decide +kernel
theorem dX4_fits_55 : decode cX4_fits 55 = .ok (.ifCond .eq 73, 3) := by decide +kernel
theorem dX4_fits_58 : decode cX4_fits 58 = .ok (.aload_n 1, 1) := by decide +kernel
theorem dX4_fits_59 : decode cX4_fits 59 = .ok (.getfield 113, 3) := by decide +kernel
theorem dX4_fits_62 : decode cX4_fits 62 = .ok (.iload 4, 2) := by decide +kernel
theorem dX4_fits_64 : decode cX4_fits 64 = .ok (.invokevirtual 57, 3) := by decide +kernel
theorem dX4_fits_67 : decode cX4_fits 67 = .ok (.checkcast 46, 3) := by decide +kernel
theorem dX4_fits_70 : decode cX4_fits 70 = .ok (.astore 5, 2) := by decide +kernel
theorem dX4_fits_72 : decode cX4_fits 72 = .ok (.aload 5, 2) := by decide +kernel
theorem dX4_fits_74 : decode cX4_fits 74 = .ok (.invokevirtual 120, 3) := by decide +kernel
theorem dX4_fits_77 : decode cX4_fits 77 = .ok (.iconst 3, 1) := by decide +kernel
theorem dX4_fits_78 : decode cX4_fits 78 = .ok (.if_icmp .eq 38, 3) := by decide +kernel
theorem dX4_fits_81 : decode cX4_fits 81 = .ok (.aload_n 2, 1) := by decide +kernel
theorem dX4_fits_82 : decode cX4_fits 82 = .ok (.getfield 85, 3) := by decide +kernel
theorem dX4_fits_85 : decode cX4_fits 85 = .ok (.iconst 1, 1) := by decide +kernel
theorem dX4_fits_86 : decode cX4_fits 86 = .ok (.if_icmp .ne 18, 3) := by decide +kernel
theorem dX4_fits_89 : decode cX4_fits 89 = .ok (.aload_n 0, 1) := by decide +kernel
theorem dX4_fits_90 : decode cX4_fits 90 = .ok (.aload 5, 2) := by decide +kernel
theorem dX4_fits_92 : decode cX4_fits 92 = .ok (.invokevirtual 122, 3) := by decide +kernel
theorem dX4_fits_95 : decode cX4_fits 95 = .ok (.invokevirtual 77, 3) := by decide +kernel
theorem dX4_fits_98 : decode cX4_fits 98 = .ok (.ifnull 22, 3) := by decide +kernel
theorem dX4_fits_101 : decode cX4_fits 101 = .ok (.goto 15, 3) := by decide +kernel
theorem dX4_fits_104 : decode cX4_fits 104 = .ok (.aload_n 2, 1) := by decide +kernel
theorem dX4_fits_105 : decode cX4_fits 105 = .ok (.aload 5, 2) := by decide +kernel
theorem dX4_fits_107 : decode cX4_fits 107 = .ok (.invokevirtual 122, 3) := by decide +kernel
theorem dX4_fits_110 : decode cX4_fits 110 = .ok (.invokevirtual 125, 3) := by decide +kernel
theorem dX4_fits_113 : decode cX4_fits 113 = .ok (.ifCond .eq 7, 3) := by decide +kernel
theorem dX4_fits_116 : decode cX4_fits 116 = .ok (.iconst 1, 1) := by decide +kernel
theorem dX4_fits_117 : decode cX4_fits 117 = .ok (.goto 4, 3) := by decide +kernel
theorem dX4_fits_120 : decode cX4_fits 120 = .ok (.iconst 0, 1) := by decide +kernel
theorem dX4_fits_121 : decode cX4_fits 121 = .ok (.istore_n 3, 1) := by decide +kernel
theorem dX4_fits_122 : decode cX4_fits 122 = .ok (.iinc 4 1, 3) := by decide +kernel
theorem dX4_fits_125 : decode cX4_fits 125 = .ok (.goto (-83), 3) := by decide +kernel
theorem dX4_fits_128 : decode cX4_fits 128 = .ok (.iload_n 3, 1) := by decide +kernel
theorem dX4_fits_129 : decode cX4_fits 129 = .ok (.ireturn, 1) := by decide +kernel
def c_X4_fits_42 : Nat → MEM → Int → Int → Int → Int → Int → Option zc_O
  | 0, _, _, _, _, _, _ => none
  | n + 1, μ, x0, x1, x2, x3, x4 => ck (zt [11] (μ x1 (-1)) = true) (ck (zt [40] (μ (μ x1 2) (-1)) = true) (bc (b_lsize μ (μ x1 2)) (fun r3 μ4 => if r3 ≤ x4 then (some (0, x3, μ4)) else (if x3 = 0 then (some (0, x3, μ4)) else (ck (zt [11] (μ4 x1 (-1)) = true) (ck (zt [40] (μ4 (μ4 x1 2) (-1)) = true) (bc (b_lget μ4 (μ4 x1 2) x4) (fun r8 μ9 => ck (zt [6, 11, 13, 14] (μ9 r8 (-1)) = true) (bc (dv_kind μ9 r8) (fun r12 μ13 => if r12 = 3 then (ck (inR (x4 + 1)) (c_X4_fits_42 n μ13 x0 x1 x2 1 (x4 + 1))) else (ck (zt [8] (μ13 x2 (-1)) = true) (if (μ13 x2 1) = 1 then (ck (zt [6, 11, 13, 14] (μ13 r8 (-1)) = true) (bc (dv_name μ13 r8) (fun r19 μ20 => ck (zt [4] (μ20 x0 (-1)) = true) (bc (c_X4_spec μ20 x0 r19) (fun r23 μ24 => if r23 = 0 then (ck (inR (x4 + 1)) (c_X4_fits_42 n μ24 x0 x1 x2 0 (x4 + 1))) else (ck (inR (x4 + 1)) (c_X4_fits_42 n μ24 x0 x1 x2 1 (x4 + 1)))))))) else (ck (zt [6, 11, 13, 14] (μ13 r8 (-1)) = true) (bc (dv_name μ13 r8) (fun r29 μ30 => ck (zt [8] (μ30 x2 (-1)) = true) (bc (c_X8_hasPlace μ30 x2 r29) (fun r33 μ34 => if r33 = 0 then (ck (inR (x4 + 1)) (c_X4_fits_42 n μ34 x0 x1 x2 0 (x4 + 1))) else (ck (inR (x4 + 1)) (c_X4_fits_42 n μ34 x0 x1 x2 1 (x4 + 1))))))))))))))))))))
theorem u_X4_fits_42 {C : zv_Cx zc_O} {G : zc_G} {μ0 : MEM} (h : zv_Ok C cX4_fits "TreePress$Document") (hc : zc_C C G μ0 6 (Option.some FieldType.boolean) 3 5 119 "fits" []) : ∀ (n : Nat) (μ : MEM) (x0 x1 x2 x3 x4 : Int), isB x3 → inR x4 → VV C (c_X4_fits_42 n μ x0 x1 x2 x3 x4) μ [(0, zc_rv G x0), (1, zc_rv G x1), (2, zc_rv G x2), (3, iv x3), (4, iv x4)] [] 42 := by
  have hN : ∀ i, i < 6 → i < zv_n C := fun i q => by rw [hc.2.1]; exact q
  intro n
  induction n with
  | zero => intros; exact r_none
  | succ n ih =>
    intro μ x0 x1 x2 x3 x4 hx3 hx4
    rw [c_X4_fits_42]
    refine r_iload h 4 dX4_fits_42 rfl ?_
    refine c_aload_n (x := x1) h 1 dX4_fits_44 rfl rfl ?_
    refine r_ck (fun ht1 => ?_)
    refine c_getR (fin := true) h hc [11] 2 (zc_lk2 h q311 q310) ht1 (by decide) dX4_fits_45 ?_
    refine r_ck (fun ht2 => ?_)
    refine c_callV (x := (μ x1 2)) h hc (As := []) (fun o1 e1 => w_lsize _ (μ x1 2) o1 e1) [40] ht2 (by decide) q342 q343 (fun t ht => by cases List.mem_singleton.mp ht; exact q344) q345 q135 (by omega) (by omega) (zc_sc (iv_cat _) zc_s0) (by omega) (fun z hz => by cases hz) ⟨by decide, by decide⟩ (n := 0) (by decide +kernel) rfl rfl dX4_fits_48 (fun r3 μ4 hr5 => r_k1 ?_)
    refine r_icmp_ge (x := x4) (y := r3) h hx4 hr5 128 dX4_fits_51 rfl ?_ ?_
    · refine r_iload_n h 3 dX4_fits_128 rfl rfl ?_
      exact c_zret h hc rfl hx3 dX4_fits_129
    · refine r_iload_n h 3 dX4_fits_54 rfl rfl ?_
      refine r_if_eq (x := x3) h hx3.r 128 dX4_fits_55 rfl ?_ ?_
      · refine r_iload_n h 3 dX4_fits_128 rfl rfl ?_
        exact c_zret h hc rfl hx3 dX4_fits_129
      · refine c_aload_n (x := x1) h 1 dX4_fits_58 rfl rfl ?_
        refine r_ck (fun ht6 => ?_)
        refine c_getR (fin := true) h hc [11] 2 (zc_lk2 h q311 q310) ht6 (by decide) dX4_fits_59 ?_
        refine r_iload h 4 dX4_fits_62 rfl ?_
        refine r_ck (fun ht7 => ?_)
        refine c_callV (x := (μ4 x1 2)) h hc (As := [iv x4]) (fun o1 e1 => w_lget _ (μ4 x1 2) x4 hx4 o1 e1) [40] ht7 (by decide) q862 q844 (fun t ht => by cases List.mem_singleton.mp ht; exact q845) q846 q135 (by omega) (by omega) zc_s0 (by omega) (fun z hz => by cases hz) ⟨by decide, by decide⟩ (n := 1) (by decide +kernel) rfl rfl dX4_fits_64 (fun r8 μ9 hr10 => r_k4 ?_)
        refine r_ck (fun ht11 => ?_)
        refine c_cast h hc [6, 11, 13, 14] q1097 ht11 (by decide) dX4_fits_67 ?_
        refine c_astore (lv' := [(5, zc_rv G r8), (0, zc_rv G x0), (1, zc_rv G x1), (2, zc_rv G x2), (3, iv x3), (4, iv x4)]) h dX4_fits_70 (hN _ (by decide)) rfl ?_
        refine c_aload (x := r8) h 0 dX4_fits_72 rfl ?_
        refine cd_kind (x := r8)  h hc (hM := dm_kind) ht11 q1098 (by omega) (by omega) zc_s0 (by omega) (fun z hz => by cases hz) dX4_fits_74 (fun r12 μ13 hr14 => r_k1 ?_)
        refine r_iconst h dX4_fits_77 ?_
        refine r_icmp_eq (x := r12) (y := 3) h hr14 (by decide) 116 dX4_fits_78 rfl ?_ ?_
        · refine r_iconst h dX4_fits_116 ?_
          refine r_goto h 121 dX4_fits_117 rfl ?_
          refine r_istore_n (i := 3) (lv' := [(3, iv 1), (5, zc_rv G r8), (0, zc_rv G x0), (1, zc_rv G x1), (2, zc_rv G x2), (4, iv x4)]) h dX4_fits_121 rfl (hN _ (by decide)) (by simp [zc_rv_cat]) ?_
          refine r_iinc (lv' := [(4, iv (x4 + 1)), (3, iv 1), (5, zc_rv G r8), (0, zc_rv G x0), (1, zc_rv G x1), (2, zc_rv G x2)]) h 5 dX4_fits_122 rfl (hN _ (by decide)) rfl ?_
          refine r_goto h 42 dX4_fits_125 rfl ?_
          refine r_ck (fun hk15 => ?_)
          exact r_lv [3, 4, 5, 1, 0] rfl (ih _ x0 x1 x2 1 (x4 + 1) (by decide) hk15)
        · refine c_aload_n (x := x2) h 3 dX4_fits_81 rfl rfl ?_
          refine r_ck (fun ht16 => ?_)
          refine c_getI (fin := false) h hc [8] 1 (zc_lk3 hc (O := "TreePress$Spec") (n := "kind") (ds := "I") (host := "TreePress") (by decide)) ht16 (by decide) dX4_fits_82 (fun hr17 => ?_)
          refine r_iconst h dX4_fits_85 ?_
          refine r_icmp_ne (x := (μ13 x2 1)) (y := 1) h hr17 (by decide) 104 dX4_fits_86 rfl ?_ ?_
          · refine c_aload_n (x := x0) h 1 dX4_fits_89 rfl rfl ?_
            refine c_aload (x := r8) h 0 dX4_fits_90 rfl ?_
            refine r_ck (fun ht18 => ?_)
            refine cd_name (x := r8)  h hc (hM := dm_name) ht18 q1114 (by omega) (by omega) (zc_sc (zc_rv_cat G _) zc_s0) (by omega) (fun z hz => by cases hz) dX4_fits_92 (fun r19 μ20 hr21 => r_k4 ?_)
            refine r_ck (fun ht22 => ?_)
            refine c_callV (x := x0) h hc (As := [zc_rv G r19]) (fun o1 e1 => u_X4_spec _ x0 r19 o1 e1) [4] ht22 (by decide) q1027 q1028 (fun t ht => by cases List.mem_singleton.mp ht; exact q1029) q1030 q140 (by omega) (by omega) zc_s0 (by omega) (fun z hz => by cases hz) ⟨by decide, by decide⟩ (n := 1) (by decide +kernel) rfl rfl dX4_fits_95 (fun r23 μ24 hr25 => r_k4 ?_)
            refine c_ifnull (x := r23) h 120 dX4_fits_98 rfl ?_ ?_
            · refine r_iconst h dX4_fits_120 ?_
              refine r_istore_n (i := 3) (lv' := [(3, iv 0), (5, zc_rv G r8), (0, zc_rv G x0), (1, zc_rv G x1), (2, zc_rv G x2), (4, iv x4)]) h dX4_fits_121 rfl (hN _ (by decide)) (by simp [zc_rv_cat]) ?_
              refine r_iinc (lv' := [(4, iv (x4 + 1)), (3, iv 0), (5, zc_rv G r8), (0, zc_rv G x0), (1, zc_rv G x1), (2, zc_rv G x2)]) h 5 dX4_fits_122 rfl (hN _ (by decide)) rfl ?_
              refine r_goto h 42 dX4_fits_125 rfl ?_
              refine r_ck (fun hk26 => ?_)
              exact r_lv [3, 4, 5, 1, 0] rfl (ih _ x0 x1 x2 0 (x4 + 1) (by decide) hk26)
            · refine r_goto h 116 dX4_fits_101 rfl ?_
              refine r_iconst h dX4_fits_116 ?_
              refine r_goto h 121 dX4_fits_117 rfl ?_
              refine r_istore_n (i := 3) (lv' := [(3, iv 1), (5, zc_rv G r8), (0, zc_rv G x0), (1, zc_rv G x1), (2, zc_rv G x2), (4, iv x4)]) h dX4_fits_121 rfl (hN _ (by decide)) (by simp [zc_rv_cat]) ?_
              refine r_iinc (lv' := [(4, iv (x4 + 1)), (3, iv 1), (5, zc_rv G r8), (0, zc_rv G x0), (1, zc_rv G x1), (2, zc_rv G x2)]) h 5 dX4_fits_122 rfl (hN _ (by decide)) rfl ?_
              refine r_goto h 42 dX4_fits_125 rfl ?_
              refine r_ck (fun hk27 => ?_)
              exact r_lv [3, 4, 5, 1, 0] rfl (ih _ x0 x1 x2 1 (x4 + 1) (by decide) hk27)
          · refine c_aload_n (x := x2) h 3 dX4_fits_104 rfl rfl ?_
            refine c_aload (x := r8) h 0 dX4_fits_105 rfl ?_
            refine r_ck (fun ht28 => ?_)
            refine cd_name (x := r8)  h hc (hM := dm_name) ht28 q1114 (by omega) (by omega) (zc_sc (zc_rv_cat G _) zc_s0) (by omega) (fun z hz => by cases hz) dX4_fits_107 (fun r29 μ30 hr31 => r_k4 ?_)
            refine r_ck (fun ht32 => ?_)
            refine c_callVN (x := x2) h hc (As := [zc_rv G r29]) (fun o1 e1 => u_X8_hasPlace _ x2 r29 o1 e1) [8] ht32 (by decide) (host := "TreePress") (by decide) q1117 (fun t ht => by cases List.mem_singleton.mp ht; exact qs39) q1118 q154 (by omega) (by omega) zc_s0 (by omega) (fun z hz => by cases hz) ⟨by decide, by decide⟩ (n := 1) (by decide +kernel) rfl rfl dX4_fits_110 (fun r33 μ34 hr35 => r_k3 ?_)
            refine r_if_eq (x := r33) h hr35.r 120 dX4_fits_113 rfl ?_ ?_
            · refine r_iconst h dX4_fits_120 ?_
              refine r_istore_n (i := 3) (lv' := [(3, iv 0), (5, zc_rv G r8), (0, zc_rv G x0), (1, zc_rv G x1), (2, zc_rv G x2), (4, iv x4)]) h dX4_fits_121 rfl (hN _ (by decide)) (by simp [zc_rv_cat]) ?_
              refine r_iinc (lv' := [(4, iv (x4 + 1)), (3, iv 0), (5, zc_rv G r8), (0, zc_rv G x0), (1, zc_rv G x1), (2, zc_rv G x2)]) h 5 dX4_fits_122 rfl (hN _ (by decide)) rfl ?_
              refine r_goto h 42 dX4_fits_125 rfl ?_
              refine r_ck (fun hk36 => ?_)
              exact r_lv [3, 4, 5, 1, 0] rfl (ih _ x0 x1 x2 0 (x4 + 1) (by decide) hk36)
            · refine r_iconst h dX4_fits_116 ?_
              refine r_goto h 121 dX4_fits_117 rfl ?_
              refine r_istore_n (i := 3) (lv' := [(3, iv 1), (5, zc_rv G r8), (0, zc_rv G x0), (1, zc_rv G x1), (2, zc_rv G x2), (4, iv x4)]) h dX4_fits_121 rfl (hN _ (by decide)) (by simp [zc_rv_cat]) ?_
              refine r_iinc (lv' := [(4, iv (x4 + 1)), (3, iv 1), (5, zc_rv G r8), (0, zc_rv G x0), (1, zc_rv G x1), (2, zc_rv G x2)]) h 5 dX4_fits_122 rfl (hN _ (by decide)) rfl ?_
              refine r_goto h 42 dX4_fits_125 rfl ?_
              refine r_ck (fun hk37 => ?_)
              exact r_lv [3, 4, 5, 1, 0] rfl (ih _ x0 x1 x2 1 (x4 + 1) (by decide) hk37)
def c_X4_fits (μ : MEM) (a0 a1 a2 : Int) : Option zc_O := ck (zt [8] (μ a2 (-1)) = true) (if (μ a2 1) = 0 then (ck (zt [11] (μ a1 (-1)) = true) (ck (zt [40] (μ (μ a1 2) (-1)) = true) (bc (b_lsize μ (μ a1 2)) (fun r5 μ6 => if r5 = 0 then (some (0, 1, μ6)) else (some (0, 0, μ6)))))) else (if (μ a2 1) = 3 then (bc (c_X8_isRow μ a2 a1) (fun r9 μ10 => some (0, r9, μ10))) else (c_X4_fits_42 zF μ a0 a1 a2 1 0)))
theorem u_X4_fits {G : zc_G} (μ : MEM) (a0 a1 a2 : Int) (o : zc_O) (hd : c_X4_fits μ a0 a1 a2 = some o) : zc_Met G yX4_fits cX4_fits 6 (Option.some FieldType.boolean) 3 5 119 μ [zc_rv G a0, zc_rv G a1, zc_rv G a2] o := by
  refine zc_intro hd (by decide) (by simp [lg_sl, zc_rv_cat, iv_cat, jv_cat]) (lv := [(0, zc_rv G a0), (1, zc_rv G a1), (2, zc_rv G a2)]) (by simp [lv_args, zc_rv_cat, iv_cat, jv_cat]) (fun C h hc => ?_)
  have h : zv_Ok C cX4_fits "TreePress$Document" := h
  have hc : zc_C C G μ 6 (Option.some FieldType.boolean) 3 5 119 "fits" [] := hc
  have hN : ∀ i, i < 6 → i < zv_n C := fun i q => by rw [hc.2.1]; exact q
  unfold c_X4_fits
  refine c_aload_n (x := a2) h 2 dX4_fits_0 rfl rfl ?_
  refine r_ck (fun ht1 => ?_)
  refine c_getI (fin := false) h hc [8] 1 (zc_lk3 hc (O := "TreePress$Spec") (n := "kind") (ds := "I") (host := "TreePress") (by decide)) ht1 (by decide) dX4_fits_1 (fun hr2 => ?_)
  refine r_if_ne (x := (μ a2 1)) h hr2 23 dX4_fits_4 rfl ?_ ?_
  · refine c_aload_n (x := a1) h 1 dX4_fits_7 rfl rfl ?_
    refine r_ck (fun ht3 => ?_)
    refine c_getR (fin := true) h hc [11] 2 (zc_lk2 h q311 q310) ht3 (by decide) dX4_fits_8 ?_
    refine r_ck (fun ht4 => ?_)
    refine c_callV (x := (μ a1 2)) h hc (As := []) (fun o1 e1 => w_lsize _ (μ a1 2) o1 e1) [40] ht4 (by decide) q342 q343 (fun t ht => by cases List.mem_singleton.mp ht; exact q344) q345 q135 (by omega) (by omega) zc_s0 (by omega) (fun z hz => by cases hz) ⟨by decide, by decide⟩ (n := 0) (by decide +kernel) rfl rfl dX4_fits_11 (fun r5 μ6 hr7 => r_k1 ?_)
    refine r_if_ne (x := r5) h hr7 21 dX4_fits_14 rfl ?_ ?_
    · refine r_iconst h dX4_fits_17 ?_
      refine r_goto h 22 dX4_fits_18 rfl ?_
      exact c_zret h hc rfl (by decide) dX4_fits_22
    · refine r_iconst h dX4_fits_21 ?_
      exact c_zret h hc rfl (by decide) dX4_fits_22
  · refine c_aload_n (x := a2) h 2 dX4_fits_23 rfl rfl ?_
    refine c_getI (fin := false) h hc [8] 1 (zc_lk3 hc (O := "TreePress$Spec") (n := "kind") (ds := "I") (host := "TreePress") (by decide)) ht1 (by decide) dX4_fits_24 (fun hr8 => ?_)
    refine r_iconst h dX4_fits_27 ?_
    refine r_icmp_ne (x := (μ a2 1)) (y := 3) h hr8 (by decide) 37 dX4_fits_28 rfl ?_ ?_
    · refine c_aload_n (x := a2) h 2 dX4_fits_31 rfl rfl ?_
      refine c_aload_n (x := a1) h 1 dX4_fits_32 rfl rfl ?_
      refine c_callVN (x := a2) h hc (As := [zc_rv G a1]) (fun o1 e1 => u_X8_isRow _ a2 a1 o1 e1) [8] ht1 (by decide) (host := "TreePress") (by decide) q1077 (fun t ht => by cases List.mem_singleton.mp ht; exact qs37) q1078 q154 (by omega) (by omega) zc_s0 (by omega) (fun z hz => by cases hz) ⟨by decide, by decide⟩ (n := 1) (by decide +kernel) rfl rfl dX4_fits_33 (fun r9 μ10 hr11 => r_k3 ?_)
      exact c_zret h hc rfl hr11 dX4_fits_36
    · refine r_iconst h dX4_fits_37 ?_
      refine r_istore_n (i := 3) (lv' := [(3, iv 1), (0, zc_rv G a0), (1, zc_rv G a1), (2, zc_rv G a2)]) h dX4_fits_38 rfl (hN _ (by decide)) (by simp [zc_rv_cat]) ?_
      refine r_iconst h dX4_fits_39 ?_
      refine r_istore (lv' := [(4, iv 0), (3, iv 1), (0, zc_rv G a0), (1, zc_rv G a1), (2, zc_rv G a2)]) h dX4_fits_40 (hN _ (by decide)) rfl ?_
      exact r_lv [2, 3, 4, 1, 0] rfl (u_X4_fits_42 h hc zF _ a0 a1 a2 1 0 (by decide) (by decide))
theorem dX4_judgeAttribute_0 : decode cX4_judgeAttribute 0 = .ok (.aload_n 0, 1) := by decide +kernel
theorem dX4_judgeAttribute_1 : decode cX4_judgeAttribute 1 = .ok (.aload_n 1, 1) := by decide +kernel
theorem dX4_judgeAttribute_2 : decode cX4_judgeAttribute 2 = .ok (.getfield 128, 3) := by decide +kernel
theorem dX4_judgeAttribute_5 : decode cX4_judgeAttribute 5 = .ok (.aload_n 2, 1) := by decide +kernel
theorem dX4_judgeAttribute_6 : decode cX4_judgeAttribute 6 = .ok (.getfield 129, 3) := by decide +kernel
theorem dX4_judgeAttribute_9 : decode cX4_judgeAttribute 9 = .ok (.invokevirtual 98, 3) := by decide +kernel
theorem dX4_judgeAttribute_12 : decode cX4_judgeAttribute 12 = .ok (.astore_n 3, 1) := by decide +kernel
theorem dX4_judgeAttribute_13 : decode cX4_judgeAttribute 13 = .ok (.aload_n 3, 1) := by decide +kernel
theorem dX4_judgeAttribute_14 : decode cX4_judgeAttribute 14 = .ok (.ifnonnull 14, 3) := by decide +kernel
theorem dX4_judgeAttribute_17 : decode cX4_judgeAttribute 17 = .ok (.aload_n 0, 1) := by decide +kernel
theorem dX4_judgeAttribute_18 : decode cX4_judgeAttribute 18 = .ok (.bipush 9, 2) := by decide +kernel
theorem dX4_judgeAttribute_20 : decode cX4_judgeAttribute 20 = .ok (.aload_n 2, 1) := by decide +kernel
theorem dX4_judgeAttribute_21 : decode cX4_judgeAttribute 21 = .ok (.getfield 132, 3) := by decide +kernel
theorem dX4_judgeAttribute_24 : decode cX4_judgeAttribute 24 = .ok (.invokevirtual 81, 3) := by decide +kernel
theorem dX4_judgeAttribute_27 : decode cX4_judgeAttribute 27 = .ok (.return_, 1) := by decide +kernel
theorem dX4_judgeAttribute_28 : decode cX4_judgeAttribute 28 = .ok (.aload_n 3, 1) := by decide +kernel
theorem dX4_judgeAttribute_29 : decode cX4_judgeAttribute 29 = .ok (.aload_n 2, 1) := by decide +kernel
theorem dX4_judgeAttribute_30 : decode cX4_judgeAttribute 30 = .ok (.getfield 133, 3) := by decide +kernel
theorem dX4_judgeAttribute_33 : decode cX4_judgeAttribute 33 = .ok (.invokevirtual 109, 3) := by decide +kernel
theorem dX4_judgeAttribute_36 : decode cX4_judgeAttribute 36 = .ok (.ifCond .eq 25, 3) := by decide +kernel
theorem dX4_judgeAttribute_39 : decode cX4_judgeAttribute 39 = .ok (.aload_n 3, 1) := by decide +kernel
theorem dX4_judgeAttribute_40 : decode cX4_judgeAttribute 40 = .ok (.getfield 136, 3) := by decide +kernel
theorem dX4_judgeAttribute_43 : decode cX4_judgeAttribute 43 = .ok (.iconst 2, 1) := by decide +kernel
theorem dX4_judgeAttribute_44 : decode cX4_judgeAttribute 44 = .ok (.if_icmp .ne 21, 3) := by decide +kernel
theorem dX4_judgeAttribute_47 : decode cX4_judgeAttribute 47 = .ok (.aload_n 3, 1) := by decide +kernel
theorem dX4_judgeAttribute_48 : decode cX4_judgeAttribute 48 = .ok (.getfield 105, 3) := by decide +kernel
theorem dX4_judgeAttribute_51 : decode cX4_judgeAttribute 51 = .ok (.aload_n 2, 1) := by decide +kernel
theorem dX4_judgeAttribute_52 : decode cX4_judgeAttribute 52 = .ok (.getfield 133, 3) := by decide +kernel
theorem dX4_judgeAttribute_55 : decode cX4_judgeAttribute 55 = .ok (.invokestatic 67, 3) := by decide +kernel
theorem dX4_judgeAttribute_58 : decode cX4_judgeAttribute 58 = .ok (.ifCond .ne 7, 3) := by decide +kernel
theorem dX4_judgeAttribute_61 : decode cX4_judgeAttribute 61 = .ok (.iconst 1, 1) := by decide +kernel
theorem dX4_judgeAttribute_62 : decode cX4_judgeAttribute 62 = .ok (.goto 4, 3) := by decide +kernel
theorem dX4_judgeAttribute_65 : decode cX4_judgeAttribute 65 = .ok (.iconst 0, 1) := by decide +kernel
theorem dX4_judgeAttribute_66 : decode cX4_judgeAttribute 66 = .ok (.istore 4, 2) := by decide +kernel
theorem dX4_judgeAttribute_68 : decode cX4_judgeAttribute 68 = .ok (.iconst 0, 1) := by decide +kernel
theorem dX4_judgeAttribute_69 : decode cX4_judgeAttribute 69 = .ok (.istore 5, 2) := by decide +kernel
theorem dX4_judgeAttribute_71 : decode cX4_judgeAttribute 71 = .ok (.iconst 0, 1) := by decide +kernel
theorem dX4_judgeAttribute_72 : decode cX4_judgeAttribute 72 = .ok (.istore 6, 2) := by decide +kernel
theorem dX4_judgeAttribute_74 : decode cX4_judgeAttribute 74 = .ok (.iload 6, 2) := by decide +kernel
theorem dX4_judgeAttribute_76 : decode cX4_judgeAttribute 76 = .ok (.aload_n 0, 1) := by decide +kernel
theorem dX4_judgeAttribute_77 : decode cX4_judgeAttribute 77 = .ok (.getfield 34, 3) := by decide +kernel
theorem dX4_judgeAttribute_80 : decode cX4_judgeAttribute 80 = .ok (.invokevirtual 41, 3) := by decide +kernel
theorem dX4_judgeAttribute_83 : decode cX4_judgeAttribute 83 = .ok (.if_icmp .ge 46, 3) := by decide +kernel
theorem dX4_judgeAttribute_86 : decode cX4_judgeAttribute 86 = .ok (.aload_n 3, 1) := by decide +kernel
theorem dX4_judgeAttribute_87 : decode cX4_judgeAttribute 87 = .ok (.getfield 102, 3) := by decide +kernel
theorem dX4_judgeAttribute_90 : decode cX4_judgeAttribute 90 = .ok (.iconst 1, 1) := by decide +kernel
theorem dX4_judgeAttribute_91 : decode cX4_judgeAttribute 91 = .ok (.if_icmp .ne 38, 3) := by decide +kernel
theorem dX4_judgeAttribute_94 : decode cX4_judgeAttribute 94 = .ok (.iload 5, 2) := by decide +kernel
theorem dX4_judgeAttribute_96 : decode cX4_judgeAttribute 96 = .ok (.ifCond .ne 33, 3) := by decide +kernel
theorem dX4_judgeAttribute_99 : decode cX4_judgeAttribute 99 = .ok (.aload_n 0, 1) := by decide +kernel
theorem dX4_judgeAttribute_100 : decode cX4_judgeAttribute 100 = .ok (.getfield 34, 3) := by decide +kernel
theorem dX4_judgeAttribute_103 : decode cX4_judgeAttribute 103 = .ok (.iload 6, 2) := by decide +kernel
theorem dX4_judgeAttribute_105 : decode cX4_judgeAttribute 105 = .ok (.invokevirtual 57, 3) := by decide +kernel
theorem dX4_judgeAttribute_108 : decode cX4_judgeAttribute 108 = .ok (.checkcast 130, 3) := by decide +kernel
theorem dX4_judgeAttribute_111 : decode cX4_judgeAttribute 111 = .ok (.getfield 133, 3) := by decide +kernel
theorem dX4_judgeAttribute_114 : decode cX4_judgeAttribute 114 = .ok (.aload_n 2, 1) := by decide +kernel
theorem dX4_judgeAttribute_115 : decode cX4_judgeAttribute 115 = .ok (.getfield 133, 3) := by decide +kernel
theorem dX4_judgeAttribute_118 : decode cX4_judgeAttribute 118 = .ok (.invokestatic 67, 3) := by decide +kernel
theorem dX4_judgeAttribute_121 : decode cX4_judgeAttribute 121 = .ok (.istore 5, 2) := by decide +kernel
theorem dX4_judgeAttribute_123 : decode cX4_judgeAttribute 123 = .ok (.iinc 6 1, 3) := by decide +kernel
theorem dX4_judgeAttribute_126 : decode cX4_judgeAttribute 126 = .ok (.goto (-52), 3) := by decide +kernel
theorem dX4_judgeAttribute_129 : decode cX4_judgeAttribute 129 = .ok (.iload 4, 2) := by decide +kernel
theorem dX4_judgeAttribute_131 : decode cX4_judgeAttribute 131 = .ok (.ifCond .eq 16, 3) := by decide +kernel
theorem dX4_judgeAttribute_134 : decode cX4_judgeAttribute 134 = .ok (.aload_n 0, 1) := by decide +kernel
theorem dX4_judgeAttribute_135 : decode cX4_judgeAttribute 135 = .ok (.bipush 10, 2) := by decide +kernel
theorem dX4_judgeAttribute_137 : decode cX4_judgeAttribute 137 = .ok (.aload_n 2, 1) := by decide +kernel
theorem dX4_judgeAttribute_138 : decode cX4_judgeAttribute 138 = .ok (.getfield 132, 3) := by decide +kernel
theorem dX4_judgeAttribute_141 : decode cX4_judgeAttribute 141 = .ok (.invokevirtual 81, 3) := by decide +kernel
theorem dX4_judgeAttribute_144 : decode cX4_judgeAttribute 144 = .ok (.goto 18, 3) := by decide +kernel
theorem dX4_judgeAttribute_147 : decode cX4_judgeAttribute 147 = .ok (.iload 5, 2) := by decide +kernel
theorem dX4_judgeAttribute_149 : decode cX4_judgeAttribute 149 = .ok (.ifCond .eq 13, 3) := by decide +kernel
theorem dX4_judgeAttribute_152 : decode cX4_judgeAttribute 152 = .ok (.aload_n 0, 1) := by decide +kernel
theorem dX4_judgeAttribute_153 : decode cX4_judgeAttribute 153 = .ok (.bipush 11, 2) := by decide +kernel
theorem dX4_judgeAttribute_155 : decode cX4_judgeAttribute 155 = .ok (.aload_n 2, 1) := by decide +kernel
theorem dX4_judgeAttribute_156 : decode cX4_judgeAttribute 156 = .ok (.getfield 132, 3) := by decide +kernel
theorem dX4_judgeAttribute_159 : decode cX4_judgeAttribute 159 = .ok (.invokevirtual 81, 3) := by decide +kernel
theorem dX4_judgeAttribute_162 : decode cX4_judgeAttribute 162 = .ok (.aload_n 3, 1) := by decide +kernel
theorem dX4_judgeAttribute_163 : decode cX4_judgeAttribute 163 = .ok (.getfield 102, 3) := by decide +kernel
theorem dX4_judgeAttribute_166 : decode cX4_judgeAttribute 166 = .ok (.iconst 1, 1) := by decide +kernel
theorem dX4_judgeAttribute_167 : decode cX4_judgeAttribute 167 = .ok (.if_icmp .ne 12, 3) := by decide +kernel
theorem dX4_judgeAttribute_170 : decode cX4_judgeAttribute 170 = .ok (.aload_n 0, 1) := by decide +kernel
theorem dX4_judgeAttribute_171 : decode cX4_judgeAttribute 171 = .ok (.getfield 34, 3) := by decide +kernel
theorem dX4_judgeAttribute_174 : decode cX4_judgeAttribute 174 = .ok (.aload_n 2, 1) := by decide +kernel
theorem dX4_judgeAttribute_175 : decode cX4_judgeAttribute 175 = .ok (.invokevirtual 54, 3) := by decide +kernel
theorem dX4_judgeAttribute_178 : decode cX4_judgeAttribute 178 = .ok (.pop, 1) := by decide +kernel
theorem dX4_judgeAttribute_179 : decode cX4_judgeAttribute 179 = .ok (.return_, 1) := by decide +kernel
def c_X4_judgeAttribute_162 (μ : MEM) (x0 x2 x3 : Int) : Option zc_O := ck (zt [10] (μ x3 (-1)) = true) (if (μ x3 3) = 1 then (ck (zt [4] (μ x0 (-1)) = true) (ck (zt [40] (μ (μ x0 7) (-1)) = true) (bc (b_ladd μ (μ x0 7) x2) (fun r5 μ6 => some (0, 0, μ6))))) else (some (0, 0, μ)))
theorem u_X4_judgeAttribute_162 {C : zv_Cx zc_O} {G : zc_G} {μ0 : MEM} (h : zv_Ok C cX4_judgeAttribute "TreePress$Document") (hc : zc_C C G μ0 7 (Option.none : Option FieldType) 0 8 174 "judgeAttribute" []) (μ : MEM) (x0 x2 x3 : Int) : VV C (c_X4_judgeAttribute_162 μ x0 x2 x3) μ [(0, zc_rv G x0), (2, zc_rv G x2), (3, zc_rv G x3)] [] 162 := by
  have hN : ∀ i, i < 7 → i < zv_n C := fun i q => by rw [hc.2.1]; exact q
  unfold c_X4_judgeAttribute_162
  refine c_aload_n (x := x3) h 2 dX4_judgeAttribute_162 rfl rfl ?_
  refine r_ck (fun ht1 => ?_)
  refine c_getI (fin := false) h hc [10] 3 (zc_lk3 hc (O := "TreePress$Rule") (n := "type") (ds := "I") (host := "TreePress") (by decide)) ht1 (by decide) dX4_judgeAttribute_163 (fun hr2 => ?_)
  refine r_iconst h dX4_judgeAttribute_166 ?_
  refine r_icmp_ne (x := (μ x3 3)) (y := 1) h hr2 (by decide) 179 dX4_judgeAttribute_167 rfl ?_ ?_
  · refine c_aload_n (x := x0) h 0 dX4_judgeAttribute_170 rfl rfl ?_
    refine r_ck (fun ht3 => ?_)
    refine c_getR (fin := true) h hc [4] 7 (zc_lk1 h q426) ht3 (by decide) dX4_judgeAttribute_171 ?_
    refine c_aload_n (x := x2) h 1 dX4_judgeAttribute_174 rfl rfl ?_
    refine r_ck (fun ht4 => ?_)
    refine c_callV (x := (μ x0 7)) h hc (As := [zc_rv G x2]) (fun o1 e1 => w_ladd _ (μ x0 7) x2 o1 e1) [40] ht4 (by decide) q346 q347 (fun t ht => by cases List.mem_singleton.mp ht; exact q348) q349 q135 (by omega) (by omega) zc_s0 (by omega) (fun z hz => by cases hz) ⟨by decide, by decide⟩ (n := 1) (by decide +kernel) rfl rfl dX4_judgeAttribute_175 (fun r5 μ6 hr7 => r_k3 ?_)
    refine r_pop h dX4_judgeAttribute_178 (iv_cat _) ?_
    exact c_vret h hc rfl dX4_judgeAttribute_179
  · exact c_vret h hc rfl dX4_judgeAttribute_179
def c_X4_judgeAttribute_129 (μ : MEM) (x0 x2 x3 x4 x5 : Int) : Option zc_O := if x4 = 0 then (if x5 = 0 then (c_X4_judgeAttribute_162 μ x0 x2 x3) else (ck (zt [13] (μ x2 (-1)) = true) (ck (zt [4] (μ x0 (-1)) = true) (bc (c_X4_find μ x0 11 (μ x2 0)) (fun _ μ4 => c_X4_judgeAttribute_162 μ4 x0 x2 x3))))) else (ck (zt [13] (μ x2 (-1)) = true) (ck (zt [4] (μ x0 (-1)) = true) (bc (c_X4_find μ x0 10 (μ x2 0)) (fun _ μ8 => c_X4_judgeAttribute_162 μ8 x0 x2 x3))))
theorem u_X4_judgeAttribute_129 {C : zv_Cx zc_O} {G : zc_G} {μ0 : MEM} (h : zv_Ok C cX4_judgeAttribute "TreePress$Document") (hc : zc_C C G μ0 7 (Option.none : Option FieldType) 0 8 174 "judgeAttribute" []) (μ : MEM) (x0 x2 x3 x4 x5 : Int) (hx4 : isB x4) (hx5 : isB x5) : VV C (c_X4_judgeAttribute_129 μ x0 x2 x3 x4 x5) μ [(0, zc_rv G x0), (2, zc_rv G x2), (3, zc_rv G x3), (4, iv x4), (5, iv x5)] [] 129 := by
  have hN : ∀ i, i < 7 → i < zv_n C := fun i q => by rw [hc.2.1]; exact q
  unfold c_X4_judgeAttribute_129
  refine r_iload h 3 dX4_judgeAttribute_129 rfl ?_
  refine r_if_eq (x := x4) h hx4.r 147 dX4_judgeAttribute_131 rfl ?_ ?_
  · refine r_iload h 4 dX4_judgeAttribute_147 rfl ?_
    refine r_if_eq (x := x5) h hx5.r 162 dX4_judgeAttribute_149 rfl ?_ ?_
    · exact r_lv [0, 1, 2] rfl (u_X4_judgeAttribute_162 h hc _ x0 x2 x3)
    · refine c_aload_n (x := x0) h 0 dX4_judgeAttribute_152 rfl rfl ?_
      refine r_bipush h dX4_judgeAttribute_153 (by decide) ?_
      refine c_aload_n (x := x2) h 1 dX4_judgeAttribute_155 rfl rfl ?_
      refine r_ck (fun ht1 => ?_)
      refine c_getI (fin := false) h hc [13] 0 (zc_lk2 h q320 q321) ht1 (by decide) dX4_judgeAttribute_156 (fun hr2 => ?_)
      refine r_ck (fun ht3 => ?_)
      refine c_callV (x := x0) h hc (As := [iv 11, iv (μ x2 0)]) (fun o1 e1 => u_X4_find _ x0 11 (μ x2 0) (by decide) hr2 o1 e1) [4] ht3 (by decide) q1031 q1033 (fun t ht => by cases List.mem_singleton.mp ht; exact qs32) q1034 q140 (by omega) (by omega) zc_s0 (by omega) (fun z hz => by cases hz) ⟨by decide, by decide⟩ (n := 2) (by decide +kernel) rfl rfl dX4_judgeAttribute_159 (fun _ μ4 _ => r_k0 ?_)
      exact r_lv [0, 1, 2] rfl (u_X4_judgeAttribute_162 h hc _ x0 x2 x3)
  · refine c_aload_n (x := x0) h 0 dX4_judgeAttribute_134 rfl rfl ?_
    refine r_bipush h dX4_judgeAttribute_135 (by decide) ?_
    refine c_aload_n (x := x2) h 1 dX4_judgeAttribute_137 rfl rfl ?_
    refine r_ck (fun ht5 => ?_)
    refine c_getI (fin := false) h hc [13] 0 (zc_lk2 h q320 q321) ht5 (by decide) dX4_judgeAttribute_138 (fun hr6 => ?_)
    refine r_ck (fun ht7 => ?_)
    refine c_callV (x := x0) h hc (As := [iv 10, iv (μ x2 0)]) (fun o1 e1 => u_X4_find _ x0 10 (μ x2 0) (by decide) hr6 o1 e1) [4] ht7 (by decide) q1031 q1033 (fun t ht => by cases List.mem_singleton.mp ht; exact qs32) q1034 q140 (by omega) (by omega) zc_s0 (by omega) (fun z hz => by cases hz) ⟨by decide, by decide⟩ (n := 2) (by decide +kernel) rfl rfl dX4_judgeAttribute_141 (fun _ μ8 _ => r_k0 ?_)
    refine r_goto h 162 dX4_judgeAttribute_144 rfl ?_
    exact r_lv [0, 1, 2] rfl (u_X4_judgeAttribute_162 h hc _ x0 x2 x3)
def c_X4_judgeAttribute_74 : Nat → MEM → Int → Int → Int → Int → Int → Int → Option zc_O
  | 0, _, _, _, _, _, _, _ => none
  | n + 1, μ, x0, x2, x3, x4, x5, x6 => ck (zt [4] (μ x0 (-1)) = true) (ck (zt [40] (μ (μ x0 7) (-1)) = true) (bc (b_lsize μ (μ x0 7)) (fun r3 μ4 => if r3 ≤ x6 then (c_X4_judgeAttribute_129 μ4 x0 x2 x3 x4 x5) else (ck (zt [10] (μ4 x3 (-1)) = true) (if (μ4 x3 3) = 1 then (if x5 = 0 then (ck (zt [4] (μ4 x0 (-1)) = true) (ck (zt [40] (μ4 (μ4 x0 7) (-1)) = true) (bc (b_lget μ4 (μ4 x0 7) x6) (fun r10 μ11 => ck (zt [13] (μ11 r10 (-1)) = true) (ck (zt [13] (μ11 x2 (-1)) = true) (bc (c_X0_isSame μ11 (μ11 r10 6) (μ11 x2 6)) (fun r15 μ16 => ck (inR (x6 + 1)) (c_X4_judgeAttribute_74 n μ16 x0 x2 x3 x4 r15 (x6 + 1))))))))) else (c_X4_judgeAttribute_129 μ4 x0 x2 x3 x4 x5)) else (c_X4_judgeAttribute_129 μ4 x0 x2 x3 x4 x5))))))
theorem u_X4_judgeAttribute_74 {C : zv_Cx zc_O} {G : zc_G} {μ0 : MEM} (h : zv_Ok C cX4_judgeAttribute "TreePress$Document") (hc : zc_C C G μ0 7 (Option.none : Option FieldType) 0 8 174 "judgeAttribute" []) : ∀ (n : Nat) (μ : MEM) (x0 x2 x3 x4 x5 x6 : Int), isB x4 → isB x5 → inR x6 → VV C (c_X4_judgeAttribute_74 n μ x0 x2 x3 x4 x5 x6) μ [(0, zc_rv G x0), (2, zc_rv G x2), (3, zc_rv G x3), (4, iv x4), (5, iv x5), (6, iv x6)] [] 74 := by
  have hN : ∀ i, i < 7 → i < zv_n C := fun i q => by rw [hc.2.1]; exact q
  intro n
  induction n with
  | zero => intros; exact r_none
  | succ n ih =>
    intro μ x0 x2 x3 x4 x5 x6 hx4 hx5 hx6
    rw [c_X4_judgeAttribute_74]
    refine r_iload h 5 dX4_judgeAttribute_74 rfl ?_
    refine c_aload_n (x := x0) h 0 dX4_judgeAttribute_76 rfl rfl ?_
    refine r_ck (fun ht1 => ?_)
    refine c_getR (fin := true) h hc [4] 7 (zc_lk1 h q426) ht1 (by decide) dX4_judgeAttribute_77 ?_
    refine r_ck (fun ht2 => ?_)
    refine c_callV (x := (μ x0 7)) h hc (As := []) (fun o1 e1 => w_lsize _ (μ x0 7) o1 e1) [40] ht2 (by decide) q342 q343 (fun t ht => by cases List.mem_singleton.mp ht; exact q344) q345 q135 (by omega) (by omega) (zc_sc (iv_cat _) zc_s0) (by omega) (fun z hz => by cases hz) ⟨by decide, by decide⟩ (n := 0) (by decide +kernel) rfl rfl dX4_judgeAttribute_80 (fun r3 μ4 hr5 => r_k1 ?_)
    refine r_icmp_ge (x := x6) (y := r3) h hx6 hr5 129 dX4_judgeAttribute_83 rfl ?_ ?_
    · exact r_lv [0, 1, 2, 3, 4] rfl (u_X4_judgeAttribute_129 h hc _ x0 x2 x3 x4 x5 hx4 hx5)
    · refine c_aload_n (x := x3) h 2 dX4_judgeAttribute_86 rfl rfl ?_
      refine r_ck (fun ht6 => ?_)
      refine c_getI (fin := false) h hc [10] 3 (zc_lk3 hc (O := "TreePress$Rule") (n := "type") (ds := "I") (host := "TreePress") (by decide)) ht6 (by decide) dX4_judgeAttribute_87 (fun hr7 => ?_)
      refine r_iconst h dX4_judgeAttribute_90 ?_
      refine r_icmp_ne (x := (μ4 x3 3)) (y := 1) h hr7 (by decide) 129 dX4_judgeAttribute_91 rfl ?_ ?_
      · refine r_iload h 4 dX4_judgeAttribute_94 rfl ?_
        refine r_if_ne (x := x5) h hx5.r 129 dX4_judgeAttribute_96 rfl ?_ ?_
        · refine c_aload_n (x := x0) h 0 dX4_judgeAttribute_99 rfl rfl ?_
          refine r_ck (fun ht8 => ?_)
          refine c_getR (fin := true) h hc [4] 7 (zc_lk1 h q426) ht8 (by decide) dX4_judgeAttribute_100 ?_
          refine r_iload h 5 dX4_judgeAttribute_103 rfl ?_
          refine r_ck (fun ht9 => ?_)
          refine c_callV (x := (μ4 x0 7)) h hc (As := [iv x6]) (fun o1 e1 => w_lget _ (μ4 x0 7) x6 hx6 o1 e1) [40] ht9 (by decide) q862 q844 (fun t ht => by cases List.mem_singleton.mp ht; exact q845) q846 q135 (by omega) (by omega) zc_s0 (by omega) (fun z hz => by cases hz) ⟨by decide, by decide⟩ (n := 1) (by decide +kernel) rfl rfl dX4_judgeAttribute_105 (fun r10 μ11 hr12 => r_k4 ?_)
          refine r_ck (fun ht13 => ?_)
          refine c_cast h hc [13] q1120 ht13 (by decide) dX4_judgeAttribute_108 ?_
          refine c_getR (fin := true) h hc [13] 6 (zc_lk2 h q975 q976) ht13 (by decide) dX4_judgeAttribute_111 ?_
          refine c_aload_n (x := x2) h 1 dX4_judgeAttribute_114 rfl rfl ?_
          refine r_ck (fun ht14 => ?_)
          refine c_getR (fin := true) h hc [13] 6 (zc_lk2 h q975 q976) ht14 (by decide) dX4_judgeAttribute_115 ?_
          refine c_callSN h hc (As := [zc_rv G (μ11 r10 6), zc_rv G (μ11 x2 6)]) (fun o1 e1 => u_X0_isSame _ (μ11 r10 6) (μ11 x2 6) o1 e1) (host := "TreePress") (by decide) q856 q857 q132 (by omega) (by omega) zc_s0 (by omega) (fun z hz => by cases hz) ⟨by decide, by decide⟩ (n := 2) (by decide +kernel) rfl rfl dX4_judgeAttribute_118 (fun r15 μ16 hr17 => r_k3 ?_)
          refine r_istore (lv' := [(5, iv r15), (0, zc_rv G x0), (2, zc_rv G x2), (3, zc_rv G x3), (4, iv x4), (6, iv x6)]) h dX4_judgeAttribute_121 (hN _ (by decide)) rfl ?_
          refine r_iinc (lv' := [(6, iv (x6 + 1)), (5, iv r15), (0, zc_rv G x0), (2, zc_rv G x2), (3, zc_rv G x3), (4, iv x4)]) h 5 dX4_judgeAttribute_123 rfl (hN _ (by decide)) rfl ?_
          refine r_goto h 74 dX4_judgeAttribute_126 rfl ?_
          refine r_ck (fun hk18 => ?_)
          exact r_lv [2, 3, 4, 5, 1, 0] rfl (ih _ x0 x2 x3 x4 r15 (x6 + 1) hx4 hr17 hk18)
        · exact r_lv [0, 1, 2, 3, 4] rfl (u_X4_judgeAttribute_129 h hc _ x0 x2 x3 x4 x5 hx4 hx5)
      · exact r_lv [0, 1, 2, 3, 4] rfl (u_X4_judgeAttribute_129 h hc _ x0 x2 x3 x4 x5 hx4 hx5)
def c_X4_judgeAttribute_65 (μ : MEM) (x0 x2 x3 : Int) : Option zc_O := c_X4_judgeAttribute_74 zF μ x0 x2 x3 0 0 0
theorem u_X4_judgeAttribute_65 {C : zv_Cx zc_O} {G : zc_G} {μ0 : MEM} (h : zv_Ok C cX4_judgeAttribute "TreePress$Document") (hc : zc_C C G μ0 7 (Option.none : Option FieldType) 0 8 174 "judgeAttribute" []) (μ : MEM) (x0 x2 x3 : Int) : VV C (c_X4_judgeAttribute_65 μ x0 x2 x3) μ [(0, zc_rv G x0), (2, zc_rv G x2), (3, zc_rv G x3)] [] 65 := by
  have hN : ∀ i, i < 7 → i < zv_n C := fun i q => by rw [hc.2.1]; exact q
  unfold c_X4_judgeAttribute_65
  refine r_iconst h dX4_judgeAttribute_65 ?_
  refine r_istore (lv' := [(4, iv 0), (0, zc_rv G x0), (2, zc_rv G x2), (3, zc_rv G x3)]) h dX4_judgeAttribute_66 (hN _ (by decide)) (by simp [zc_rv_cat]) ?_
  refine r_iconst h dX4_judgeAttribute_68 ?_
  refine r_istore (lv' := [(5, iv 0), (4, iv 0), (0, zc_rv G x0), (2, zc_rv G x2), (3, zc_rv G x3)]) h dX4_judgeAttribute_69 (hN _ (by decide)) rfl ?_
  refine r_iconst h dX4_judgeAttribute_71 ?_
  refine r_istore (lv' := [(6, iv 0), (5, iv 0), (4, iv 0), (0, zc_rv G x0), (2, zc_rv G x2), (3, zc_rv G x3)]) h dX4_judgeAttribute_72 (hN _ (by decide)) rfl ?_
  exact r_lv [3, 4, 5, 2, 1, 0] rfl (u_X4_judgeAttribute_74 h hc zF _ x0 x2 x3 0 0 0 (by decide) (by decide) (by decide))
def c_X4_judgeAttribute_61 (μ : MEM) (x0 x2 x3 : Int) : Option zc_O := c_X4_judgeAttribute_74 zF μ x0 x2 x3 1 0 0
theorem u_X4_judgeAttribute_61 {C : zv_Cx zc_O} {G : zc_G} {μ0 : MEM} (h : zv_Ok C cX4_judgeAttribute "TreePress$Document") (hc : zc_C C G μ0 7 (Option.none : Option FieldType) 0 8 174 "judgeAttribute" []) (μ : MEM) (x0 x2 x3 : Int) : VV C (c_X4_judgeAttribute_61 μ x0 x2 x3) μ [(0, zc_rv G x0), (2, zc_rv G x2), (3, zc_rv G x3)] [] 61 := by
  have hN : ∀ i, i < 7 → i < zv_n C := fun i q => by rw [hc.2.1]; exact q
  unfold c_X4_judgeAttribute_61
  refine r_iconst h dX4_judgeAttribute_61 ?_
  refine r_goto h 66 dX4_judgeAttribute_62 rfl ?_
  refine r_istore (lv' := [(4, iv 1), (0, zc_rv G x0), (2, zc_rv G x2), (3, zc_rv G x3)]) h dX4_judgeAttribute_66 (hN _ (by decide)) (by simp [zc_rv_cat]) ?_
  refine r_iconst h dX4_judgeAttribute_68 ?_
  refine r_istore (lv' := [(5, iv 0), (4, iv 1), (0, zc_rv G x0), (2, zc_rv G x2), (3, zc_rv G x3)]) h dX4_judgeAttribute_69 (hN _ (by decide)) rfl ?_
  refine r_iconst h dX4_judgeAttribute_71 ?_
  refine r_istore (lv' := [(6, iv 0), (5, iv 0), (4, iv 1), (0, zc_rv G x0), (2, zc_rv G x2), (3, zc_rv G x3)]) h dX4_judgeAttribute_72 (hN _ (by decide)) rfl ?_
  exact r_lv [3, 4, 5, 2, 1, 0] rfl (u_X4_judgeAttribute_74 h hc zF _ x0 x2 x3 1 0 0 (by decide) (by decide) (by decide))
def c_X4_judgeAttribute (μ : MEM) (a0 a1 a2 : Int) : Option zc_O := ck (zt [11] (μ a1 (-1)) = true) (ck (zt [13] (μ a2 (-1)) = true) (ck (zt [4] (μ a0 (-1)) = true) (bc (c_X4_rule μ a0 (μ a1 4) (μ a2 7)) (fun r4 μ5 => if r4 = 0 then (ck (zt [13] (μ5 a2 (-1)) = true) (ck (zt [4] (μ5 a0 (-1)) = true) (bc (c_X4_find μ5 a0 9 (μ5 a2 0)) (fun _ μ10 => some (0, 0, μ10))))) else (ck (zt [13] (μ5 a2 (-1)) = true) (ck (zt [10] (μ5 r4 (-1)) = true) (bc (c_X10_isOf μ5 r4 (μ5 a2 6)) (fun r13 μ14 => if r13 = 0 then (c_X4_judgeAttribute_61 μ14 a0 a2 r4) else (ck (zt [10] (μ14 r4 (-1)) = true) (if (μ14 r4 4) = 2 then (ck (zt [13] (μ14 a2 (-1)) = true) (bc (c_X0_isSame μ14 (μ14 r4 6) (μ14 a2 6)) (fun r19 μ20 => if r19 = 0 then (c_X4_judgeAttribute_61 μ20 a0 a2 r4) else (c_X4_judgeAttribute_65 μ20 a0 a2 r4)))) else (c_X4_judgeAttribute_65 μ14 a0 a2 r4)))))))))))
theorem u_X4_judgeAttribute {G : zc_G} (μ : MEM) (a0 a1 a2 : Int) (o : zc_O) (hd : c_X4_judgeAttribute μ a0 a1 a2 = some o) : zc_Met G yX4_judgeAttribute cX4_judgeAttribute 7 (Option.none : Option FieldType) 0 8 174 μ [zc_rv G a0, zc_rv G a1, zc_rv G a2] o := by
  refine zc_intro hd (by decide) (by simp [lg_sl, zc_rv_cat, iv_cat, jv_cat]) (lv := [(0, zc_rv G a0), (1, zc_rv G a1), (2, zc_rv G a2)]) (by simp [lv_args, zc_rv_cat, iv_cat, jv_cat]) (fun C h hc => ?_)
  have h : zv_Ok C cX4_judgeAttribute "TreePress$Document" := h
  have hc : zc_C C G μ 7 (Option.none : Option FieldType) 0 8 174 "judgeAttribute" [] := hc
  have hN : ∀ i, i < 7 → i < zv_n C := fun i q => by rw [hc.2.1]; exact q
  unfold c_X4_judgeAttribute
  refine c_aload_n (x := a0) h 0 dX4_judgeAttribute_0 rfl rfl ?_
  refine c_aload_n (x := a1) h 1 dX4_judgeAttribute_1 rfl rfl ?_
  refine r_ck (fun ht1 => ?_)
  refine c_getR (fin := true) h hc [11] 4 (zc_lk3 hc (O := "TreePress$Element") (n := "name") (ds := "[B") (host := "TreePress") (by decide)) ht1 (by decide) dX4_judgeAttribute_2 ?_
  refine c_aload_n (x := a2) h 2 dX4_judgeAttribute_5 rfl rfl ?_
  refine r_ck (fun ht2 => ?_)
  refine c_getR (fin := true) h hc [13] 7 (zc_lk3 hc (O := "TreePress$Attribute") (n := "name") (ds := "[B") (host := "TreePress") (by decide)) ht2 (by decide) dX4_judgeAttribute_6 ?_
  refine r_ck (fun ht3 => ?_)
  refine c_callV (x := a0) h hc (As := [zc_rv G (μ a1 4), zc_rv G (μ a2 7)]) (fun o1 e1 => u_X4_rule _ a0 (μ a1 4) (μ a2 7) o1 e1) [4] ht3 (by decide) q1053 q859 (fun t ht => by cases List.mem_singleton.mp ht; exact q860) q861 q140 (by omega) (by omega) zc_s0 (by omega) (fun z hz => by cases hz) ⟨by decide, by decide⟩ (n := 2) (by decide +kernel) rfl rfl dX4_judgeAttribute_9 (fun r4 μ5 hr6 => r_k4 ?_)
  refine c_astore_n (i := 3) (lv' := [(3, zc_rv G r4), (0, zc_rv G a0), (1, zc_rv G a1), (2, zc_rv G a2)]) h dX4_judgeAttribute_12 rfl (hN _ (by decide)) (by simp [zc_rv_cat]) ?_
  refine c_aload_n (x := r4) h 0 dX4_judgeAttribute_13 rfl rfl ?_
  refine c_ifnonnull (x := r4) h 28 dX4_judgeAttribute_14 rfl ?_ ?_
  · refine c_aload_n (x := a0) h 1 dX4_judgeAttribute_17 rfl rfl ?_
    refine r_bipush h dX4_judgeAttribute_18 (by decide) ?_
    refine c_aload_n (x := a2) h 3 dX4_judgeAttribute_20 rfl rfl ?_
    refine r_ck (fun ht7 => ?_)
    refine c_getI (fin := false) h hc [13] 0 (zc_lk2 h q320 q321) ht7 (by decide) dX4_judgeAttribute_21 (fun hr8 => ?_)
    refine r_ck (fun ht9 => ?_)
    refine c_callV (x := a0) h hc (As := [iv 9, iv (μ5 a2 0)]) (fun o1 e1 => u_X4_find _ a0 9 (μ5 a2 0) (by decide) hr8 o1 e1) [4] ht9 (by decide) q1031 q1033 (fun t ht => by cases List.mem_singleton.mp ht; exact qs32) q1034 q140 (by omega) (by omega) zc_s0 (by omega) (fun z hz => by cases hz) ⟨by decide, by decide⟩ (n := 2) (by decide +kernel) rfl rfl dX4_judgeAttribute_24 (fun _ μ10 _ => r_k0 ?_)
    exact c_vret h hc rfl dX4_judgeAttribute_27
  · refine c_aload_n (x := r4) h 0 dX4_judgeAttribute_28 rfl rfl ?_
    refine c_aload_n (x := a2) h 3 dX4_judgeAttribute_29 rfl rfl ?_
    refine r_ck (fun ht11 => ?_)
    refine c_getR (fin := true) h hc [13] 6 (zc_lk2 h q975 q976) ht11 (by decide) dX4_judgeAttribute_30 ?_
    refine r_ck (fun ht12 => ?_)
    refine c_callV (x := r4) h hc (As := [zc_rv G (μ5 a2 6)]) (fun o1 e1 => u_X10_isOf _ r4 (μ5 a2 6) o1 e1) [10] ht12 (by decide) q1054 q1055 (fun t ht => by cases List.mem_singleton.mp ht; exact q1056) q1057 q156 (by omega) (by omega) zc_s0 (by omega) (fun z hz => by cases hz) ⟨by decide, by decide⟩ (n := 1) (by decide +kernel) rfl rfl dX4_judgeAttribute_33 (fun r13 μ14 hr15 => r_k3 ?_)
    refine r_if_eq (x := r13) h hr15.r 61 dX4_judgeAttribute_36 rfl ?_ ?_
    · exact r_lv [1, 3, 0] rfl (u_X4_judgeAttribute_61 h hc _ a0 a2 r4)
    · refine c_aload_n (x := r4) h 0 dX4_judgeAttribute_39 rfl rfl ?_
      refine r_ck (fun ht16 => ?_)
      refine c_getI (fin := false) h hc [10] 4 (zc_lk3 hc (O := "TreePress$Rule") (n := "how") (ds := "I") (host := "TreePress") (by decide)) ht16 (by decide) dX4_judgeAttribute_40 (fun hr17 => ?_)
      refine r_iconst h dX4_judgeAttribute_43 ?_
      refine r_icmp_ne (x := (μ14 r4 4)) (y := 2) h hr17 (by decide) 65 dX4_judgeAttribute_44 rfl ?_ ?_
      · refine c_aload_n (x := r4) h 0 dX4_judgeAttribute_47 rfl rfl ?_
        refine c_getR (fin := false) h hc [10] 6 (zc_lk3 hc (O := "TreePress$Rule") (n := "value") (ds := "[B") (host := "TreePress") (by decide)) ht16 (by decide) dX4_judgeAttribute_48 ?_
        refine c_aload_n (x := a2) h 3 dX4_judgeAttribute_51 rfl rfl ?_
        refine r_ck (fun ht18 => ?_)
        refine c_getR (fin := true) h hc [13] 6 (zc_lk2 h q975 q976) ht18 (by decide) dX4_judgeAttribute_52 ?_
        refine c_callSN h hc (As := [zc_rv G (μ14 r4 6), zc_rv G (μ14 a2 6)]) (fun o1 e1 => u_X0_isSame _ (μ14 r4 6) (μ14 a2 6) o1 e1) (host := "TreePress") (by decide) q856 q857 q132 (by omega) (by omega) zc_s0 (by omega) (fun z hz => by cases hz) ⟨by decide, by decide⟩ (n := 2) (by decide +kernel) rfl rfl dX4_judgeAttribute_55 (fun r19 μ20 hr21 => r_k3 ?_)
        refine r_if_ne (x := r19) h hr21.r 65 dX4_judgeAttribute_58 rfl ?_ ?_
        · exact r_lv [1, 3, 0] rfl (u_X4_judgeAttribute_61 h hc _ a0 a2 r4)
        · exact r_lv [1, 3, 0] rfl (u_X4_judgeAttribute_65 h hc _ a0 a2 r4)
      · exact r_lv [1, 3, 0] rfl (u_X4_judgeAttribute_65 h hc _ a0 a2 r4)
theorem dX4_judgeElement_0 : decode cX4_judgeElement 0 = .ok (.aload_n 0, 1) := by decide +kernel
theorem dX4_judgeElement_1 : decode cX4_judgeElement 1 = .ok (.aload_n 1, 1) := by decide +kernel
theorem dX4_judgeElement_2 : decode cX4_judgeElement 2 = .ok (.getfield 128, 3) := by decide +kernel
theorem dX4_judgeElement_5 : decode cX4_judgeElement 5 = .ok (.invokevirtual 77, 3) := by decide +kernel
theorem dX4_judgeElement_8 : decode cX4_judgeElement 8 = .ok (.astore_n 2, 1) := by decide +kernel
theorem dX4_judgeElement_9 : decode cX4_judgeElement 9 = .ok (.aload_n 2, 1) := by decide +kernel
theorem dX4_judgeElement_10 : decode cX4_judgeElement 10 = .ok (.ifnonnull 16, 3) := by decide +kernel
theorem dX4_judgeElement_13 : decode cX4_judgeElement 13 = .ok (.aload_n 0, 1) := by decide +kernel
theorem dX4_judgeElement_14 : decode cX4_judgeElement 14 = .ok (.bipush 7, 2) := by decide +kernel
theorem dX4_judgeElement_16 : decode cX4_judgeElement 16 = .ok (.aload_n 1, 1) := by decide +kernel
theorem dX4_judgeElement_17 : decode cX4_judgeElement 17 = .ok (.getfield 139, 3) := by decide +kernel
theorem dX4_judgeElement_20 : decode cX4_judgeElement 20 = .ok (.invokevirtual 81, 3) := by decide +kernel
theorem dX4_judgeElement_23 : decode cX4_judgeElement 23 = .ok (.goto 22, 3) := by decide +kernel
theorem dX4_judgeElement_26 : decode cX4_judgeElement 26 = .ok (.aload_n 0, 1) := by decide +kernel
theorem dX4_judgeElement_27 : decode cX4_judgeElement 27 = .ok (.aload_n 1, 1) := by decide +kernel
theorem dX4_judgeElement_28 : decode cX4_judgeElement 28 = .ok (.aload_n 2, 1) := by decide +kernel
theorem dX4_judgeElement_29 : decode cX4_judgeElement 29 = .ok (.invokevirtual 140, 3) := by decide +kernel
theorem dX4_judgeElement_32 : decode cX4_judgeElement 32 = .ok (.ifCond .ne 13, 3) := by decide +kernel
theorem dX4_judgeElement_35 : decode cX4_judgeElement 35 = .ok (.aload_n 0, 1) := by decide +kernel
theorem dX4_judgeElement_36 : decode cX4_judgeElement 36 = .ok (.bipush 8, 2) := by decide +kernel
theorem dX4_judgeElement_38 : decode cX4_judgeElement 38 = .ok (.aload_n 1, 1) := by decide +kernel
theorem dX4_judgeElement_39 : decode cX4_judgeElement 39 = .ok (.getfield 139, 3) := by decide +kernel
theorem dX4_judgeElement_42 : decode cX4_judgeElement 42 = .ok (.invokevirtual 81, 3) := by decide +kernel
theorem dX4_judgeElement_45 : decode cX4_judgeElement 45 = .ok (.iconst 0, 1) := by decide +kernel
theorem dX4_judgeElement_46 : decode cX4_judgeElement 46 = .ok (.istore_n 3, 1) := by decide +kernel
theorem dX4_judgeElement_47 : decode cX4_judgeElement 47 = .ok (.iload_n 3, 1) := by decide +kernel
theorem dX4_judgeElement_48 : decode cX4_judgeElement 48 = .ok (.aload_n 1, 1) := by decide +kernel
theorem dX4_judgeElement_49 : decode cX4_judgeElement 49 = .ok (.getfield 144, 3) := by decide +kernel
theorem dX4_judgeElement_52 : decode cX4_judgeElement 52 = .ok (.invokevirtual 41, 3) := by decide +kernel
theorem dX4_judgeElement_55 : decode cX4_judgeElement 55 = .ok (.if_icmp .ge 42, 3) := by decide +kernel
theorem dX4_judgeElement_58 : decode cX4_judgeElement 58 = .ok (.aload_n 1, 1) := by decide +kernel
theorem dX4_judgeElement_59 : decode cX4_judgeElement 59 = .ok (.getfield 144, 3) := by decide +kernel
theorem dX4_judgeElement_62 : decode cX4_judgeElement 62 = .ok (.iload_n 3, 1) := by decide +kernel
theorem dX4_judgeElement_63 : decode cX4_judgeElement 63 = .ok (.invokevirtual 57, 3) := by decide +kernel
theorem dX4_judgeElement_66 : decode cX4_judgeElement 66 = .ok (.checkcast 130, 3) := by decide +kernel
theorem dX4_judgeElement_69 : decode cX4_judgeElement 69 = .ok (.getfield 147, 3) := by decide +kernel
theorem dX4_judgeElement_72 : decode cX4_judgeElement 72 = .ok (.ifCond .ne 19, 3) := by decide +kernel
theorem dX4_judgeElement_75 : decode cX4_judgeElement 75 = .ok (.aload_n 0, 1) := by decide +kernel
theorem dX4_judgeElement_76 : decode cX4_judgeElement 76 = .ok (.aload_n 1, 1) := by decide +kernel
theorem dX4_judgeElement_77 : decode cX4_judgeElement 77 = .ok (.aload_n 1, 1) := by decide +kernel
theorem dX4_judgeElement_78 : decode cX4_judgeElement 78 = .ok (.getfield 144, 3) := by decide +kernel
theorem dX4_judgeElement_81 : decode cX4_judgeElement 81 = .ok (.iload_n 3, 1) := by decide +kernel
theorem dX4_judgeElement_82 : decode cX4_judgeElement 82 = .ok (.invokevirtual 57, 3) := by decide +kernel
theorem dX4_judgeElement_85 : decode cX4_judgeElement 85 = .ok (.checkcast 130, 3) := by decide +kernel
theorem dX4_judgeElement_88 : decode cX4_judgeElement 88 = .ok (.invokevirtual 151, 3) := by decide +kernel
theorem dX4_judgeElement_91 : decode cX4_judgeElement 91 = .ok (.iinc 3 1, 3) := by decide +kernel
theorem dX4_judgeElement_94 : decode cX4_judgeElement 94 = .ok (.goto (-47), 3) := by decide +kernel
theorem dX4_judgeElement_97 : decode cX4_judgeElement 97 = .ok (.iconst 0, 1) := by decide +kernel
theorem dX4_judgeElement_98 : decode cX4_judgeElement 98 = .ok (.istore_n 3, 1) := by decide +kernel
theorem dX4_judgeElement_99 : decode cX4_judgeElement 99 = .ok (.iload_n 3, 1) := by decide +kernel
theorem dX4_judgeElement_100 : decode cX4_judgeElement 100 = .ok (.aload_n 0, 1) := by decide +kernel
theorem dX4_judgeElement_101 : decode cX4_judgeElement 101 = .ok (.getfield 28, 3) := by decide +kernel
theorem dX4_judgeElement_104 : decode cX4_judgeElement 104 = .ok (.invokevirtual 41, 3) := by decide +kernel
theorem dX4_judgeElement_107 : decode cX4_judgeElement 107 = .ok (.if_icmp .ge 86, 3) := by decide +kernel
theorem dX4_judgeElement_110 : decode cX4_judgeElement 110 = .ok (.aload_n 0, 1) := by decide +kernel
theorem dX4_judgeElement_111 : decode cX4_judgeElement 111 = .ok (.getfield 28, 3) := by decide +kernel
theorem dX4_judgeElement_114 : decode cX4_judgeElement 114 = .ok (.iload_n 3, 1) := by decide +kernel
theorem dX4_judgeElement_115 : decode cX4_judgeElement 115 = .ok (.invokevirtual 57, 3) := by decide +kernel
theorem dX4_judgeElement_118 : decode cX4_judgeElement 118 = .ok (.checkcast 71, 3) := by decide +kernel
theorem dX4_judgeElement_121 : decode cX4_judgeElement 121 = .ok (.astore 4, 2) := by decide +kernel
theorem dX4_judgeElement_123 : decode cX4_judgeElement 123 = .ok (.aload 4, 2) := by decide +kernel
theorem dX4_judgeElement_125 : decode cX4_judgeElement 125 = .ok (.getfield 136, 3) := by decide +kernel
theorem dX4_judgeElement_128 : decode cX4_judgeElement 128 = .ok (.ifCond .ne 59, 3) := by decide +kernel
theorem dX4_judgeElement_131 : decode cX4_judgeElement 131 = .ok (.aload 4, 2) := by decide +kernel
theorem dX4_judgeElement_133 : decode cX4_judgeElement 133 = .ok (.getfield 73, 3) := by decide +kernel
theorem dX4_judgeElement_136 : decode cX4_judgeElement 136 = .ok (.aload_n 1, 1) := by decide +kernel
theorem dX4_judgeElement_137 : decode cX4_judgeElement 137 = .ok (.getfield 128, 3) := by decide +kernel
theorem dX4_judgeElement_140 : decode cX4_judgeElement 140 = .ok (.invokestatic 67, 3) := by decide +kernel
theorem dX4_judgeElement_143 : decode cX4_judgeElement 143 = .ok (.ifCond .eq 44, 3) := by decide +kernel
theorem dX4_judgeElement_146 : decode cX4_judgeElement 146 = .ok (.aload_n 0, 1) := by decide +kernel
theorem dX4_judgeElement_147 : decode cX4_judgeElement 147 = .ok (.aload 4, 2) := by decide +kernel
theorem dX4_judgeElement_149 : decode cX4_judgeElement 149 = .ok (.getfield 73, 3) := by decide +kernel
theorem dX4_judgeElement_152 : decode cX4_judgeElement 152 = .ok (.aload 4, 2) := by decide +kernel
theorem dX4_judgeElement_154 : decode cX4_judgeElement 154 = .ok (.getfield 76, 3) := by decide +kernel
theorem dX4_judgeElement_157 : decode cX4_judgeElement 157 = .ok (.invokevirtual 98, 3) := by decide +kernel
theorem dX4_judgeElement_160 : decode cX4_judgeElement 160 = .ok (.aload 4, 2) := by decide +kernel
theorem dX4_judgeElement_162 : decode cX4_judgeElement 162 = .ok (.if_acmp .ne 25, 3) := by decide +kernel
theorem dX4_judgeElement_165 : decode cX4_judgeElement 165 = .ok (.aload_n 1, 1) := by decide +kernel
theorem dX4_judgeElement_166 : decode cX4_judgeElement 166 = .ok (.aload 4, 2) := by decide +kernel
theorem dX4_judgeElement_168 : decode cX4_judgeElement 168 = .ok (.getfield 76, 3) := by decide +kernel
theorem dX4_judgeElement_171 : decode cX4_judgeElement 171 = .ok (.invokevirtual 155, 3) := by decide +kernel
theorem dX4_judgeElement_174 : decode cX4_judgeElement 174 = .ok (.ifnonnull 13, 3) := by decide +kernel
theorem dX4_judgeElement_177 : decode cX4_judgeElement 177 = .ok (.aload_n 0, 1) := by decide +kernel
theorem dX4_judgeElement_178 : decode cX4_judgeElement 178 = .ok (.bipush 12, 2) := by decide +kernel
theorem dX4_judgeElement_180 : decode cX4_judgeElement 180 = .ok (.aload_n 1, 1) := by decide +kernel
theorem dX4_judgeElement_181 : decode cX4_judgeElement 181 = .ok (.getfield 139, 3) := by decide +kernel
theorem dX4_judgeElement_184 : decode cX4_judgeElement 184 = .ok (.invokevirtual 81, 3) := by decide +kernel
theorem dX4_judgeElement_187 : decode cX4_judgeElement 187 = .ok (.iinc 3 1, 3) := by decide +kernel
theorem dX4_judgeElement_190 : decode cX4_judgeElement 190 = .ok (.goto (-91), 3) := by decide +kernel
theorem dX4_judgeElement_193 : decode cX4_judgeElement 193 = .ok (.return_, 1) := by decide +kernel
def c_X4_judgeElement_99 : Nat → MEM → Int → Int → Int → Option zc_O
  | 0, _, _, _, _ => none
  | n + 1, μ, x0, x1, x3 => ck (zt [4] (μ x0 (-1)) = true) (ck (zt [40] (μ (μ x0 4) (-1)) = true) (bc (b_lsize μ (μ x0 4)) (fun r3 μ4 => if r3 ≤ x3 then (some (0, 0, μ4)) else (ck (zt [4] (μ4 x0 (-1)) = true) (ck (zt [40] (μ4 (μ4 x0 4) (-1)) = true) (bc (b_lget μ4 (μ4 x0 4) x3) (fun r8 μ9 => ck (zt [10] (μ9 r8 (-1)) = true) (if (μ9 r8 4) = 0 then (ck (zt [11] (μ9 x1 (-1)) = true) (bc (c_X0_isSame μ9 (μ9 r8 0) (μ9 x1 4)) (fun r14 μ15 => if r14 = 0 then (ck (inR (x3 + 1)) (c_X4_judgeElement_99 n μ15 x0 x1 (x3 + 1))) else (ck (zt [10] (μ15 r8 (-1)) = true) (ck (zt [4] (μ15 x0 (-1)) = true) (bc (c_X4_rule μ15 x0 (μ15 r8 0) (μ15 r8 1)) (fun r20 μ21 => ck ((0 : Int) ≤ r20 ∧ (0 : Int) ≤ r8) (if r20 = r8 then (ck (zt [10] (μ21 r8 (-1)) = true) (ck (zt [11] (μ21 x1 (-1)) = true) (bc (c_X11_attribute μ21 x1 (μ21 r8 1)) (fun r25 μ26 => if r25 = 0 then (ck (zt [11] (μ26 x1 (-1)) = true) (ck (zt [4] (μ26 x0 (-1)) = true) (bc (c_X4_find μ26 x0 12 (μ26 x1 0)) (fun _ μ31 => ck (inR (x3 + 1)) (c_X4_judgeElement_99 n μ31 x0 x1 (x3 + 1)))))) else (ck (inR (x3 + 1)) (c_X4_judgeElement_99 n μ26 x0 x1 (x3 + 1))))))) else (ck (inR (x3 + 1)) (c_X4_judgeElement_99 n μ21 x0 x1 (x3 + 1))))))))))) else (ck (inR (x3 + 1)) (c_X4_judgeElement_99 n μ9 x0 x1 (x3 + 1)))))))))))
theorem u_X4_judgeElement_99 {C : zv_Cx zc_O} {G : zc_G} {μ0 : MEM} (h : zv_Ok C cX4_judgeElement "TreePress$Document") (hc : zc_C C G μ0 5 (Option.none : Option FieldType) 0 9 200 "judgeElement" []) : ∀ (n : Nat) (μ : MEM) (x0 x1 x3 : Int), inR x3 → VV C (c_X4_judgeElement_99 n μ x0 x1 x3) μ [(0, zc_rv G x0), (1, zc_rv G x1), (3, iv x3)] [] 99 := by
  have hN : ∀ i, i < 5 → i < zv_n C := fun i q => by rw [hc.2.1]; exact q
  intro n
  induction n with
  | zero => intros; exact r_none
  | succ n ih =>
    intro μ x0 x1 x3 hx3
    rw [c_X4_judgeElement_99]
    refine r_iload_n h 2 dX4_judgeElement_99 rfl rfl ?_
    refine c_aload_n (x := x0) h 0 dX4_judgeElement_100 rfl rfl ?_
    refine r_ck (fun ht1 => ?_)
    refine c_getR (fin := true) h hc [4] 4 (zc_lk1 h q419) ht1 (by decide) dX4_judgeElement_101 ?_
    refine r_ck (fun ht2 => ?_)
    refine c_callV (x := (μ x0 4)) h hc (As := []) (fun o1 e1 => w_lsize _ (μ x0 4) o1 e1) [40] ht2 (by decide) q342 q343 (fun t ht => by cases List.mem_singleton.mp ht; exact q344) q345 q135 (by omega) (by omega) (zc_sc (iv_cat _) zc_s0) (by omega) (fun z hz => by cases hz) ⟨by decide, by decide⟩ (n := 0) (by decide +kernel) rfl rfl dX4_judgeElement_104 (fun r3 μ4 hr5 => r_k1 ?_)
    refine r_icmp_ge (x := x3) (y := r3) h hx3 hr5 193 dX4_judgeElement_107 rfl ?_ ?_
    · exact c_vret h hc rfl dX4_judgeElement_193
    · refine c_aload_n (x := x0) h 0 dX4_judgeElement_110 rfl rfl ?_
      refine r_ck (fun ht6 => ?_)
      refine c_getR (fin := true) h hc [4] 4 (zc_lk1 h q419) ht6 (by decide) dX4_judgeElement_111 ?_
      refine r_iload_n h 2 dX4_judgeElement_114 rfl rfl ?_
      refine r_ck (fun ht7 => ?_)
      refine c_callV (x := (μ4 x0 4)) h hc (As := [iv x3]) (fun o1 e1 => w_lget _ (μ4 x0 4) x3 hx3 o1 e1) [40] ht7 (by decide) q862 q844 (fun t ht => by cases List.mem_singleton.mp ht; exact q845) q846 q135 (by omega) (by omega) zc_s0 (by omega) (fun z hz => by cases hz) ⟨by decide, by decide⟩ (n := 1) (by decide +kernel) rfl rfl dX4_judgeElement_115 (fun r8 μ9 hr10 => r_k4 ?_)
      refine r_ck (fun ht11 => ?_)
      refine c_cast h hc [10] q863 ht11 (by decide) dX4_judgeElement_118 ?_
      refine c_astore (lv' := [(4, zc_rv G r8), (0, zc_rv G x0), (1, zc_rv G x1), (3, iv x3)]) h dX4_judgeElement_121 (hN _ (by decide)) rfl ?_
      refine c_aload (x := r8) h 0 dX4_judgeElement_123 rfl ?_
      refine c_getI (fin := false) h hc [10] 4 (zc_lk3 hc (O := "TreePress$Rule") (n := "how") (ds := "I") (host := "TreePress") (by decide)) ht11 (by decide) dX4_judgeElement_125 (fun hr12 => ?_)
      refine r_if_ne (x := (μ9 r8 4)) h hr12 187 dX4_judgeElement_128 rfl ?_ ?_
      · refine c_aload (x := r8) h 0 dX4_judgeElement_131 rfl ?_
        refine c_getR (fin := true) h hc [10] 0 (zc_lk3 hc (O := "TreePress$Rule") (n := "of") (ds := "[B") (host := "TreePress") (by decide)) ht11 (by decide) dX4_judgeElement_133 ?_
        refine c_aload_n (x := x1) h 2 dX4_judgeElement_136 rfl rfl ?_
        refine r_ck (fun ht13 => ?_)
        refine c_getR (fin := true) h hc [11] 4 (zc_lk3 hc (O := "TreePress$Element") (n := "name") (ds := "[B") (host := "TreePress") (by decide)) ht13 (by decide) dX4_judgeElement_137 ?_
        refine c_callSN h hc (As := [zc_rv G (μ9 r8 0), zc_rv G (μ9 x1 4)]) (fun o1 e1 => u_X0_isSame _ (μ9 r8 0) (μ9 x1 4) o1 e1) (host := "TreePress") (by decide) q856 q857 q132 (by omega) (by omega) zc_s0 (by omega) (fun z hz => by cases hz) ⟨by decide, by decide⟩ (n := 2) (by decide +kernel) rfl rfl dX4_judgeElement_140 (fun r14 μ15 hr16 => r_k3 ?_)
        refine r_if_eq (x := r14) h hr16.r 187 dX4_judgeElement_143 rfl ?_ ?_
        · refine r_iinc (lv' := [(3, iv (x3 + 1)), (4, zc_rv G r8), (0, zc_rv G x0), (1, zc_rv G x1)]) h 3 dX4_judgeElement_187 rfl (hN _ (by decide)) rfl ?_
          refine r_goto h 99 dX4_judgeElement_190 rfl ?_
          refine r_ck (fun hk17 => ?_)
          exact r_lv [2, 3, 0] rfl (ih _ x0 x1 (x3 + 1) hk17)
        · refine c_aload_n (x := x0) h 1 dX4_judgeElement_146 rfl rfl ?_
          refine c_aload (x := r8) h 0 dX4_judgeElement_147 rfl ?_
          refine r_ck (fun ht18 => ?_)
          refine c_getR (fin := true) h hc [10] 0 (zc_lk3 hc (O := "TreePress$Rule") (n := "of") (ds := "[B") (host := "TreePress") (by decide)) ht18 (by decide) dX4_judgeElement_149 ?_
          refine c_aload (x := r8) h 0 dX4_judgeElement_152 rfl ?_
          refine c_getR (fin := true) h hc [10] 1 (zc_lk3 hc (O := "TreePress$Rule") (n := "name") (ds := "[B") (host := "TreePress") (by decide)) ht18 (by decide) dX4_judgeElement_154 ?_
          refine r_ck (fun ht19 => ?_)
          refine c_callV (x := x0) h hc (As := [zc_rv G (μ15 r8 0), zc_rv G (μ15 r8 1)]) (fun o1 e1 => u_X4_rule _ x0 (μ15 r8 0) (μ15 r8 1) o1 e1) [4] ht19 (by decide) q1053 q859 (fun t ht => by cases List.mem_singleton.mp ht; exact q860) q861 q140 (by omega) (by omega) zc_s0 (by omega) (fun z hz => by cases hz) ⟨by decide, by decide⟩ (n := 2) (by decide +kernel) rfl rfl dX4_judgeElement_157 (fun r20 μ21 hr22 => r_k4 ?_)
          refine c_aload (x := r8) h 0 dX4_judgeElement_160 rfl ?_
          refine c_acmp_ne (x := r20) (y := r8) h 187 dX4_judgeElement_162 rfl ?_ ?_
          · refine c_aload_n (x := x1) h 2 dX4_judgeElement_165 rfl rfl ?_
            refine c_aload (x := r8) h 0 dX4_judgeElement_166 rfl ?_
            refine r_ck (fun ht23 => ?_)
            refine c_getR (fin := true) h hc [10] 1 (zc_lk3 hc (O := "TreePress$Rule") (n := "name") (ds := "[B") (host := "TreePress") (by decide)) ht23 (by decide) dX4_judgeElement_168 ?_
            refine r_ck (fun ht24 => ?_)
            refine c_callV (x := x1) h hc (As := [zc_rv G (μ21 r8 1)]) (fun o1 e1 => u_X11_attribute _ x1 (μ21 r8 1) o1 e1) [11] ht24 (by decide) q1125 q950 (fun t ht => by cases List.mem_singleton.mp ht; exact q951) q952 q158 (by omega) (by omega) zc_s0 (by omega) (fun z hz => by cases hz) ⟨by decide, by decide⟩ (n := 1) (by decide +kernel) rfl rfl dX4_judgeElement_171 (fun r25 μ26 hr27 => r_k4 ?_)
            refine c_ifnonnull (x := r25) h 187 dX4_judgeElement_174 rfl ?_ ?_
            · refine c_aload_n (x := x0) h 1 dX4_judgeElement_177 rfl rfl ?_
              refine r_bipush h dX4_judgeElement_178 (by decide) ?_
              refine c_aload_n (x := x1) h 2 dX4_judgeElement_180 rfl rfl ?_
              refine r_ck (fun ht28 => ?_)
              refine c_getI (fin := false) h hc [11] 0 (zc_lk2 h q322 q323) ht28 (by decide) dX4_judgeElement_181 (fun hr29 => ?_)
              refine r_ck (fun ht30 => ?_)
              refine c_callV (x := x0) h hc (As := [iv 12, iv (μ26 x1 0)]) (fun o1 e1 => u_X4_find _ x0 12 (μ26 x1 0) (by decide) hr29 o1 e1) [4] ht30 (by decide) q1031 q1033 (fun t ht => by cases List.mem_singleton.mp ht; exact qs32) q1034 q140 (by omega) (by omega) zc_s0 (by omega) (fun z hz => by cases hz) ⟨by decide, by decide⟩ (n := 2) (by decide +kernel) rfl rfl dX4_judgeElement_184 (fun _ μ31 _ => r_k0 ?_)
              refine r_iinc (lv' := [(3, iv (x3 + 1)), (4, zc_rv G r8), (0, zc_rv G x0), (1, zc_rv G x1)]) h 3 dX4_judgeElement_187 rfl (hN _ (by decide)) rfl ?_
              refine r_goto h 99 dX4_judgeElement_190 rfl ?_
              refine r_ck (fun hk32 => ?_)
              exact r_lv [2, 3, 0] rfl (ih _ x0 x1 (x3 + 1) hk32)
            · refine r_iinc (lv' := [(3, iv (x3 + 1)), (4, zc_rv G r8), (0, zc_rv G x0), (1, zc_rv G x1)]) h 3 dX4_judgeElement_187 rfl (hN _ (by decide)) rfl ?_
              refine r_goto h 99 dX4_judgeElement_190 rfl ?_
              refine r_ck (fun hk33 => ?_)
              exact r_lv [2, 3, 0] rfl (ih _ x0 x1 (x3 + 1) hk33)
          · refine r_iinc (lv' := [(3, iv (x3 + 1)), (4, zc_rv G r8), (0, zc_rv G x0), (1, zc_rv G x1)]) h 3 dX4_judgeElement_187 rfl (hN _ (by decide)) rfl ?_
            refine r_goto h 99 dX4_judgeElement_190 rfl ?_
            refine r_ck (fun hk34 => ?_)
            exact r_lv [2, 3, 0] rfl (ih _ x0 x1 (x3 + 1) hk34)
      · refine r_iinc (lv' := [(3, iv (x3 + 1)), (4, zc_rv G r8), (0, zc_rv G x0), (1, zc_rv G x1)]) h 3 dX4_judgeElement_187 rfl (hN _ (by decide)) rfl ?_
        refine r_goto h 99 dX4_judgeElement_190 rfl ?_
        refine r_ck (fun hk35 => ?_)
        exact r_lv [2, 3, 0] rfl (ih _ x0 x1 (x3 + 1) hk35)
def c_X4_judgeElement_47 : Nat → MEM → Int → Int → Int → Option zc_O
  | 0, _, _, _, _ => none
  | n + 1, μ, x0, x1, x3 => ck (zt [11] (μ x1 (-1)) = true) (ck (zt [40] (μ (μ x1 5) (-1)) = true) (bc (b_lsize μ (μ x1 5)) (fun r3 μ4 => if r3 ≤ x3 then (c_X4_judgeElement_99 zF μ4 x0 x1 0) else (ck (zt [11] (μ4 x1 (-1)) = true) (ck (zt [40] (μ4 (μ4 x1 5) (-1)) = true) (bc (b_lget μ4 (μ4 x1 5) x3) (fun r8 μ9 => ck (zt [13] (μ9 r8 (-1)) = true) (if (μ9 r8 8) = 0 then (ck (zt [11] (μ9 x1 (-1)) = true) (ck (zt [40] (μ9 (μ9 x1 5) (-1)) = true) (bc (b_lget μ9 (μ9 x1 5) x3) (fun r15 μ16 => ck (zt [13] (μ16 r15 (-1)) = true) (ck (zt [4] (μ16 x0 (-1)) = true) (bc (c_X4_judgeAttribute μ16 x0 x1 r15) (fun _ μ20 => ck (inR (x3 + 1)) (c_X4_judgeElement_47 n μ20 x0 x1 (x3 + 1))))))))) else (ck (inR (x3 + 1)) (c_X4_judgeElement_47 n μ9 x0 x1 (x3 + 1)))))))))))
theorem u_X4_judgeElement_47 {C : zv_Cx zc_O} {G : zc_G} {μ0 : MEM} (h : zv_Ok C cX4_judgeElement "TreePress$Document") (hc : zc_C C G μ0 5 (Option.none : Option FieldType) 0 9 200 "judgeElement" []) : ∀ (n : Nat) (μ : MEM) (x0 x1 x3 : Int), inR x3 → VV C (c_X4_judgeElement_47 n μ x0 x1 x3) μ [(0, zc_rv G x0), (1, zc_rv G x1), (3, iv x3)] [] 47 := by
  have hN : ∀ i, i < 5 → i < zv_n C := fun i q => by rw [hc.2.1]; exact q
  intro n
  induction n with
  | zero => intros; exact r_none
  | succ n ih =>
    intro μ x0 x1 x3 hx3
    rw [c_X4_judgeElement_47]
    refine r_iload_n h 2 dX4_judgeElement_47 rfl rfl ?_
    refine c_aload_n (x := x1) h 1 dX4_judgeElement_48 rfl rfl ?_
    refine r_ck (fun ht1 => ?_)
    refine c_getR (fin := true) h hc [11] 5 (zc_lk3 hc (O := "TreePress$Element") (n := "attributes") (ds := "Ljava/util/ArrayList;") (host := "TreePress") (by decide)) ht1 (by decide) dX4_judgeElement_49 ?_
    refine r_ck (fun ht2 => ?_)
    refine c_callV (x := (μ x1 5)) h hc (As := []) (fun o1 e1 => w_lsize _ (μ x1 5) o1 e1) [40] ht2 (by decide) q342 q343 (fun t ht => by cases List.mem_singleton.mp ht; exact q344) q345 q135 (by omega) (by omega) (zc_sc (iv_cat _) zc_s0) (by omega) (fun z hz => by cases hz) ⟨by decide, by decide⟩ (n := 0) (by decide +kernel) rfl rfl dX4_judgeElement_52 (fun r3 μ4 hr5 => r_k1 ?_)
    refine r_icmp_ge (x := x3) (y := r3) h hx3 hr5 97 dX4_judgeElement_55 rfl ?_ ?_
    · refine r_iconst h dX4_judgeElement_97 ?_
      refine r_istore_n (i := 3) (lv' := [(3, iv 0), (0, zc_rv G x0), (1, zc_rv G x1)]) h dX4_judgeElement_98 rfl (hN _ (by decide)) rfl ?_
      exact r_lv [1, 2, 0] rfl (u_X4_judgeElement_99 h hc zF _ x0 x1 0 (by decide))
    · refine c_aload_n (x := x1) h 1 dX4_judgeElement_58 rfl rfl ?_
      refine r_ck (fun ht6 => ?_)
      refine c_getR (fin := true) h hc [11] 5 (zc_lk3 hc (O := "TreePress$Element") (n := "attributes") (ds := "Ljava/util/ArrayList;") (host := "TreePress") (by decide)) ht6 (by decide) dX4_judgeElement_59 ?_
      refine r_iload_n h 2 dX4_judgeElement_62 rfl rfl ?_
      refine r_ck (fun ht7 => ?_)
      refine c_callV (x := (μ4 x1 5)) h hc (As := [iv x3]) (fun o1 e1 => w_lget _ (μ4 x1 5) x3 hx3 o1 e1) [40] ht7 (by decide) q862 q844 (fun t ht => by cases List.mem_singleton.mp ht; exact q845) q846 q135 (by omega) (by omega) zc_s0 (by omega) (fun z hz => by cases hz) ⟨by decide, by decide⟩ (n := 1) (by decide +kernel) rfl rfl dX4_judgeElement_63 (fun r8 μ9 hr10 => r_k4 ?_)
      refine r_ck (fun ht11 => ?_)
      refine c_cast h hc [13] q1120 ht11 (by decide) dX4_judgeElement_66 ?_
      refine c_getZ (fin := true) h hc [13] 8 (zc_lk3 hc (O := "TreePress$Attribute") (n := "given") (ds := "Z") (host := "TreePress") (by decide)) ht11 (by decide) dX4_judgeElement_69 (fun hr12 => ?_)
      refine r_if_ne (x := (μ9 r8 8)) h hr12.r 91 dX4_judgeElement_72 rfl ?_ ?_
      · refine c_aload_n (x := x0) h 0 dX4_judgeElement_75 rfl rfl ?_
        refine c_aload_n (x := x1) h 1 dX4_judgeElement_76 rfl rfl ?_
        refine c_aload_n (x := x1) h 1 dX4_judgeElement_77 rfl rfl ?_
        refine r_ck (fun ht13 => ?_)
        refine c_getR (fin := true) h hc [11] 5 (zc_lk3 hc (O := "TreePress$Element") (n := "attributes") (ds := "Ljava/util/ArrayList;") (host := "TreePress") (by decide)) ht13 (by decide) dX4_judgeElement_78 ?_
        refine r_iload_n h 2 dX4_judgeElement_81 rfl rfl ?_
        refine r_ck (fun ht14 => ?_)
        refine c_callV (x := (μ9 x1 5)) h hc (As := [iv x3]) (fun o1 e1 => w_lget _ (μ9 x1 5) x3 hx3 o1 e1) [40] ht14 (by decide) q862 q844 (fun t ht => by cases List.mem_singleton.mp ht; exact q845) q846 q135 (by omega) (by omega) (zc_sc (zc_rv_cat G _) (zc_sc (zc_rv_cat G _) zc_s0)) (by omega) (fun z hz => by cases hz) ⟨by decide, by decide⟩ (n := 1) (by decide +kernel) rfl rfl dX4_judgeElement_82 (fun r15 μ16 hr17 => r_k4 ?_)
        refine r_ck (fun ht18 => ?_)
        refine c_cast h hc [13] q1120 ht18 (by decide) dX4_judgeElement_85 ?_
        refine r_ck (fun ht19 => ?_)
        refine c_callV (x := x0) h hc (As := [zc_rv G x1, zc_rv G r15]) (fun o1 e1 => u_X4_judgeAttribute _ x0 x1 r15 o1 e1) [4] ht19 (by decide) q1121 q1123 (fun t ht => by cases List.mem_singleton.mp ht; exact qs40) q1124 q140 (by omega) (by omega) zc_s0 (by omega) (fun z hz => by cases hz) ⟨by decide, by decide⟩ (n := 2) (by decide +kernel) rfl rfl dX4_judgeElement_88 (fun _ μ20 _ => r_k0 ?_)
        refine r_iinc (lv' := [(3, iv (x3 + 1)), (0, zc_rv G x0), (1, zc_rv G x1)]) h 2 dX4_judgeElement_91 rfl (hN _ (by decide)) rfl ?_
        refine r_goto h 47 dX4_judgeElement_94 rfl ?_
        refine r_ck (fun hk21 => ?_)
        exact r_lv [1, 2, 0] rfl (ih _ x0 x1 (x3 + 1) hk21)
      · refine r_iinc (lv' := [(3, iv (x3 + 1)), (0, zc_rv G x0), (1, zc_rv G x1)]) h 2 dX4_judgeElement_91 rfl (hN _ (by decide)) rfl ?_
        refine r_goto h 47 dX4_judgeElement_94 rfl ?_
        refine r_ck (fun hk22 => ?_)
        exact r_lv [1, 2, 0] rfl (ih _ x0 x1 (x3 + 1) hk22)
def c_X4_judgeElement (μ : MEM) (a0 a1 : Int) : Option zc_O := ck (zt [11] (μ a1 (-1)) = true) (ck (zt [4] (μ a0 (-1)) = true) (bc (c_X4_spec μ a0 (μ a1 4)) (fun r3 μ4 => if r3 = 0 then (ck (zt [11] (μ4 a1 (-1)) = true) (ck (zt [4] (μ4 a0 (-1)) = true) (bc (c_X4_find μ4 a0 7 (μ4 a1 0)) (fun _ μ9 => c_X4_judgeElement_47 zF μ9 a0 a1 0)))) else (ck (zt [4] (μ4 a0 (-1)) = true) (bc (c_X4_fits μ4 a0 a1 r3) (fun r11 μ12 => if r11 = 0 then (ck (zt [11] (μ12 a1 (-1)) = true) (ck (zt [4] (μ12 a0 (-1)) = true) (bc (c_X4_find μ12 a0 8 (μ12 a1 0)) (fun _ μ17 => c_X4_judgeElement_47 zF μ17 a0 a1 0)))) else (c_X4_judgeElement_47 zF μ12 a0 a1 0)))))))
theorem u_X4_judgeElement {G : zc_G} (μ : MEM) (a0 a1 : Int) (o : zc_O) (hd : c_X4_judgeElement μ a0 a1 = some o) : zc_Met G yX4_judgeElement cX4_judgeElement 5 (Option.none : Option FieldType) 0 9 200 μ [zc_rv G a0, zc_rv G a1] o := by
  refine zc_intro hd (by decide) (by simp [lg_sl, zc_rv_cat, iv_cat, jv_cat]) (lv := [(0, zc_rv G a0), (1, zc_rv G a1)]) (by simp [lv_args, zc_rv_cat, iv_cat, jv_cat]) (fun C h hc => ?_)
  have h : zv_Ok C cX4_judgeElement "TreePress$Document" := h
  have hc : zc_C C G μ 5 (Option.none : Option FieldType) 0 9 200 "judgeElement" [] := hc
  have hN : ∀ i, i < 5 → i < zv_n C := fun i q => by rw [hc.2.1]; exact q
  unfold c_X4_judgeElement
  refine c_aload_n (x := a0) h 0 dX4_judgeElement_0 rfl rfl ?_
  refine c_aload_n (x := a1) h 1 dX4_judgeElement_1 rfl rfl ?_
  refine r_ck (fun ht1 => ?_)
  refine c_getR (fin := true) h hc [11] 4 (zc_lk3 hc (O := "TreePress$Element") (n := "name") (ds := "[B") (host := "TreePress") (by decide)) ht1 (by decide) dX4_judgeElement_2 ?_
  refine r_ck (fun ht2 => ?_)
  refine c_callV (x := a0) h hc (As := [zc_rv G (μ a1 4)]) (fun o1 e1 => u_X4_spec _ a0 (μ a1 4) o1 e1) [4] ht2 (by decide) q1027 q1028 (fun t ht => by cases List.mem_singleton.mp ht; exact q1029) q1030 q140 (by omega) (by omega) zc_s0 (by omega) (fun z hz => by cases hz) ⟨by decide, by decide⟩ (n := 1) (by decide +kernel) rfl rfl dX4_judgeElement_5 (fun r3 μ4 hr5 => r_k4 ?_)
  refine c_astore_n (i := 2) (lv' := [(2, zc_rv G r3), (0, zc_rv G a0), (1, zc_rv G a1)]) h dX4_judgeElement_8 rfl (hN _ (by decide)) (by simp [zc_rv_cat]) ?_
  refine c_aload_n (x := r3) h 0 dX4_judgeElement_9 rfl rfl ?_
  refine c_ifnonnull (x := r3) h 26 dX4_judgeElement_10 rfl ?_ ?_
  · refine c_aload_n (x := a0) h 1 dX4_judgeElement_13 rfl rfl ?_
    refine r_bipush h dX4_judgeElement_14 (by decide) ?_
    refine c_aload_n (x := a1) h 2 dX4_judgeElement_16 rfl rfl ?_
    refine r_ck (fun ht6 => ?_)
    refine c_getI (fin := false) h hc [11] 0 (zc_lk2 h q322 q323) ht6 (by decide) dX4_judgeElement_17 (fun hr7 => ?_)
    refine r_ck (fun ht8 => ?_)
    refine c_callV (x := a0) h hc (As := [iv 7, iv (μ4 a1 0)]) (fun o1 e1 => u_X4_find _ a0 7 (μ4 a1 0) (by decide) hr7 o1 e1) [4] ht8 (by decide) q1031 q1033 (fun t ht => by cases List.mem_singleton.mp ht; exact qs32) q1034 q140 (by omega) (by omega) zc_s0 (by omega) (fun z hz => by cases hz) ⟨by decide, by decide⟩ (n := 2) (by decide +kernel) rfl rfl dX4_judgeElement_20 (fun _ μ9 _ => r_k0 ?_)
    refine r_goto h 45 dX4_judgeElement_23 rfl ?_
    refine r_iconst h dX4_judgeElement_45 ?_
    refine r_istore_n (i := 3) (lv' := [(3, iv 0), (2, zc_rv G r3), (0, zc_rv G a0), (1, zc_rv G a1)]) h dX4_judgeElement_46 rfl (hN _ (by decide)) (by simp [zc_rv_cat]) ?_
    exact r_lv [2, 3, 0] rfl (u_X4_judgeElement_47 h hc zF _ a0 a1 0 (by decide))
  · refine c_aload_n (x := a0) h 1 dX4_judgeElement_26 rfl rfl ?_
    refine c_aload_n (x := a1) h 2 dX4_judgeElement_27 rfl rfl ?_
    refine c_aload_n (x := r3) h 0 dX4_judgeElement_28 rfl rfl ?_
    refine r_ck (fun ht10 => ?_)
    refine c_callV (x := a0) h hc (As := [zc_rv G a1, zc_rv G r3]) (fun o1 e1 => u_X4_fits _ a0 a1 r3 o1 e1) [4] ht10 (by decide) q1071 q1073 (fun t ht => by cases List.mem_singleton.mp ht; exact qs36) q1074 q140 (by omega) (by omega) zc_s0 (by omega) (fun z hz => by cases hz) ⟨by decide, by decide⟩ (n := 2) (by decide +kernel) rfl rfl dX4_judgeElement_29 (fun r11 μ12 hr13 => r_k3 ?_)
    refine r_if_ne (x := r11) h hr13.r 45 dX4_judgeElement_32 rfl ?_ ?_
    · refine c_aload_n (x := a0) h 1 dX4_judgeElement_35 rfl rfl ?_
      refine r_bipush h dX4_judgeElement_36 (by decide) ?_
      refine c_aload_n (x := a1) h 2 dX4_judgeElement_38 rfl rfl ?_
      refine r_ck (fun ht14 => ?_)
      refine c_getI (fin := false) h hc [11] 0 (zc_lk2 h q322 q323) ht14 (by decide) dX4_judgeElement_39 (fun hr15 => ?_)
      refine r_ck (fun ht16 => ?_)
      refine c_callV (x := a0) h hc (As := [iv 8, iv (μ12 a1 0)]) (fun o1 e1 => u_X4_find _ a0 8 (μ12 a1 0) (by decide) hr15 o1 e1) [4] ht16 (by decide) q1031 q1033 (fun t ht => by cases List.mem_singleton.mp ht; exact qs32) q1034 q140 (by omega) (by omega) zc_s0 (by omega) (fun z hz => by cases hz) ⟨by decide, by decide⟩ (n := 2) (by decide +kernel) rfl rfl dX4_judgeElement_42 (fun _ μ17 _ => r_k0 ?_)
      refine r_iconst h dX4_judgeElement_45 ?_
      refine r_istore_n (i := 3) (lv' := [(3, iv 0), (2, zc_rv G r3), (0, zc_rv G a0), (1, zc_rv G a1)]) h dX4_judgeElement_46 rfl (hN _ (by decide)) (by simp [zc_rv_cat]) ?_
      exact r_lv [2, 3, 0] rfl (u_X4_judgeElement_47 h hc zF _ a0 a1 0 (by decide))
    · refine r_iconst h dX4_judgeElement_45 ?_
      refine r_istore_n (i := 3) (lv' := [(3, iv 0), (2, zc_rv G r3), (0, zc_rv G a0), (1, zc_rv G a1)]) h dX4_judgeElement_46 rfl (hN _ (by decide)) (by simp [zc_rv_cat]) ?_
      exact r_lv [2, 3, 0] rfl (u_X4_judgeElement_47 h hc zF _ a0 a1 0 (by decide))
theorem dX4_judge_0 : decode cX4_judge 0 = .ok (.iconst 0, 1) := by decide +kernel
theorem dX4_judge_1 : decode cX4_judge 1 = .ok (.istore_n 2, 1) := by decide +kernel
theorem dX4_judge_2 : decode cX4_judge 2 = .ok (.iload_n 2, 1) := by decide +kernel
theorem dX4_judge_3 : decode cX4_judge 3 = .ok (.aload_n 1, 1) := by decide +kernel
theorem dX4_judge_4 : decode cX4_judge 4 = .ok (.invokevirtual 41, 3) := by decide +kernel
theorem dX4_judge_7 : decode cX4_judge 7 = .ok (.if_icmp .ge 63, 3) := by decide +kernel
theorem dX4_judge_10 : decode cX4_judge 10 = .ok (.aload_n 1, 1) := by decide +kernel
theorem dX4_judge_11 : decode cX4_judge 11 = .ok (.iload_n 2, 1) := by decide +kernel
theorem dX4_judge_12 : decode cX4_judge 12 = .ok (.invokevirtual 57, 3) := by decide +kernel
theorem dX4_judge_15 : decode cX4_judge 15 = .ok (.checkcast 159, 3) := by decide +kernel
theorem dX4_judge_18 : decode cX4_judge 18 = .ok (.iconst 0, 1) := by decide +kernel
theorem dX4_judge_19 : decode cX4_judge 19 = .ok (.iaload, 1) := by decide +kernel
theorem dX4_judge_20 : decode cX4_judge 20 = .ok (.ifCond .ne 20, 3) := by decide +kernel
theorem dX4_judge_23 : decode cX4_judge 23 = .ok (.aload_n 0, 1) := by decide +kernel
theorem dX4_judge_24 : decode cX4_judge 24 = .ok (.aload_n 1, 1) := by decide +kernel
theorem dX4_judge_25 : decode cX4_judge 25 = .ok (.iload_n 2, 1) := by decide +kernel
theorem dX4_judge_26 : decode cX4_judge 26 = .ok (.invokevirtual 57, 3) := by decide +kernel
theorem dX4_judge_29 : decode cX4_judge 29 = .ok (.checkcast 159, 3) := by decide +kernel
theorem dX4_judge_32 : decode cX4_judge 32 = .ok (.iconst 1, 1) := by decide +kernel
theorem dX4_judge_33 : decode cX4_judge 33 = .ok (.iaload, 1) := by decide +kernel
theorem dX4_judge_34 : decode cX4_judge 34 = .ok (.invokevirtual 161, 3) := by decide +kernel
theorem dX4_judge_37 : decode cX4_judge 37 = .ok (.goto 27, 3) := by decide +kernel
theorem dX4_judge_40 : decode cX4_judge 40 = .ok (.aload_n 0, 1) := by decide +kernel
theorem dX4_judge_41 : decode cX4_judge 41 = .ok (.aload_n 0, 1) := by decide +kernel
theorem dX4_judge_42 : decode cX4_judge 42 = .ok (.getfield 28, 3) := by decide +kernel
theorem dX4_judge_45 : decode cX4_judge 45 = .ok (.aload_n 1, 1) := by decide +kernel
theorem dX4_judge_46 : decode cX4_judge 46 = .ok (.iload_n 2, 1) := by decide +kernel
theorem dX4_judge_47 : decode cX4_judge 47 = .ok (.invokevirtual 57, 3) := by decide +kernel
theorem dX4_judge_50 : decode cX4_judge 50 = .ok (.checkcast 159, 3) := by decide +kernel
theorem dX4_judge_53 : decode cX4_judge 53 = .ok (.iconst 1, 1) := by decide +kernel
theorem dX4_judge_54 : decode cX4_judge 54 = .ok (.iaload, 1) := by decide +kernel
theorem dX4_judge_55 : decode cX4_judge 55 = .ok (.invokevirtual 57, 3) := by decide +kernel
theorem dX4_judge_58 : decode cX4_judge 58 = .ok (.checkcast 71, 3) := by decide +kernel
theorem dX4_judge_61 : decode cX4_judge 61 = .ok (.invokevirtual 165, 3) := by decide +kernel
theorem dX4_judge_64 : decode cX4_judge 64 = .ok (.iinc 2 1, 3) := by decide +kernel
theorem dX4_judge_67 : decode cX4_judge 67 = .ok (.goto (-65), 3) := by decide +kernel
theorem dX4_judge_70 : decode cX4_judge 70 = .ok (.aconst_null, 1) := by decide +kernel
theorem dX4_judge_71 : decode cX4_judge 71 = .ok (.astore_n 2, 1) := by decide +kernel
theorem dX4_judge_72 : decode cX4_judge 72 = .ok (.iconst 0, 1) := by decide +kernel
theorem dX4_judge_73 : decode cX4_judge 73 = .ok (.istore_n 3, 1) := by decide +kernel
theorem dX4_judge_74 : decode cX4_judge 74 = .ok (.iload_n 3, 1) := by decide +kernel
theorem dX4_judge_75 : decode cX4_judge 75 = .ok (.aload_n 0, 1) := by decide +kernel
theorem dX4_judge_76 : decode cX4_judge 76 = .ok (.getfield 21, 3) := by decide +kernel
theorem dX4_judge_79 : decode cX4_judge 79 = .ok (.invokevirtual 41, 3) := by decide +kernel
theorem dX4_judge_82 : decode cX4_judge 82 = .ok (.if_icmp .ge 73, 3) := by decide +kernel
theorem dX4_judge_85 : decode cX4_judge 85 = .ok (.aload_n 0, 1) := by decide +kernel
theorem dX4_judge_86 : decode cX4_judge 86 = .ok (.getfield 21, 3) := by decide +kernel
theorem dX4_judge_89 : decode cX4_judge 89 = .ok (.iload_n 3, 1) := by decide +kernel
theorem dX4_judge_90 : decode cX4_judge 90 = .ok (.invokevirtual 57, 3) := by decide +kernel
theorem dX4_judge_93 : decode cX4_judge 93 = .ok (.astore 5, 2) := by decide +kernel
theorem dX4_judge_95 : decode cX4_judge 95 = .ok (.aload 5, 2) := by decide +kernel
theorem dX4_judge_97 : decode cX4_judge 97 = .ok (.instanceof 114, 3) := by decide +kernel
theorem dX4_judge_100 : decode cX4_judge 100 = .ok (.ifCond .eq 49, 3) := by decide +kernel
theorem dX4_judge_103 : decode cX4_judge 103 = .ok (.aload 5, 2) := by decide +kernel
theorem dX4_judge_105 : decode cX4_judge 105 = .ok (.checkcast 114, 3) := by decide +kernel
theorem dX4_judge_108 : decode cX4_judge 108 = .ok (.astore 4, 2) := by decide +kernel
theorem dX4_judge_110 : decode cX4_judge 110 = .ok (.aload_n 2, 1) := by decide +kernel
theorem dX4_judge_111 : decode cX4_judge 111 = .ok (.ifnonnull 32, 3) := by decide +kernel
theorem dX4_judge_114 : decode cX4_judge 114 = .ok (.aload 4, 2) := by decide +kernel
theorem dX4_judge_116 : decode cX4_judge 116 = .ok (.astore_n 2, 1) := by decide +kernel
theorem dX4_judge_117 : decode cX4_judge 117 = .ok (.aload_n 0, 1) := by decide +kernel
theorem dX4_judge_118 : decode cX4_judge 118 = .ok (.getfield 169, 3) := by decide +kernel
theorem dX4_judge_121 : decode cX4_judge 121 = .ok (.aload 4, 2) := by decide +kernel
theorem dX4_judge_123 : decode cX4_judge 123 = .ok (.getfield 128, 3) := by decide +kernel
theorem dX4_judge_126 : decode cX4_judge 126 = .ok (.invokestatic 67, 3) := by decide +kernel
theorem dX4_judge_129 : decode cX4_judge 129 = .ok (.ifCond .ne 14, 3) := by decide +kernel
theorem dX4_judge_132 : decode cX4_judge 132 = .ok (.aload_n 0, 1) := by decide +kernel
theorem dX4_judge_133 : decode cX4_judge 133 = .ok (.bipush 6, 2) := by decide +kernel
theorem dX4_judge_135 : decode cX4_judge 135 = .ok (.aload 4, 2) := by decide +kernel
theorem dX4_judge_137 : decode cX4_judge 137 = .ok (.getfield 139, 3) := by decide +kernel
theorem dX4_judge_140 : decode cX4_judge 140 = .ok (.invokevirtual 81, 3) := by decide +kernel
theorem dX4_judge_143 : decode cX4_judge 143 = .ok (.aload_n 0, 1) := by decide +kernel
theorem dX4_judge_144 : decode cX4_judge 144 = .ok (.aload 4, 2) := by decide +kernel
theorem dX4_judge_146 : decode cX4_judge 146 = .ok (.invokevirtual 171, 3) := by decide +kernel
theorem dX4_judge_149 : decode cX4_judge 149 = .ok (.iinc 3 1, 3) := by decide +kernel
theorem dX4_judge_152 : decode cX4_judge 152 = .ok (.goto (-78), 3) := by decide +kernel
theorem dX4_judge_155 : decode cX4_judge 155 = .ok (.return_, 1) := by decide +kernel
def c_X4_judge_74 : Nat → MEM → Int → Int → Int → Option zc_O
  | 0, _, _, _, _ => none
  | n + 1, μ, x0, x2, x3 => ck (zt [4] (μ x0 (-1)) = true) (ck (zt [40] (μ (μ x0 1) (-1)) = true) (bc (b_lsize μ (μ x0 1)) (fun r3 μ4 => if r3 ≤ x3 then (some (0, 0, μ4)) else (ck (zt [4] (μ4 x0 (-1)) = true) (ck (zt [40] (μ4 (μ4 x0 1) (-1)) = true) (bc (b_lget μ4 (μ4 x0 1) x3) (fun r8 μ9 => ck (zt [] (μ9 r8 (-1)) = true) (if (zi [11] (μ9 r8 (-1))) = 0 then (ck (inR (x3 + 1)) (c_X4_judge_74 n μ9 x0 x2 (x3 + 1))) else (if x2 = 0 then (ck (zt [4] (μ9 x0 (-1)) = true) (bc (c_X0_isSame μ9 (μ9 x0 2) (μ9 r8 4)) (fun r14 μ15 => if r14 = 0 then (ck (zt [11] (μ15 r8 (-1)) = true) (ck (zt [4] (μ15 x0 (-1)) = true) (bc (c_X4_find μ15 x0 6 (μ15 r8 0)) (fun _ μ20 => ck (zt [4] (μ20 x0 (-1)) = true) (bc (c_X4_judgeElement μ20 x0 r8) (fun _ μ22 => ck (inR (x3 + 1)) (c_X4_judge_74 n μ22 x0 r8 (x3 + 1)))))))) else (ck (zt [4] (μ15 x0 (-1)) = true) (bc (c_X4_judgeElement μ15 x0 r8) (fun _ μ25 => ck (inR (x3 + 1)) (c_X4_judge_74 n μ25 x0 r8 (x3 + 1)))))))) else (ck (zt [4] (μ9 x0 (-1)) = true) (bc (c_X4_judgeElement μ9 x0 r8) (fun _ μ28 => ck (inR (x3 + 1)) (c_X4_judge_74 n μ28 x0 x2 (x3 + 1))))))))))))))
theorem u_X4_judge_74 {C : zv_Cx zc_O} {G : zc_G} {μ0 : MEM} (h : zv_Ok C cX4_judge "TreePress$Document") (hc : zc_C C G μ0 6 (Option.none : Option FieldType) 0 10 224 "judge" []) : ∀ (n : Nat) (μ : MEM) (x0 x2 x3 : Int), inR x3 → VV C (c_X4_judge_74 n μ x0 x2 x3) μ [(0, zc_rv G x0), (2, zc_rv G x2), (3, iv x3)] [] 74 := by
  have hN : ∀ i, i < 6 → i < zv_n C := fun i q => by rw [hc.2.1]; exact q
  intro n
  induction n with
  | zero => intros; exact r_none
  | succ n ih =>
    intro μ x0 x2 x3 hx3
    rw [c_X4_judge_74]
    refine r_iload_n h 2 dX4_judge_74 rfl rfl ?_
    refine c_aload_n (x := x0) h 0 dX4_judge_75 rfl rfl ?_
    refine r_ck (fun ht1 => ?_)
    refine c_getR (fin := true) h hc [4] 1 (zc_lk1 h q410) ht1 (by decide) dX4_judge_76 ?_
    refine r_ck (fun ht2 => ?_)
    refine c_callV (x := (μ x0 1)) h hc (As := []) (fun o1 e1 => w_lsize _ (μ x0 1) o1 e1) [40] ht2 (by decide) q342 q343 (fun t ht => by cases List.mem_singleton.mp ht; exact q344) q345 q135 (by omega) (by omega) (zc_sc (iv_cat _) zc_s0) (by omega) (fun z hz => by cases hz) ⟨by decide, by decide⟩ (n := 0) (by decide +kernel) rfl rfl dX4_judge_79 (fun r3 μ4 hr5 => r_k1 ?_)
    refine r_icmp_ge (x := x3) (y := r3) h hx3 hr5 155 dX4_judge_82 rfl ?_ ?_
    · exact c_vret h hc rfl dX4_judge_155
    · refine c_aload_n (x := x0) h 0 dX4_judge_85 rfl rfl ?_
      refine r_ck (fun ht6 => ?_)
      refine c_getR (fin := true) h hc [4] 1 (zc_lk1 h q410) ht6 (by decide) dX4_judge_86 ?_
      refine r_iload_n h 2 dX4_judge_89 rfl rfl ?_
      refine r_ck (fun ht7 => ?_)
      refine c_callV (x := (μ4 x0 1)) h hc (As := [iv x3]) (fun o1 e1 => w_lget _ (μ4 x0 1) x3 hx3 o1 e1) [40] ht7 (by decide) q862 q844 (fun t ht => by cases List.mem_singleton.mp ht; exact q845) q846 q135 (by omega) (by omega) zc_s0 (by omega) (fun z hz => by cases hz) ⟨by decide, by decide⟩ (n := 1) (by decide +kernel) rfl rfl dX4_judge_90 (fun r8 μ9 hr10 => r_k4 ?_)
      refine c_astore (lv' := [(5, zc_rv G r8), (0, zc_rv G x0), (2, zc_rv G x2), (3, iv x3)]) h dX4_judge_93 (hN _ (by decide)) rfl ?_
      refine c_aload (x := r8) h 0 dX4_judge_95 rfl ?_
      refine r_ck (fun ht11 => ?_)
      refine c_inst h hc [] [11] q1066 ht11 (by decide) dX4_judge_97 ?_
      refine r_if_eq (x := (zi [11] (μ9 r8 (-1)))) h ((zi_B _ _)).r 149 dX4_judge_100 rfl ?_ ?_
      · refine r_iinc (lv' := [(3, iv (x3 + 1)), (5, zc_rv G r8), (0, zc_rv G x0), (2, zc_rv G x2)]) h 3 dX4_judge_149 rfl (hN _ (by decide)) (by simp [zc_rv_cat]) ?_
        refine r_goto h 74 dX4_judge_152 rfl ?_
        refine r_ck (fun hk12 => ?_)
        exact r_lv [2, 3, 0] rfl (ih _ x0 x2 (x3 + 1) hk12)
      · refine c_aload (x := r8) h 0 dX4_judge_103 rfl ?_
        refine c_cast h hc [11] q1066 (zt_sub (ts := []) (by decide) ht11) (by decide) dX4_judge_105 ?_
        refine c_astore (lv' := [(4, zc_rv G r8), (5, zc_rv G r8), (0, zc_rv G x0), (2, zc_rv G x2), (3, iv x3)]) h dX4_judge_108 (hN _ (by decide)) rfl ?_
        refine c_aload_n (x := x2) h 3 dX4_judge_110 rfl rfl ?_
        refine c_ifnonnull (x := x2) h 143 dX4_judge_111 rfl ?_ ?_
        · refine c_aload (x := r8) h 0 dX4_judge_114 rfl ?_
          refine c_astore_n (i := 2) (lv' := [(2, zc_rv G r8), (4, zc_rv G r8), (5, zc_rv G r8), (0, zc_rv G x0), (3, iv x3)]) h dX4_judge_116 rfl (hN _ (by decide)) rfl ?_
          refine c_aload_n (x := x0) h 3 dX4_judge_117 rfl rfl ?_
          refine r_ck (fun ht13 => ?_)
          refine c_getR (fin := false) h hc [4] 2 (zc_lk1 h q414) ht13 (by decide) dX4_judge_118 ?_
          refine c_aload (x := r8) h 1 dX4_judge_121 rfl ?_
          refine c_getR (fin := true) h hc [11] 4 (zc_lk3 hc (O := "TreePress$Element") (n := "name") (ds := "[B") (host := "TreePress") (by decide)) (zt_sub (ts := []) (by decide) ht11) (by decide) dX4_judge_123 ?_
          refine c_callSN h hc (As := [zc_rv G (μ9 x0 2), zc_rv G (μ9 r8 4)]) (fun o1 e1 => u_X0_isSame _ (μ9 x0 2) (μ9 r8 4) o1 e1) (host := "TreePress") (by decide) q856 q857 q132 (by omega) (by omega) zc_s0 (by omega) (fun z hz => by cases hz) ⟨by decide, by decide⟩ (n := 2) (by decide +kernel) rfl rfl dX4_judge_126 (fun r14 μ15 hr16 => r_k3 ?_)
          refine r_if_ne (x := r14) h hr16.r 143 dX4_judge_129 rfl ?_ ?_
          · refine c_aload_n (x := x0) h 3 dX4_judge_132 rfl rfl ?_
            refine r_bipush h dX4_judge_133 (by decide) ?_
            refine c_aload (x := r8) h 1 dX4_judge_135 rfl ?_
            refine r_ck (fun ht17 => ?_)
            refine c_getI (fin := false) h hc [11] 0 (zc_lk2 h q322 q323) ht17 (by decide) dX4_judge_137 (fun hr18 => ?_)
            refine r_ck (fun ht19 => ?_)
            refine c_callV (x := x0) h hc (As := [iv 6, iv (μ15 r8 0)]) (fun o1 e1 => u_X4_find _ x0 6 (μ15 r8 0) (by decide) hr18 o1 e1) [4] ht19 (by decide) q1031 q1033 (fun t ht => by cases List.mem_singleton.mp ht; exact qs32) q1034 q140 (by omega) (by omega) zc_s0 (by omega) (fun z hz => by cases hz) ⟨by decide, by decide⟩ (n := 2) (by decide +kernel) rfl rfl dX4_judge_140 (fun _ μ20 _ => r_k0 ?_)
            refine c_aload_n (x := x0) h 3 dX4_judge_143 rfl rfl ?_
            refine c_aload (x := r8) h 1 dX4_judge_144 rfl ?_
            refine r_ck (fun ht21 => ?_)
            refine c_callV (x := x0) h hc (As := [zc_rv G r8]) (fun o1 e1 => u_X4_judgeElement _ x0 r8 o1 e1) [4] ht21 (by decide) q1067 q1069 (fun t ht => by cases List.mem_singleton.mp ht; exact qs35) q1070 q140 (by omega) (by omega) zc_s0 (by omega) (fun z hz => by cases hz) ⟨by decide, by decide⟩ (n := 1) (by decide +kernel) rfl rfl dX4_judge_146 (fun _ μ22 _ => r_k0 ?_)
            refine r_iinc (lv' := [(3, iv (x3 + 1)), (2, zc_rv G r8), (4, zc_rv G r8), (5, zc_rv G r8), (0, zc_rv G x0)]) h 4 dX4_judge_149 rfl (hN _ (by decide)) (by simp [zc_rv_cat]) ?_
            refine r_goto h 74 dX4_judge_152 rfl ?_
            refine r_ck (fun hk23 => ?_)
            exact r_lv [4, 1, 0] rfl (ih _ x0 r8 (x3 + 1) hk23)
          · refine c_aload_n (x := x0) h 3 dX4_judge_143 rfl rfl ?_
            refine c_aload (x := r8) h 1 dX4_judge_144 rfl ?_
            refine r_ck (fun ht24 => ?_)
            refine c_callV (x := x0) h hc (As := [zc_rv G r8]) (fun o1 e1 => u_X4_judgeElement _ x0 r8 o1 e1) [4] ht24 (by decide) q1067 q1069 (fun t ht => by cases List.mem_singleton.mp ht; exact qs35) q1070 q140 (by omega) (by omega) zc_s0 (by omega) (fun z hz => by cases hz) ⟨by decide, by decide⟩ (n := 1) (by decide +kernel) rfl rfl dX4_judge_146 (fun _ μ25 _ => r_k0 ?_)
            refine r_iinc (lv' := [(3, iv (x3 + 1)), (2, zc_rv G r8), (4, zc_rv G r8), (5, zc_rv G r8), (0, zc_rv G x0)]) h 4 dX4_judge_149 rfl (hN _ (by decide)) (by simp [zc_rv_cat]) ?_
            refine r_goto h 74 dX4_judge_152 rfl ?_
            refine r_ck (fun hk26 => ?_)
            exact r_lv [4, 1, 0] rfl (ih _ x0 r8 (x3 + 1) hk26)
        · refine c_aload_n (x := x0) h 2 dX4_judge_143 rfl rfl ?_
          refine c_aload (x := r8) h 0 dX4_judge_144 rfl ?_
          refine r_ck (fun ht27 => ?_)
          refine c_callV (x := x0) h hc (As := [zc_rv G r8]) (fun o1 e1 => u_X4_judgeElement _ x0 r8 o1 e1) [4] ht27 (by decide) q1067 q1069 (fun t ht => by cases List.mem_singleton.mp ht; exact qs35) q1070 q140 (by omega) (by omega) zc_s0 (by omega) (fun z hz => by cases hz) ⟨by decide, by decide⟩ (n := 1) (by decide +kernel) rfl rfl dX4_judge_146 (fun _ μ28 _ => r_k0 ?_)
          refine r_iinc (lv' := [(3, iv (x3 + 1)), (4, zc_rv G r8), (5, zc_rv G r8), (0, zc_rv G x0), (2, zc_rv G x2)]) h 4 dX4_judge_149 rfl (hN _ (by decide)) (by simp [zc_rv_cat]) ?_
          refine r_goto h 74 dX4_judge_152 rfl ?_
          refine r_ck (fun hk29 => ?_)
          exact r_lv [3, 4, 0] rfl (ih _ x0 x2 (x3 + 1) hk29)
def c_X4_judge_2 : Nat → MEM → Int → Int → Int → Option zc_O
  | 0, _, _, _, _ => none
  | n + 1, μ, x0, x1, x2 => ck (zt [40] (μ x1 (-1)) = true) (bc (b_lsize μ x1) (fun r2 μ3 => if r2 ≤ x2 then (c_X4_judge_74 zF μ3 x0 0 0) else (ck (zt [40] (μ3 x1 (-1)) = true) (bc (b_lget μ3 x1 x2) (fun r6 μ7 => ck (zt [33] (μ7 r6 (-1)) = true) (ck ((0 : Int) ≤ 0 ∧ 0 < μ7 r6 (-2)) (if (μ7 r6 0) = 0 then (ck (zt [40] (μ7 x1 (-1)) = true) (bc (b_lget μ7 x1 x2) (fun r12 μ13 => ck (zt [33] (μ13 r12 (-1)) = true) (ck ((0 : Int) ≤ 1 ∧ 1 < μ13 r12 (-2)) (ck (zt [4] (μ13 x0 (-1)) = true) (bc (c_X4_judgeSpec μ13 x0 (μ13 r12 1)) (fun _ μ18 => ck (inR (x2 + 1)) (c_X4_judge_2 n μ18 x0 x1 (x2 + 1))))))))) else (ck (zt [4] (μ7 x0 (-1)) = true) (ck (zt [40] (μ7 x1 (-1)) = true) (bc (b_lget μ7 x1 x2) (fun r22 μ23 => ck (zt [33] (μ23 r22 (-1)) = true) (ck ((0 : Int) ≤ 1 ∧ 1 < μ23 r22 (-2)) (ck (zt [40] (μ23 (μ7 x0 4) (-1)) = true) (bc (b_lget μ23 (μ7 x0 4) (μ23 r22 1)) (fun r28 μ29 => ck (zt [10] (μ29 r28 (-1)) = true) (ck (zt [4] (μ29 x0 (-1)) = true) (bc (c_X4_judgeRule μ29 x0 r28) (fun _ μ33 => ck (inR (x2 + 1)) (c_X4_judge_2 n μ33 x0 x1 (x2 + 1))))))))))))))))))))
theorem u_X4_judge_2 {C : zv_Cx zc_O} {G : zc_G} {μ0 : MEM} (h : zv_Ok C cX4_judge "TreePress$Document") (hc : zc_C C G μ0 6 (Option.none : Option FieldType) 0 10 224 "judge" []) : ∀ (n : Nat) (μ : MEM) (x0 x1 x2 : Int), inR x2 → VV C (c_X4_judge_2 n μ x0 x1 x2) μ [(0, zc_rv G x0), (1, zc_rv G x1), (2, iv x2)] [] 2 := by
  have hN : ∀ i, i < 6 → i < zv_n C := fun i q => by rw [hc.2.1]; exact q
  intro n
  induction n with
  | zero => intros; exact r_none
  | succ n ih =>
    intro μ x0 x1 x2 hx2
    rw [c_X4_judge_2]
    refine r_iload_n h 2 dX4_judge_2 rfl rfl ?_
    refine c_aload_n (x := x1) h 1 dX4_judge_3 rfl rfl ?_
    refine r_ck (fun ht1 => ?_)
    refine c_callV (x := x1) h hc (As := []) (fun o1 e1 => w_lsize _ x1 o1 e1) [40] ht1 (by decide) q342 q343 (fun t ht => by cases List.mem_singleton.mp ht; exact q344) q345 q135 (by omega) (by omega) (zc_sc (iv_cat _) zc_s0) (by omega) (fun z hz => by cases hz) ⟨by decide, by decide⟩ (n := 0) (by decide +kernel) rfl rfl dX4_judge_4 (fun r2 μ3 hr4 => r_k1 ?_)
    refine r_icmp_ge (x := x2) (y := r2) h hx2 hr4 70 dX4_judge_7 rfl ?_ ?_
    · refine c_null G h dX4_judge_70 ?_
      refine c_astore_n (i := 2) (lv' := [(2, zc_rv G 0), (0, zc_rv G x0), (1, zc_rv G x1)]) h dX4_judge_71 rfl (hN _ (by decide)) (by simp [zc_rv_cat]) ?_
      refine r_iconst h dX4_judge_72 ?_
      refine r_istore_n (i := 3) (lv' := [(3, iv 0), (2, zc_rv G 0), (0, zc_rv G x0), (1, zc_rv G x1)]) h dX4_judge_73 rfl (hN _ (by decide)) (by simp [zc_rv_cat]) ?_
      exact r_lv [2, 1, 0] rfl (u_X4_judge_74 h hc zF _ x0 0 0 (by decide))
    · refine c_aload_n (x := x1) h 1 dX4_judge_10 rfl rfl ?_
      refine r_iload_n h 2 dX4_judge_11 rfl rfl ?_
      refine r_ck (fun ht5 => ?_)
      refine c_callV (x := x1) h hc (As := [iv x2]) (fun o1 e1 => w_lget _ x1 x2 hx2 o1 e1) [40] ht5 (by decide) q862 q844 (fun t ht => by cases List.mem_singleton.mp ht; exact q845) q846 q135 (by omega) (by omega) zc_s0 (by omega) (fun z hz => by cases hz) ⟨by decide, by decide⟩ (n := 1) (by decide +kernel) rfl rfl dX4_judge_12 (fun r6 μ7 hr8 => r_k4 ?_)
      refine r_ck (fun ht9 => ?_)
      refine c_cast h hc [33] q1021 ht9 (by decide) dX4_judge_15 ?_
      refine r_iconst h dX4_judge_18 ?_
      refine c_ldI h hc ht9 dX4_judge_19 (fun _ hr10 => ?_)
      refine r_if_ne (x := (μ7 r6 0)) h hr10 40 dX4_judge_20 rfl ?_ ?_
      · refine c_aload_n (x := x0) h 0 dX4_judge_23 rfl rfl ?_
        refine c_aload_n (x := x1) h 1 dX4_judge_24 rfl rfl ?_
        refine r_iload_n h 2 dX4_judge_25 rfl rfl ?_
        refine r_ck (fun ht11 => ?_)
        refine c_callV (x := x1) h hc (As := [iv x2]) (fun o1 e1 => w_lget _ x1 x2 hx2 o1 e1) [40] ht11 (by decide) q862 q844 (fun t ht => by cases List.mem_singleton.mp ht; exact q845) q846 q135 (by omega) (by omega) (zc_sc (zc_rv_cat G _) zc_s0) (by omega) (fun z hz => by cases hz) ⟨by decide, by decide⟩ (n := 1) (by decide +kernel) rfl rfl dX4_judge_26 (fun r12 μ13 hr14 => r_k4 ?_)
        refine r_ck (fun ht15 => ?_)
        refine c_cast h hc [33] q1021 ht15 (by decide) dX4_judge_29 ?_
        refine r_iconst h dX4_judge_32 ?_
        refine c_ldI h hc ht15 dX4_judge_33 (fun _ hr16 => ?_)
        refine r_ck (fun ht17 => ?_)
        refine c_callV (x := x0) h hc (As := [iv (μ13 r12 1)]) (fun o1 e1 => u_X4_judgeSpec _ x0 (μ13 r12 1) hr16 o1 e1) [4] ht17 (by decide) q1022 q1024 (fun t ht => by cases List.mem_singleton.mp ht; exact qs31) q1025 q140 (by omega) (by omega) zc_s0 (by omega) (fun z hz => by cases hz) ⟨by decide, by decide⟩ (n := 1) (by decide +kernel) rfl rfl dX4_judge_34 (fun _ μ18 _ => r_k0 ?_)
        refine r_goto h 64 dX4_judge_37 rfl ?_
        refine r_iinc (lv' := [(2, iv (x2 + 1)), (0, zc_rv G x0), (1, zc_rv G x1)]) h 2 dX4_judge_64 rfl (hN _ (by decide)) (by simp [zc_rv_cat]) ?_
        refine r_goto h 2 dX4_judge_67 rfl ?_
        refine r_ck (fun hk19 => ?_)
        exact r_lv [1, 2, 0] rfl (ih _ x0 x1 (x2 + 1) hk19)
      · refine c_aload_n (x := x0) h 0 dX4_judge_40 rfl rfl ?_
        refine c_aload_n (x := x0) h 0 dX4_judge_41 rfl rfl ?_
        refine r_ck (fun ht20 => ?_)
        refine c_getR (fin := true) h hc [4] 4 (zc_lk1 h q419) ht20 (by decide) dX4_judge_42 ?_
        refine c_aload_n (x := x1) h 1 dX4_judge_45 rfl rfl ?_
        refine r_iload_n h 2 dX4_judge_46 rfl rfl ?_
        refine r_ck (fun ht21 => ?_)
        refine c_callV (x := x1) h hc (As := [iv x2]) (fun o1 e1 => w_lget _ x1 x2 hx2 o1 e1) [40] ht21 (by decide) q862 q844 (fun t ht => by cases List.mem_singleton.mp ht; exact q845) q846 q135 (by omega) (by omega) (zc_sc (zc_rv_cat G _) (zc_sc (zc_rv_cat G _) zc_s0)) (by omega) (fun z hz => by cases hz) ⟨by decide, by decide⟩ (n := 1) (by decide +kernel) rfl rfl dX4_judge_47 (fun r22 μ23 hr24 => r_k4 ?_)
        refine r_ck (fun ht25 => ?_)
        refine c_cast h hc [33] q1021 ht25 (by decide) dX4_judge_50 ?_
        refine r_iconst h dX4_judge_53 ?_
        refine c_ldI h hc ht25 dX4_judge_54 (fun _ hr26 => ?_)
        refine r_ck (fun ht27 => ?_)
        refine c_callV (x := (μ7 x0 4)) h hc (As := [iv (μ23 r22 1)]) (fun o1 e1 => w_lget _ (μ7 x0 4) (μ23 r22 1) hr26 o1 e1) [40] ht27 (by decide) q862 q844 (fun t ht => by cases List.mem_singleton.mp ht; exact q845) q846 q135 (by omega) (by omega) (zc_sc (zc_rv_cat G _) zc_s0) (by omega) (fun z hz => by cases hz) ⟨by decide, by decide⟩ (n := 1) (by decide +kernel) rfl rfl dX4_judge_55 (fun r28 μ29 hr30 => r_k4 ?_)
        refine r_ck (fun ht31 => ?_)
        refine c_cast h hc [10] q863 ht31 (by decide) dX4_judge_58 ?_
        refine r_ck (fun ht32 => ?_)
        refine c_callV (x := x0) h hc (As := [zc_rv G r28]) (fun o1 e1 => u_X4_judgeRule _ x0 r28 o1 e1) [4] ht32 (by decide) q1049 q1051 (fun t ht => by cases List.mem_singleton.mp ht; exact qs34) q1052 q140 (by omega) (by omega) zc_s0 (by omega) (fun z hz => by cases hz) ⟨by decide, by decide⟩ (n := 1) (by decide +kernel) rfl rfl dX4_judge_61 (fun _ μ33 _ => r_k0 ?_)
        refine r_iinc (lv' := [(2, iv (x2 + 1)), (0, zc_rv G x0), (1, zc_rv G x1)]) h 2 dX4_judge_64 rfl (hN _ (by decide)) (by simp [zc_rv_cat]) ?_
        refine r_goto h 2 dX4_judge_67 rfl ?_
        refine r_ck (fun hk34 => ?_)
        exact r_lv [1, 2, 0] rfl (ih _ x0 x1 (x2 + 1) hk34)
def c_X4_judge (μ : MEM) (a0 a1 : Int) : Option zc_O := c_X4_judge_2 zF μ a0 a1 0
theorem u_X4_judge {G : zc_G} (μ : MEM) (a0 a1 : Int) (o : zc_O) (hd : c_X4_judge μ a0 a1 = some o) : zc_Met G yX4_judge cX4_judge 6 (Option.none : Option FieldType) 0 10 224 μ [zc_rv G a0, zc_rv G a1] o := by
  refine zc_intro hd (by decide) (by simp [lg_sl, zc_rv_cat, iv_cat, jv_cat]) (lv := [(0, zc_rv G a0), (1, zc_rv G a1)]) (by simp [lv_args, zc_rv_cat, iv_cat, jv_cat]) (fun C h hc => ?_)
  have h : zv_Ok C cX4_judge "TreePress$Document" := h
  have hc : zc_C C G μ 6 (Option.none : Option FieldType) 0 10 224 "judge" [] := hc
  have hN : ∀ i, i < 6 → i < zv_n C := fun i q => by rw [hc.2.1]; exact q
  unfold c_X4_judge
  refine r_iconst h dX4_judge_0 ?_
  refine r_istore_n (i := 2) (lv' := [(2, iv 0), (0, zc_rv G a0), (1, zc_rv G a1)]) h dX4_judge_1 rfl (hN _ (by decide)) (by simp [zc_rv_cat]) ?_
  exact r_lv [1, 2, 0] rfl (u_X4_judge_2 h hc zF _ a0 a1 0 (by decide))
theorem dX3_document_0 : decode cX3_document 0 = .ok (.aload_n 0, 1) := by decide +kernel
theorem dX3_document_1 : decode cX3_document 1 = .ok (.invokevirtual 75, 3) := by decide +kernel
theorem dX3_document_4 : decode cX3_document 4 = .ok (.aload_n 0, 1) := by decide +kernel
theorem dX3_document_5 : decode cX3_document 5 = .ok (.ldc 78, 2) := by decide +kernel
theorem dX3_document_7 : decode cX3_document 7 = .ok (.invokevirtual 63, 3) := by decide +kernel
theorem dX3_document_10 : decode cX3_document 10 = .ok (.ifCond .eq 11, 3) := by decide +kernel
theorem dX3_document_13 : decode cX3_document 13 = .ok (.aload_n 0, 1) := by decide +kernel
theorem dX3_document_14 : decode cX3_document 14 = .ok (.invokevirtual 80, 3) := by decide +kernel
theorem dX3_document_17 : decode cX3_document 17 = .ok (.aload_n 0, 1) := by decide +kernel
theorem dX3_document_18 : decode cX3_document 18 = .ok (.invokevirtual 75, 3) := by decide +kernel
theorem dX3_document_21 : decode cX3_document 21 = .ok (.aload_n 0, 1) := by decide +kernel
theorem dX3_document_22 : decode cX3_document 22 = .ok (.invokevirtual 35, 3) := by decide +kernel
theorem dX3_document_25 : decode cX3_document 25 = .ok (.bipush 60, 2) := by decide +kernel
theorem dX3_document_27 : decode cX3_document 27 = .ok (.if_icmp .eq 16, 3) := by decide +kernel
theorem dX3_document_30 : decode cX3_document 30 = .ok (.new 50, 3) := by decide +kernel
theorem dX3_document_33 : decode cX3_document 33 = .ok (.dup, 1) := by decide +kernel
theorem dX3_document_34 : decode cX3_document 34 = .ok (.iconst (-1), 1) := by decide +kernel
theorem dX3_document_35 : decode cX3_document 35 = .ok (.aload_n 0, 1) := by decide +kernel
theorem dX3_document_36 : decode cX3_document 36 = .ok (.invokevirtual 31, 3) := by decide +kernel
theorem dX3_document_39 : decode cX3_document 39 = .ok (.invokespecial 52, 3) := by decide +kernel
theorem dX3_document_42 : decode cX3_document 42 = .ok (.athrow, 1) := by decide +kernel
theorem dX3_document_43 : decode cX3_document 43 = .ok (.aload_n 0, 1) := by decide +kernel
theorem dX3_document_44 : decode cX3_document 44 = .ok (.aload_n 0, 1) := by decide +kernel
theorem dX3_document_45 : decode cX3_document 45 = .ok (.getfield 14, 3) := by decide +kernel
theorem dX3_document_48 : decode cX3_document 48 = .ok (.getfield 83, 3) := by decide +kernel
theorem dX3_document_51 : decode cX3_document 51 = .ok (.iconst 1, 1) := by decide +kernel
theorem dX3_document_52 : decode cX3_document 52 = .ok (.invokevirtual 87, 3) := by decide +kernel
theorem dX3_document_55 : decode cX3_document 55 = .ok (.aload_n 0, 1) := by decide +kernel
theorem dX3_document_56 : decode cX3_document 56 = .ok (.invokevirtual 75, 3) := by decide +kernel
theorem dX3_document_59 : decode cX3_document 59 = .ok (.aload_n 0, 1) := by decide +kernel
theorem dX3_document_60 : decode cX3_document 60 = .ok (.invokevirtual 35, 3) := by decide +kernel
theorem dX3_document_63 : decode cX3_document 63 = .ok (.ifCond .lt 16, 3) := by decide +kernel
theorem dX3_document_66 : decode cX3_document 66 = .ok (.new 50, 3) := by decide +kernel
theorem dX3_document_69 : decode cX3_document 69 = .ok (.dup, 1) := by decide +kernel
theorem dX3_document_70 : decode cX3_document 70 = .ok (.iconst (-1), 1) := by decide +kernel
theorem dX3_document_71 : decode cX3_document 71 = .ok (.aload_n 0, 1) := by decide +kernel
theorem dX3_document_72 : decode cX3_document 72 = .ok (.invokevirtual 31, 3) := by decide +kernel
theorem dX3_document_75 : decode cX3_document 75 = .ok (.invokespecial 52, 3) := by decide +kernel
theorem dX3_document_78 : decode cX3_document 78 = .ok (.athrow, 1) := by decide +kernel
theorem dX3_document_79 : decode cX3_document 79 = .ok (.aload_n 0, 1) := by decide +kernel
theorem dX3_document_80 : decode cX3_document 80 = .ok (.getfield 14, 3) := by decide +kernel
theorem dX3_document_83 : decode cX3_document 83 = .ok (.getfield 83, 3) := by decide +kernel
theorem dX3_document_86 : decode cX3_document 86 = .ok (.aload_n 0, 1) := by decide +kernel
theorem dX3_document_87 : decode cX3_document 87 = .ok (.getfield 14, 3) := by decide +kernel
theorem dX3_document_90 : decode cX3_document 90 = .ok (.getfield 91, 3) := by decide +kernel
theorem dX3_document_93 : decode cX3_document 93 = .ok (.invokevirtual 94, 3) := by decide +kernel
theorem dX3_document_96 : decode cX3_document 96 = .ok (.iconst 1, 1) := by decide +kernel
theorem dX3_document_97 : decode cX3_document 97 = .ok (.isub, 1) := by decide +kernel
theorem dX3_document_98 : decode cX3_document 98 = .ok (.putfield 97, 3) := by decide +kernel
theorem dX3_document_101 : decode cX3_document 101 = .ok (.aload_n 0, 1) := by decide +kernel
theorem dX3_document_102 : decode cX3_document 102 = .ok (.getfield 14, 3) := by decide +kernel
theorem dX3_document_105 : decode cX3_document 105 = .ok (.getfield 103, 3) := by decide +kernel
theorem dX3_document_108 : decode cX3_document 108 = .ok (.ifnull 14, 3) := by decide +kernel
theorem dX3_document_111 : decode cX3_document 111 = .ok (.aload_n 0, 1) := by decide +kernel
theorem dX3_document_112 : decode cX3_document 112 = .ok (.getfield 14, 3) := by decide +kernel
theorem dX3_document_115 : decode cX3_document 115 = .ok (.aload_n 0, 1) := by decide +kernel
theorem dX3_document_116 : decode cX3_document 116 = .ok (.getfield 23, 3) := by decide +kernel
theorem dX3_document_119 : decode cX3_document 119 = .ok (.invokevirtual 106, 3) := by decide +kernel
theorem dX3_document_122 : decode cX3_document 122 = .ok (.aload_n 0, 1) := by decide +kernel
theorem dX3_document_123 : decode cX3_document 123 = .ok (.getfield 14, 3) := by decide +kernel
theorem dX3_document_126 : decode cX3_document 126 = .ok (.areturn, 1) := by decide +kernel
def c_X3_document_21 (μ : MEM) (x0 : Int) : Option zc_O := ck (zt [3] (μ x0 (-1)) = true) (bc (c_X2_here μ x0) (fun r2 μ3 => if r2 = 60 then (ck (zt [3] (μ3 x0 (-1)) = true) (ck (zt [4] (μ3 (μ3 x0 3) (-1)) = true) (bc (fz_element 33 μ3 x0 (μ3 (μ3 x0 3) 0) 1) (fun _ μ7 => ck (zt [3] (μ7 x0 (-1)) = true) (bc (c_X3_misc μ7 x0) (fun _ μ9 => ck (zt [3] (μ9 x0 (-1)) = true) (bc (c_X2_here μ9 x0) (fun r11 μ12 => if r11 < 0 then (ck (zt [3] (μ12 x0 (-1)) = true) (ck (zt [4] (μ12 (μ12 x0 3) (-1)) = true) (ck (zt [40] (μ12 (μ12 (μ12 x0 3) 1) (-1)) = true) (bc (b_lsize μ12 (μ12 (μ12 x0 3) 1)) (fun r17 μ18 => ck (inR (r17 - 1)) (ck (zt [6, 11] (μ18 (μ12 (μ12 x0 3) 0) (-1)) = true) (nu (mup μ18 (μ12 (μ12 x0 3) 0) 3 (r17 - 1)) (fun μ22 => ck (zt [3] (μ22 x0 (-1)) = true) (ck (zt [4] (μ22 (μ22 x0 3) (-1)) = true) (if (μ22 (μ22 x0 3) 2) = 0 then (some (0, (μ22 x0 3), μ22)) else (bc (c_X4_judge μ22 (μ22 x0 3) (μ22 x0 4)) (fun _ μ26 => ck (zt [3] (μ26 x0 (-1)) = true) (some (0, (μ26 x0 3), μ26)))))))))))))) else (ck (1 ≤ μ12 0 1 ∧ (8 : Int) ≤ μ12 0 2) (nu (mnew μ12 22 0 8) (fun μ28 => ck (zt [3] (μ28 x0 (-1)) = true) (bc (c_X2_place μ28 x0) (fun r31 μ32 => ck (zt [22] (μ32 (μ12 0 0) (-1)) = true) (bc (b_finit μ32 (μ12 0 0) (-1) r31) (fun _ μ35 => ck (0 < (μ12 0 0)) (some (1, (μ12 0 0), μ35))))))))))))))))) else (ck (1 ≤ μ3 0 1 ∧ (8 : Int) ≤ μ3 0 2) (nu (mnew μ3 22 0 8) (fun μ36 => ck (zt [3] (μ36 x0 (-1)) = true) (bc (c_X2_place μ36 x0) (fun r39 μ40 => ck (zt [22] (μ40 (μ3 0 0) (-1)) = true) (bc (b_finit μ40 (μ3 0 0) (-1) r39) (fun _ μ43 => ck (0 < (μ3 0 0)) (some (1, (μ3 0 0), μ43)))))))))))
theorem u_X3_document_21 {C : zv_Cx zc_O} {G : zc_G} {μ0 : MEM} (h : zv_Ok C cX3_document "TreePress$Parser") (hc : zc_C C G μ0 1 (Option.some (FieldType.object "TreePress$Document")) 4 375 8346 "document" []) (μ : MEM) (x0 : Int) : VV C (c_X3_document_21 μ x0) μ [(0, zc_rv G x0)] [] 21 := by
  have hN : ∀ i, i < 1 → i < zv_n C := fun i q => by rw [hc.2.1]; exact q
  unfold c_X3_document_21
  refine c_aload_n (x := x0) h 0 dX3_document_21 rfl rfl ?_
  refine r_ck (fun ht1 => ?_)
  refine c_callU (x := x0) (xm := ⟨"TreePress$Parser", "here", "()I"⟩) (owner := "TreePress$Reader") h hc (As := []) (fun o1 e1 => u_X2_here _ x0 o1 e1) [3] ht1 (by decide) q489 q490 (va_Decl.of (h.2.2.2.2 _ q493) (h.2.2.2.2 _ q494)) ⟨by decide, by decide⟩ q493 (fun t ht => by cases List.mem_singleton.mp ht; exact q492) q494 q137 (by omega) (by omega) zc_s0 (by omega) (fun z hz => by cases hz) (n := 0) (by decide +kernel) rfl rfl dX3_document_22 (fun r2 μ3 hr4 => r_k1 ?_)
  refine r_bipush h dX3_document_25 (by decide) ?_
  refine r_icmp_eq (x := r2) (y := 60) h hr4 (by decide) 43 dX3_document_27 rfl ?_ ?_
  · refine c_aload_n (x := x0) h 0 dX3_document_43 rfl rfl ?_
    refine c_aload_n (x := x0) h 0 dX3_document_44 rfl rfl ?_
    refine r_ck (fun ht5 => ?_)
    refine c_getR (fin := true) h hc [3] 3 (zc_lk1 h q446) ht5 (by decide) dX3_document_45 ?_
    refine r_ck (fun ht6 => ?_)
    refine c_getR (fin := true) h hc [4] 0 (zc_lk3 hc (O := "TreePress$Document") (n := "root") (ds := "LTreePress$Parent;") (host := "TreePress") (by decide)) ht6 (by decide) dX3_document_48 ?_
    refine r_iconst h dX3_document_51 ?_
    refine c_callV (x := x0) h hc (As := [zc_rv G (μ3 (μ3 x0 3) 0), iv 1]) (fun o1 e1 => fm_element 33 _ x0 (μ3 (μ3 x0 3) 0) 1 (by decide) o1 e1) [3] ht5 (by decide) q910 q912 (fun t ht => by cases List.mem_singleton.mp ht; exact qs25) q913 q138 (by omega) (by omega) zc_s0 (by omega) (fun z hz => by cases hz) ⟨by decide, by decide⟩ (n := 2) (by decide +kernel) rfl rfl dX3_document_52 (fun _ μ7 _ => r_k0 ?_)
    refine c_aload_n (x := x0) h 0 dX3_document_55 rfl rfl ?_
    refine r_ck (fun ht8 => ?_)
    refine c_callV (x := x0) h hc (As := []) (fun o1 e1 => u_X3_misc _ x0 o1 e1) [3] ht8 (by decide) q475 q477 (fun t ht => by cases List.mem_singleton.mp ht; exact qs4) q478 q138 (by omega) (by omega) zc_s0 (by omega) (fun z hz => by cases hz) ⟨by decide, by decide⟩ (n := 0) (by decide +kernel) rfl rfl dX3_document_56 (fun _ μ9 _ => r_k0 ?_)
    refine c_aload_n (x := x0) h 0 dX3_document_59 rfl rfl ?_
    refine r_ck (fun ht10 => ?_)
    refine c_callU (x := x0) (xm := ⟨"TreePress$Parser", "here", "()I"⟩) (owner := "TreePress$Reader") h hc (As := []) (fun o1 e1 => u_X2_here _ x0 o1 e1) [3] ht10 (by decide) q489 q490 (va_Decl.of (h.2.2.2.2 _ q493) (h.2.2.2.2 _ q494)) ⟨by decide, by decide⟩ q493 (fun t ht => by cases List.mem_singleton.mp ht; exact q492) q494 q137 (by omega) (by omega) zc_s0 (by omega) (fun z hz => by cases hz) (n := 0) (by decide +kernel) rfl rfl dX3_document_60 (fun r11 μ12 hr13 => r_k1 ?_)
    refine r_if_lt (x := r11) h hr13 79 dX3_document_63 rfl ?_ ?_
    · refine c_aload_n (x := x0) h 0 dX3_document_79 rfl rfl ?_
      refine r_ck (fun ht14 => ?_)
      refine c_getR (fin := true) h hc [3] 3 (zc_lk1 h q446) ht14 (by decide) dX3_document_80 ?_
      refine r_ck (fun ht15 => ?_)
      refine c_getR (fin := true) h hc [4] 0 (zc_lk3 hc (O := "TreePress$Document") (n := "root") (ds := "LTreePress$Parent;") (host := "TreePress") (by decide)) ht15 (by decide) dX3_document_83 ?_
      refine c_aload_n (x := x0) h 0 dX3_document_86 rfl rfl ?_
      refine c_getR (fin := true) h hc [3] 3 (zc_lk1 h q446) ht14 (by decide) dX3_document_87 ?_
      refine c_getR (fin := true) h hc [4] 1 (zc_lk3 hc (O := "TreePress$Document") (n := "nodes") (ds := "Ljava/util/ArrayList;") (host := "TreePress") (by decide)) ht15 (by decide) dX3_document_90 ?_
      refine r_ck (fun ht16 => ?_)
      refine c_callV (x := (μ12 (μ12 x0 3) 1)) h hc (As := []) (fun o1 e1 => w_lsize _ (μ12 (μ12 x0 3) 1) o1 e1) [40] ht16 (by decide) q695 q343 (fun t ht => by cases List.mem_singleton.mp ht; exact q344) q345 q135 (by omega) (by omega) (zc_sc (zc_rv_cat G _) zc_s0) (by omega) (fun z hz => by cases hz) ⟨by decide, by decide⟩ (n := 0) (by decide +kernel) rfl rfl dX3_document_93 (fun r17 μ18 hr19 => r_k1 ?_)
      refine r_iconst h dX3_document_96 ?_
      refine r_isub h dX3_document_97 ?_
      refine r_ck (fun hk20 => ?_)
      refine r_ck (fun ht21 => ?_)
      refine c_putI (x := (μ12 (μ12 x0 3) 0)) (y := (r17 - 1)) h hc [6, 11] 3 false (zc_lk1 h q315) ht21 (by decide) (Or.inl rfl) hk20 dX3_document_98 (fun μ22 he23 => ?_)
      refine c_aload_n (x := x0) h 0 dX3_document_101 rfl rfl ?_
      refine r_ck (fun ht24 => ?_)
      refine c_getR (fin := true) h hc [3] 3 (zc_lk1 h q446) ht24 (by decide) dX3_document_102 ?_
      refine r_ck (fun ht25 => ?_)
      refine c_getR (fin := false) h hc [4] 2 (zc_lk3 hc (O := "TreePress$Document") (n := "type") (ds := "[B") (host := "TreePress") (by decide)) ht25 (by decide) dX3_document_105 ?_
      refine c_ifnull (x := (μ22 (μ22 x0 3) 2)) h 122 dX3_document_108 rfl ?_ ?_
      · refine c_aload_n (x := x0) h 0 dX3_document_122 rfl rfl ?_
        refine c_getR (fin := true) h hc [3] 3 (zc_lk1 h q446) ht24 (by decide) dX3_document_123 ?_
        exact c_aret h hc rfl (Or.inl ⟨_, rfl⟩) dX3_document_126
      · refine c_aload_n (x := x0) h 0 dX3_document_111 rfl rfl ?_
        refine c_getR (fin := true) h hc [3] 3 (zc_lk1 h q446) ht24 (by decide) dX3_document_112 ?_
        refine c_aload_n (x := x0) h 0 dX3_document_115 rfl rfl ?_
        refine c_getR (fin := true) h hc [3] 4 (zc_lk1 h q447) ht24 (by decide) dX3_document_116 ?_
        refine c_callV (x := (μ22 x0 3)) h hc (As := [zc_rv G (μ22 x0 4)]) (fun o1 e1 => u_X4_judge _ (μ22 x0 3) (μ22 x0 4) o1 e1) [4] ht25 (by decide) q1017 q1018 (fun t ht => by cases List.mem_singleton.mp ht; exact q1019) q1020 q140 (by omega) (by omega) zc_s0 (by omega) (fun z hz => by cases hz) ⟨by decide, by decide⟩ (n := 1) (by decide +kernel) rfl rfl dX3_document_119 (fun _ μ26 _ => r_k0 ?_)
        refine c_aload_n (x := x0) h 0 dX3_document_122 rfl rfl ?_
        refine r_ck (fun ht27 => ?_)
        refine c_getR (fin := true) h hc [3] 3 (zc_lk1 h q446) ht27 (by decide) dX3_document_123 ?_
        exact c_aret h hc rfl (Or.inl ⟨_, rfl⟩) dX3_document_126
    · refine c_newF h hc q650 q577 q153 dX3_document_66 (fun _ μ28 he29 => ?_)
      refine r_dup h dX3_document_69 (zc_rv_cat G _) ?_
      refine r_iconst h dX3_document_70 ?_
      refine c_aload_n (x := x0) h 0 dX3_document_71 rfl rfl ?_
      refine r_ck (fun ht30 => ?_)
      refine c_callU (x := x0) (xm := ⟨"TreePress$Parser", "place", "()I"⟩) (owner := "TreePress$Reader") h hc (As := []) (fun o1 e1 => u_X2_place _ x0 o1 e1) [3] ht30 (by decide) q483 q484 (va_Decl.of (h.2.2.2.2 _ q487) (h.2.2.2.2 _ q488)) ⟨by decide, by decide⟩ q487 (fun t ht => by cases List.mem_singleton.mp ht; exact q486) q488 q137 (by omega) (by omega) (zc_sc (iv_cat _) (zc_sc (zc_rv_cat G _) (zc_sc (zc_rv_cat G _) zc_s0))) (by omega) (fun z hz => by cases hz) (n := 0) (by decide +kernel) rfl rfl dX3_document_72 (fun r31 μ32 hr33 => r_k1 ?_)
      refine r_ck (fun ht34 => ?_)
      refine c_callI (x := (μ12 0 0)) h hc (As := [iv (-1), iv r31]) (fun o1 e1 => w_finit _ (μ12 0 0) (-1) r31 (by decide) hr33 o1 e1) [22] ht34 (by decide) q651 q616 rfl q617 q153 (by omega) (by omega) (zc_sc (zc_rv_cat G _) zc_s0) (by omega) (fun z hz => by cases hz) ⟨by decide, by decide⟩ (n := 2) (by decide +kernel) rfl rfl dX3_document_75 (fun _ μ35 _ => r_k0 ?_)
      exact c_athrow h hc (fun z hz => by cases hz) dX3_document_78
  · refine c_newF h hc q650 q577 q153 dX3_document_30 (fun _ μ36 he37 => ?_)
    refine r_dup h dX3_document_33 (zc_rv_cat G _) ?_
    refine r_iconst h dX3_document_34 ?_
    refine c_aload_n (x := x0) h 0 dX3_document_35 rfl rfl ?_
    refine r_ck (fun ht38 => ?_)
    refine c_callU (x := x0) (xm := ⟨"TreePress$Parser", "place", "()I"⟩) (owner := "TreePress$Reader") h hc (As := []) (fun o1 e1 => u_X2_place _ x0 o1 e1) [3] ht38 (by decide) q483 q484 (va_Decl.of (h.2.2.2.2 _ q487) (h.2.2.2.2 _ q488)) ⟨by decide, by decide⟩ q487 (fun t ht => by cases List.mem_singleton.mp ht; exact q486) q488 q137 (by omega) (by omega) (zc_sc (iv_cat _) (zc_sc (zc_rv_cat G _) (zc_sc (zc_rv_cat G _) zc_s0))) (by omega) (fun z hz => by cases hz) (n := 0) (by decide +kernel) rfl rfl dX3_document_36 (fun r39 μ40 hr41 => r_k1 ?_)
    refine r_ck (fun ht42 => ?_)
    refine c_callI (x := (μ3 0 0)) h hc (As := [iv (-1), iv r39]) (fun o1 e1 => w_finit _ (μ3 0 0) (-1) r39 (by decide) hr41 o1 e1) [22] ht42 (by decide) q651 q616 rfl q617 q153 (by omega) (by omega) (zc_sc (zc_rv_cat G _) zc_s0) (by omega) (fun z hz => by cases hz) ⟨by decide, by decide⟩ (n := 2) (by decide +kernel) rfl rfl dX3_document_39 (fun _ μ43 _ => r_k0 ?_)
    exact c_athrow h hc (fun z hz => by cases hz) dX3_document_42
def c_X3_document (μ : MEM) (a0 : Int) : Option zc_O := ck (zt [3] (μ a0 (-1)) = true) (bc (c_X3_misc μ a0) (fun _ μ2 => ck (zt [3] (μ2 a0 (-1)) = true) (bc (c_X2_isAt μ2 a0 (-4)) (fun r4 μ5 => if r4 = 0 then (c_X3_document_21 μ5 a0) else (ck (zt [3] (μ5 a0 (-1)) = true) (bc (c_X3_doctype μ5 a0) (fun _ μ8 => ck (zt [3] (μ8 a0 (-1)) = true) (bc (c_X3_misc μ8 a0) (fun _ μ10 => c_X3_document_21 μ10 a0)))))))))
theorem u_X3_document {G : zc_G} (μ : MEM) (a0 : Int) (o : zc_O) (hd : c_X3_document μ a0 = some o) : zc_Met G yX3_document cX3_document 1 (Option.some (FieldType.object "TreePress$Document")) 4 375 8346 μ [zc_rv G a0] o := by
  refine zc_intro hd (by decide) (by simp [lg_sl, zc_rv_cat, iv_cat, jv_cat]) (lv := [(0, zc_rv G a0)]) (by simp [lv_args, zc_rv_cat, iv_cat, jv_cat]) (fun C h hc => ?_)
  have h : zv_Ok C cX3_document "TreePress$Parser" := h
  have hc : zc_C C G μ 1 (Option.some (FieldType.object "TreePress$Document")) 4 375 8346 "document" [] := hc
  have hN : ∀ i, i < 1 → i < zv_n C := fun i q => by rw [hc.2.1]; exact q
  unfold c_X3_document
  refine c_aload_n (x := a0) h 0 dX3_document_0 rfl rfl ?_
  refine r_ck (fun ht1 => ?_)
  refine c_callV (x := a0) h hc (As := []) (fun o1 e1 => u_X3_misc _ a0 o1 e1) [3] ht1 (by decide) q475 q477 (fun t ht => by cases List.mem_singleton.mp ht; exact qs4) q478 q138 (by omega) (by omega) zc_s0 (by omega) (fun z hz => by cases hz) ⟨by decide, by decide⟩ (n := 0) (by decide +kernel) rfl rfl dX3_document_1 (fun _ μ2 _ => r_k0 ?_)
  refine c_aload_n (x := a0) h 0 dX3_document_4 rfl rfl ?_
  refine c_ldcs (tx := "<!DOCTYPE") h hc 4 (by decide) (-4) rfl (by decide) dX3_document_5 ?_
  refine r_ck (fun ht3 => ?_)
  refine c_callU (x := a0) (xm := ⟨"TreePress$Parser", "isAt", "(Ljava/lang/String;)Z"⟩) (owner := "TreePress$Reader") h hc (As := [zc_rv G (-4)]) (fun o1 e1 => u_X2_isAt _ a0 (-4) o1 e1) [3] ht3 (by decide) q505 q506 (va_Decl.of (h.2.2.2.2 _ q509) (h.2.2.2.2 _ q510)) ⟨by decide, by decide⟩ q509 (fun t ht => by cases List.mem_singleton.mp ht; exact q508) q510 q137 (by omega) (by omega) zc_s0 (by omega) (fun z hz => by cases hz) (n := 1) (by decide +kernel) rfl rfl dX3_document_7 (fun r4 μ5 hr6 => r_k3 ?_)
  refine r_if_eq (x := r4) h hr6.r 21 dX3_document_10 rfl ?_ ?_
  · exact r_lv [0] rfl (u_X3_document_21 h hc _ a0)
  · refine c_aload_n (x := a0) h 0 dX3_document_13 rfl rfl ?_
    refine r_ck (fun ht7 => ?_)
    refine c_callV (x := a0) h hc (As := []) (fun o1 e1 => u_X3_doctype _ a0 o1 e1) [3] ht7 (by decide) q654 q656 (fun t ht => by cases List.mem_singleton.mp ht; exact qs8) q657 q138 (by omega) (by omega) zc_s0 (by omega) (fun z hz => by cases hz) ⟨by decide, by decide⟩ (n := 0) (by decide +kernel) rfl rfl dX3_document_14 (fun _ μ8 _ => r_k0 ?_)
    refine c_aload_n (x := a0) h 0 dX3_document_17 rfl rfl ?_
    refine r_ck (fun ht9 => ?_)
    refine c_callV (x := a0) h hc (As := []) (fun o1 e1 => u_X3_misc _ a0 o1 e1) [3] ht9 (by decide) q475 q477 (fun t ht => by cases List.mem_singleton.mp ht; exact qs4) q478 q138 (by omega) (by omega) zc_s0 (by omega) (fun z hz => by cases hz) ⟨by decide, by decide⟩ (n := 0) (by decide +kernel) rfl rfl dX3_document_18 (fun _ μ10 _ => r_k0 ?_)
    exact r_lv [0] rfl (u_X3_document_21 h hc _ a0)
