set_option maxRecDepth 100000
set_option maxHeartbeats 4000000 in
set_option maxRecDepth 100000 in
theorem m_beatClause {l : Launch} {D : va_G} {cI : ClassId} {B : Nat → Nat} {A : Nat → Prop} {M : St} (hI : InvM M) {k : Int} (g_k : 0 ≤ k ∧ k ≤ 42) : Met l yX6_beatClause (ws_ yX6_beatClause cX6_beatClause 2 none) (rmk 4 0 0) (va_Pc [.ref (B 0), .int (iv k)] (mUS D cI A (mW cI B M))) (va_Qv (fun M1 => M1 = rM M (bA6 (M 9) (M 10 0) (M 11 0) (M 12 0)) (bW6 (M 9) (M 10 0) (M 11 0) (M 12 0)) (bRow (M 9) (M 10 0) (M 13) k (M 11 0) (M 12 0)) ∧ InvM M1) (mB D cI B A) A) 0 0 A := by
  refine r_met (by decide) _ rfl (Nat.le_of_ble_eq_true rfl) ?_
  intro p e s m args below meth c Q ls hx hb hr hlk hml hown hts hpre hQ hl
  obtain ⟨hP, hD, hK⟩ := hpre
  have hS : va_S A s.heap s.heap [] := va_S.rf
  have hown : s.vm.findClass RX6 = some m.cls := hown
  have hl : lv_has ls 2 [(0, .ref (B 0)), (1, .int (iv (k)))] := hl
  refine lv_aload_n hx hb dX6_beatClause_0 rfl (lv_at hl 0 rfl) ?_
  refine mg_13 hx hb hts hown hK hP dX6_beatClause_1 ?_
  refine lv_iload_n hx hb dX6_beatClause_4 rfl (lv_at hl 1 rfl) ?_
  refine lv_aload_n hx hb dX6_beatClause_5 rfl (lv_at hl 0 rfl) ?_
  refine r_bipush hx hb (by decide) dX6_beatClause_6 ?_
  refine m_cI ⟨hx, hb, hml, hown, hts⟩ (m_number hI (high := 15) (by decide)) (cwV 1 hts (lw_V q1188 q1190 qs33 q60 q1191) rfl rfl rfl hdV_X6_number ⟨Nat.le_of_ble_eq_true rfl, Nat.le_of_ble_eq_true rfl⟩) hK hP hD hS rfl hl.1 rfl (Nat.le_of_ble_eq_true rfl) ⟨Nat.le_of_ble_eq_true rfl, Nat.le_of_ble_eq_true rfl⟩ dX6_beatClause_8 (fun r_2 M_1 H locs hq hP hD hS => ?_)
  obtain ⟨er_2, eM_1, hIM_1⟩ := hq
  subst er_2
  have f_3 := numW_01 (M 9) (M 10 0) (15 : Int) (M 11 0) (M 12 0)
  have f_4 := numV_r (M 9) (M 10 0) (M 11 0) (M 12 0)
  refine m_ast hx hb hK hP hD hS 13 (n := 48) rfl (by decide) (by omega) dX6_beatClause_11 (fun M_5 eM_5 H locs hP hD hS => ?_)
  have hIM_5 : InvM M_5 := iMs_13 hIM_1 eM_5 (by omega)
  refine lv_aload_n hx hb dX6_beatClause_12 rfl (lv_at hl 0 rfl) ?_
  refine lv_aload_n hx hb dX6_beatClause_13 rfl (lv_at hl 0 rfl) ?_
  refine r_bipush hx hb (by decide) dX6_beatClause_14 ?_
  refine m_cI ⟨hx, hb, hml, hown, hts⟩ (m_has hIM_5 (ch_ := 58) (by decide)) (cwV 1 hts (lw_V q1198 q1200 qs35 q60 q1201) rfl rfl rfl hdV_X6_has ⟨Nat.le_of_ble_eq_true rfl, Nat.le_of_ble_eq_true rfl⟩) hK hP hD hS rfl hl.1 rfl (Nat.le_of_ble_eq_true rfl) ⟨Nat.le_of_ble_eq_true rfl, Nat.le_of_ble_eq_true rfl⟩ dX6_beatClause_16 (fun r_7 M_6 H locs hq hP hD hS => ?_)
  obtain ⟨er_7, eM_6, hIM_6⟩ := hq
  have q9 := ((show M_5 9 = M_1 9 from by rw [eM_5]; exact upd2_k (by decide))).trans (show M_1 9 = M 9 from pM_x eM_1 9 (by decide))
  have q10 := congrFun (((show M_5 10 = M_1 10 from by rw [eM_5]; exact upd2_k (by decide))).trans (show M_1 10 = M 10 from pM_x eM_1 10 (by decide))) 0
  have q11 := ((show M_5 11 0 = M_1 11 0 from by rw [eM_5]; exact congrFun (upd2_k (by decide)) 0)).trans (pM_11 eM_1)
  have q12 := ((show M_5 12 0 = M_1 12 0 from by rw [eM_5]; exact congrFun (upd2_k (by decide)) 0)).trans (pM_12 eM_1)
  simp only [q9, q10, q11, q12] at er_7
  simp only [q9, q10, q11, q12] at eM_6
  subst er_7
  have f_8 := hasR_01 (M 9) (M 10 0) (58 : Int) (skV (M 9) (M 10 0) (numA (M 9) (M 10 0) (15 : Int) (M 11 0) (M 12 0))) (numW (M 9) (M 10 0) (15 : Int) (M 11 0) (M 12 0))
  have J_27 : ∀ (v27 : Int) (M27 : St) (H : Heap) (locs : List Loc) (ls : Array Slot), v27 = bW1 (M 9) (M 10 0) (M 11 0) (M 12 0) → M27 = rM M (bA1 (M 9) (M 10 0) (M 11 0) (M 12 0)) (numW (M 9) (M 10 0) 15 (M 11 0) (M 12 0)) ((fset (M 13) k (numV (M 9) (M 10 0) (M 11 0) (M 12 0)))) → InvM M27 → wP D vwCl (mW cI B M27) H → wD A (mW cI B M27) → va_S A s.heap H locs → lv_has ls 2 [(0, .ref (B 0)), (1, .int (iv (k)))] → W p l e (rmk 4 0 0) s m args below meth c H locs 0 0 Q (F0 m 27 ls [.int (iv (v27)), .ref (B 0)]) := by
    intro v27 M27 H locs ls ev27 eM27 hIM27 hP hD hS hl
    subst ev27
    have f_9 := bW1_01 (M 9) (M 10 0) (M 11 0) (M 12 0)
    refine mp_12 hx hb hts hown hK hP hD hS (by omega) dX6_beatClause_27 (fun M_10 eM_10 H locs hP hD hS => ?_)
    have hIM_10 : InvM M_10 := iMs_12 hIM27 eM_10 (by omega)
    refine lv_aload_n hx hb dX6_beatClause_30 rfl (lv_at hl 0 rfl) ?_
    refine mg_13 hx hb hts hown hK hP dX6_beatClause_31 ?_
    refine lv_iload_n hx hb dX6_beatClause_34 rfl (lv_at hl 1 rfl) ?_
    refine r_iconst hx hb dX6_beatClause_35 ?_
    refine r_iadd hx hb dX6_beatClause_36 ?_
    refine lv_aload_n hx hb dX6_beatClause_37 rfl (lv_at hl 0 rfl) ?_
    refine r_bipush hx hb (by decide) dX6_beatClause_38 ?_
    refine m_cI ⟨hx, hb, hml, hown, hts⟩ (m_has hIM_10 (ch_ := 109) (by decide)) (cwV 1 hts (lw_V q1198 q1200 qs35 q60 q1201) rfl rfl rfl hdV_X6_has ⟨Nat.le_of_ble_eq_true rfl, Nat.le_of_ble_eq_true rfl⟩) hK hP hD hS rfl hl.1 rfl (Nat.le_of_ble_eq_true rfl) ⟨Nat.le_of_ble_eq_true rfl, Nat.le_of_ble_eq_true rfl⟩ dX6_beatClause_40 (fun r_12 M_11 H locs hq hP hD hS => ?_)
    obtain ⟨er_12, eM_11, hIM_11⟩ := hq
    have q9 := ((show M_10 9 = M27 9 from by rw [eM_10]; exact upd2_k (by decide))).trans (show M27 9 = M 9 from rM_x eM27 9 (by decide))
    have q10 := congrFun (((show M_10 10 = M27 10 from by rw [eM_10]; exact upd2_k (by decide))).trans (show M27 10 = M 10 from rM_x eM27 10 (by decide))) 0
    have q11 := ((show M_10 11 0 = M27 11 0 from by rw [eM_10]; exact congrFun (upd2_k (by decide)) 0)).trans (rM_11 eM27)
    have q12 := (show M_10 12 0 = bW1 (M 9) (M 10 0) (M 11 0) (M 12 0) from by rw [eM_10]; exact upd2_e)
    simp only [q9, q10, q11, q12] at er_12
    simp only [q9, q10, q11, q12] at eM_11
    subst er_12
    have f_13 := hasR_01 (M 9) (M 10 0) (109 : Int) (skV (M 9) (M 10 0) (bA1 (M 9) (M 10 0) (M 11 0) (M 12 0))) (bW1 (M 9) (M 10 0) (M 11 0) (M 12 0))
    have J_54 : ∀ (v54 : Int) (M54 : St) (H : Heap) (locs : List Loc) (ls : Array Slot), v54 = bV1 (M 9) (M 10 0) (M 11 0) (M 12 0) → M54 = rM M (bA2 (M 9) (M 10 0) (M 11 0) (M 12 0)) (bW2 (M 9) (M 10 0) (M 11 0) (M 12 0)) ((fset (M 13) k (numV (M 9) (M 10 0) (M 11 0) (M 12 0)))) → InvM M54 → wP D vwCl (mW cI B M54) H → wD A (mW cI B M54) → va_S A s.heap H locs → lv_has ls 2 [(0, .ref (B 0)), (1, .int (iv (k)))] → W p l e (rmk 4 0 0) s m args below meth c H locs 0 0 Q (F0 m 54 ls [.int (iv (v54)), .int (iv (k + 1)), .ref (B 14)]) := by
      intro v54 M54 H locs ls ev54 eM54 hIM54 hP hD hS hl
      subst ev54
      have f_14 := (show 0 ≤ bV1 (M 9) (M 10 0) (M 11 0) (M 12 0) ∧ bV1 (M 9) (M 10 0) (M 11 0) (M 12 0) ≤ 39 from obV_r _ _ _ _ _)
      refine m_ast hx hb hK hP hD hS 13 (n := 48) rfl (by decide) (by omega) dX6_beatClause_54 (fun M_15 eM_15 H locs hP hD hS => ?_)
      have hIM_15 : InvM M_15 := iMs_13 hIM54 eM_15 (by omega)
      refine lv_aload_n hx hb dX6_beatClause_55 rfl (lv_at hl 0 rfl) ?_
      refine mg_13 hx hb hts hown hK hP dX6_beatClause_56 ?_
      refine lv_iload_n hx hb dX6_beatClause_59 rfl (lv_at hl 1 rfl) ?_
      refine r_iconst hx hb dX6_beatClause_60 ?_
      refine r_iadd hx hb dX6_beatClause_61 ?_
      refine lv_aload_n hx hb dX6_beatClause_62 rfl (lv_at hl 0 rfl) ?_
      refine r_bipush hx hb (by decide) dX6_beatClause_63 ?_
      refine m_cI ⟨hx, hb, hml, hown, hts⟩ (m_has hIM_15 (ch_ := 108) (by decide)) (cwV 1 hts (lw_V q1198 q1200 qs35 q60 q1201) rfl rfl rfl hdV_X6_has ⟨Nat.le_of_ble_eq_true rfl, Nat.le_of_ble_eq_true rfl⟩) hK hP hD hS rfl hl.1 rfl (Nat.le_of_ble_eq_true rfl) ⟨Nat.le_of_ble_eq_true rfl, Nat.le_of_ble_eq_true rfl⟩ dX6_beatClause_65 (fun r_17 M_16 H locs hq hP hD hS => ?_)
      obtain ⟨er_17, eM_16, hIM_16⟩ := hq
      have q9 := ((show M_15 9 = M54 9 from by rw [eM_15]; exact upd2_k (by decide))).trans (show M54 9 = M 9 from rM_x eM54 9 (by decide))
      have q10 := congrFun (((show M_15 10 = M54 10 from by rw [eM_15]; exact upd2_k (by decide))).trans (show M54 10 = M 10 from rM_x eM54 10 (by decide))) 0
      have q11 := ((show M_15 11 0 = M54 11 0 from by rw [eM_15]; exact congrFun (upd2_k (by decide)) 0)).trans (rM_11 eM54)
      have q12 := ((show M_15 12 0 = M54 12 0 from by rw [eM_15]; exact congrFun (upd2_k (by decide)) 0)).trans (rM_12 eM54)
      simp only [q9, q10, q11, q12] at er_17
      simp only [q9, q10, q11, q12] at eM_16
      subst er_17
      have f_18 := hasR_01 (M 9) (M 10 0) (108 : Int) (skV (M 9) (M 10 0) (bA2 (M 9) (M 10 0) (M 11 0) (M 12 0))) (bW2 (M 9) (M 10 0) (M 11 0) (M 12 0))
      have J_81 : ∀ (v81 : Int) (M81 : St) (H : Heap) (locs : List Loc) (ls : Array Slot), v81 = bV2 (M 9) (M 10 0) (M 11 0) (M 12 0) → M81 = rM M (bA3 (M 9) (M 10 0) (M 11 0) (M 12 0)) (bW3 (M 9) (M 10 0) (M 11 0) (M 12 0)) ((fset (fset (M 13) k (numV (M 9) (M 10 0) (M 11 0) (M 12 0))) (k + 1) (bV1 (M 9) (M 10 0) (M 11 0) (M 12 0)))) → InvM M81 → wP D vwCl (mW cI B M81) H → wD A (mW cI B M81) → va_S A s.heap H locs → lv_has ls 2 [(0, .ref (B 0)), (1, .int (iv (k)))] → W p l e (rmk 4 0 0) s m args below meth c H locs 0 0 Q (F0 m 81 ls [.int (iv (v81)), .int (iv (k + 2)), .ref (B 14)]) := by
        intro v81 M81 H locs ls ev81 eM81 hIM81 hP hD hS hl
        subst ev81
        have f_19 := (show -1 ≤ bV2 (M 9) (M 10 0) (M 11 0) (M 12 0) ∧ bV2 (M 9) (M 10 0) (M 11 0) (M 12 0) ≤ 3 from odV_r _ _ _ _ _)
        refine m_ast hx hb hK hP hD hS 13 (n := 48) rfl (by decide) (by omega) dX6_beatClause_81 (fun M_20 eM_20 H locs hP hD hS => ?_)
        have hIM_20 : InvM M_20 := iMs_13 hIM81 eM_20 (by omega)
        refine lv_aload_n hx hb dX6_beatClause_82 rfl (lv_at hl 0 rfl) ?_
        refine mg_13 hx hb hts hown hK hP dX6_beatClause_83 ?_
        refine lv_iload_n hx hb dX6_beatClause_86 rfl (lv_at hl 1 rfl) ?_
        refine r_iconst hx hb dX6_beatClause_87 ?_
        refine r_iadd hx hb dX6_beatClause_88 ?_
        refine lv_aload_n hx hb dX6_beatClause_89 rfl (lv_at hl 0 rfl) ?_
        refine r_bipush hx hb (by decide) dX6_beatClause_90 ?_
        refine m_cI ⟨hx, hb, hml, hown, hts⟩ (m_has hIM_20 (ch_ := 110) (by decide)) (cwV 1 hts (lw_V q1198 q1200 qs35 q60 q1201) rfl rfl rfl hdV_X6_has ⟨Nat.le_of_ble_eq_true rfl, Nat.le_of_ble_eq_true rfl⟩) hK hP hD hS rfl hl.1 rfl (Nat.le_of_ble_eq_true rfl) ⟨Nat.le_of_ble_eq_true rfl, Nat.le_of_ble_eq_true rfl⟩ dX6_beatClause_92 (fun r_22 M_21 H locs hq hP hD hS => ?_)
        obtain ⟨er_22, eM_21, hIM_21⟩ := hq
        have q9 := ((show M_20 9 = M81 9 from by rw [eM_20]; exact upd2_k (by decide))).trans (show M81 9 = M 9 from rM_x eM81 9 (by decide))
        have q10 := congrFun (((show M_20 10 = M81 10 from by rw [eM_20]; exact upd2_k (by decide))).trans (show M81 10 = M 10 from rM_x eM81 10 (by decide))) 0
        have q11 := ((show M_20 11 0 = M81 11 0 from by rw [eM_20]; exact congrFun (upd2_k (by decide)) 0)).trans (rM_11 eM81)
        have q12 := ((show M_20 12 0 = M81 12 0 from by rw [eM_20]; exact congrFun (upd2_k (by decide)) 0)).trans (rM_12 eM81)
        simp only [q9, q10, q11, q12] at er_22
        simp only [q9, q10, q11, q12] at eM_21
        subst er_22
        have f_23 := hasR_01 (M 9) (M 10 0) (110 : Int) (skV (M 9) (M 10 0) (bA3 (M 9) (M 10 0) (M 11 0) (M 12 0))) (bW3 (M 9) (M 10 0) (M 11 0) (M 12 0))
        have J_108 : ∀ (v108 : Int) (M108 : St) (H : Heap) (locs : List Loc) (ls : Array Slot), v108 = bV3 (M 9) (M 10 0) (M 11 0) (M 12 0) → M108 = rM M (bA4 (M 9) (M 10 0) (M 11 0) (M 12 0)) (bW4 (M 9) (M 10 0) (M 11 0) (M 12 0)) ((fset (fset (fset (M 13) k (numV (M 9) (M 10 0) (M 11 0) (M 12 0))) (k + 1) (bV1 (M 9) (M 10 0) (M 11 0) (M 12 0))) (k + 2) (bV2 (M 9) (M 10 0) (M 11 0) (M 12 0)))) → InvM M108 → wP D vwCl (mW cI B M108) H → wD A (mW cI B M108) → va_S A s.heap H locs → lv_has ls 2 [(0, .ref (B 0)), (1, .int (iv (k)))] → W p l e (rmk 4 0 0) s m args below meth c H locs 0 0 Q (F0 m 108 ls [.int (iv (v108)), .int (iv (k + 3)), .ref (B 14)]) := by
          intro v108 M108 H locs ls ev108 eM108 hIM108 hP hD hS hl
          subst ev108
          have f_24 := (show -1 ≤ bV3 (M 9) (M 10 0) (M 11 0) (M 12 0) ∧ bV3 (M 9) (M 10 0) (M 11 0) (M 12 0) ≤ 3 from odV_r _ _ _ _ _)
          refine m_ast hx hb hK hP hD hS 13 (n := 48) rfl (by decide) (by omega) dX6_beatClause_108 (fun M_25 eM_25 H locs hP hD hS => ?_)
          have hIM_25 : InvM M_25 := iMs_13 hIM108 eM_25 (by omega)
          refine lv_aload_n hx hb dX6_beatClause_109 rfl (lv_at hl 0 rfl) ?_
          refine mg_13 hx hb hts hown hK hP dX6_beatClause_110 ?_
          refine lv_iload_n hx hb dX6_beatClause_113 rfl (lv_at hl 1 rfl) ?_
          refine r_iconst hx hb dX6_beatClause_114 ?_
          refine r_iadd hx hb dX6_beatClause_115 ?_
          refine lv_aload_n hx hb dX6_beatClause_116 rfl (lv_at hl 0 rfl) ?_
          refine r_bipush hx hb (by decide) dX6_beatClause_117 ?_
          refine m_cI ⟨hx, hb, hml, hown, hts⟩ (m_has hIM_25 (ch_ := 106) (by decide)) (cwV 1 hts (lw_V q1198 q1200 qs35 q60 q1201) rfl rfl rfl hdV_X6_has ⟨Nat.le_of_ble_eq_true rfl, Nat.le_of_ble_eq_true rfl⟩) hK hP hD hS rfl hl.1 rfl (Nat.le_of_ble_eq_true rfl) ⟨Nat.le_of_ble_eq_true rfl, Nat.le_of_ble_eq_true rfl⟩ dX6_beatClause_119 (fun r_27 M_26 H locs hq hP hD hS => ?_)
          obtain ⟨er_27, eM_26, hIM_26⟩ := hq
          have q9 := ((show M_25 9 = M108 9 from by rw [eM_25]; exact upd2_k (by decide))).trans (show M108 9 = M 9 from rM_x eM108 9 (by decide))
          have q10 := congrFun (((show M_25 10 = M108 10 from by rw [eM_25]; exact upd2_k (by decide))).trans (show M108 10 = M 10 from rM_x eM108 10 (by decide))) 0
          have q11 := ((show M_25 11 0 = M108 11 0 from by rw [eM_25]; exact congrFun (upd2_k (by decide)) 0)).trans (rM_11 eM108)
          have q12 := ((show M_25 12 0 = M108 12 0 from by rw [eM_25]; exact congrFun (upd2_k (by decide)) 0)).trans (rM_12 eM108)
          simp only [q9, q10, q11, q12] at er_27
          simp only [q9, q10, q11, q12] at eM_26
          subst er_27
          have f_28 := hasR_01 (M 9) (M 10 0) (106 : Int) (skV (M 9) (M 10 0) (bA4 (M 9) (M 10 0) (M 11 0) (M 12 0))) (bW4 (M 9) (M 10 0) (M 11 0) (M 12 0))
          have J_130 : ∀ (v130 : Int) (M130 : St) (H : Heap) (locs : List Loc) (ls : Array Slot), v130 = bV4 (M 9) (M 10 0) (M 11 0) (M 12 0) → M130 = rM M (bA5 (M 9) (M 10 0) (M 11 0) (M 12 0)) (bW4 (M 9) (M 10 0) (M 11 0) (M 12 0)) ((fset (fset (fset (fset (M 13) k (numV (M 9) (M 10 0) (M 11 0) (M 12 0))) (k + 1) (bV1 (M 9) (M 10 0) (M 11 0) (M 12 0))) (k + 2) (bV2 (M 9) (M 10 0) (M 11 0) (M 12 0))) (k + 3) (bV3 (M 9) (M 10 0) (M 11 0) (M 12 0)))) → InvM M130 → wP D vwCl (mW cI B M130) H → wD A (mW cI B M130) → va_S A s.heap H locs → lv_has ls 2 [(0, .ref (B 0)), (1, .int (iv (k)))] → W p l e (rmk 4 0 0) s m args below meth c H locs 0 0 Q (F0 m 130 ls [.int (iv (v130)), .int (iv (k + 4)), .ref (B 14)]) := by
            intro v130 M130 H locs ls ev130 eM130 hIM130 hP hD hS hl
            subst ev130
            have f_29 := (show bV4 (M 9) (M 10 0) (M 11 0) (M 12 0) = 0 ∨ bV4 (M 9) (M 10 0) (M 11 0) (M 12 0) = 1 from hasR_01 _ _ _ _ _)
            refine m_ast hx hb hK hP hD hS 13 (n := 48) rfl (by decide) (by omega) dX6_beatClause_130 (fun M_30 eM_30 H locs hP hD hS => ?_)
            have hIM_30 : InvM M_30 := iMs_13 hIM130 eM_30 (by omega)
            refine lv_aload_n hx hb dX6_beatClause_131 rfl (lv_at hl 0 rfl) ?_
            refine mg_13 hx hb hts hown hK hP dX6_beatClause_132 ?_
            refine lv_iload_n hx hb dX6_beatClause_135 rfl (lv_at hl 1 rfl) ?_
            refine r_iconst hx hb dX6_beatClause_136 ?_
            refine r_iadd hx hb dX6_beatClause_137 ?_
            refine lv_aload_n hx hb dX6_beatClause_138 rfl (lv_at hl 0 rfl) ?_
            refine r_bipush hx hb (by decide) dX6_beatClause_139 ?_
            refine m_cI ⟨hx, hb, hml, hown, hts⟩ (m_has hIM_30 (ch_ := 120) (by decide)) (cwV 1 hts (lw_V q1198 q1200 qs35 q60 q1201) rfl rfl rfl hdV_X6_has ⟨Nat.le_of_ble_eq_true rfl, Nat.le_of_ble_eq_true rfl⟩) hK hP hD hS rfl hl.1 rfl (Nat.le_of_ble_eq_true rfl) ⟨Nat.le_of_ble_eq_true rfl, Nat.le_of_ble_eq_true rfl⟩ dX6_beatClause_141 (fun r_32 M_31 H locs hq hP hD hS => ?_)
            obtain ⟨er_32, eM_31, hIM_31⟩ := hq
            have q9 := ((show M_30 9 = M130 9 from by rw [eM_30]; exact upd2_k (by decide))).trans (show M130 9 = M 9 from rM_x eM130 9 (by decide))
            have q10 := congrFun (((show M_30 10 = M130 10 from by rw [eM_30]; exact upd2_k (by decide))).trans (show M130 10 = M 10 from rM_x eM130 10 (by decide))) 0
            have q11 := ((show M_30 11 0 = M130 11 0 from by rw [eM_30]; exact congrFun (upd2_k (by decide)) 0)).trans (rM_11 eM130)
            have q12 := ((show M_30 12 0 = M130 12 0 from by rw [eM_30]; exact congrFun (upd2_k (by decide)) 0)).trans (rM_12 eM130)
            simp only [q9, q10, q11, q12] at er_32
            simp only [q9, q10, q11, q12] at eM_31
            subst er_32
            have f_33 := hasR_01 (M 9) (M 10 0) (120 : Int) (skV (M 9) (M 10 0) (bA5 (M 9) (M 10 0) (M 11 0) (M 12 0))) (bW4 (M 9) (M 10 0) (M 11 0) (M 12 0))
            have J_155 : ∀ (v155 : Int) (M155 : St) (H : Heap) (locs : List Loc) (ls : Array Slot), v155 = bV5 (M 9) (M 10 0) (M 11 0) (M 12 0) → M155 = rM M (bA6 (M 9) (M 10 0) (M 11 0) (M 12 0)) (bW6 (M 9) (M 10 0) (M 11 0) (M 12 0)) ((fset (fset (fset (fset (fset (M 13) k (numV (M 9) (M 10 0) (M 11 0) (M 12 0))) (k + 1) (bV1 (M 9) (M 10 0) (M 11 0) (M 12 0))) (k + 2) (bV2 (M 9) (M 10 0) (M 11 0) (M 12 0))) (k + 3) (bV3 (M 9) (M 10 0) (M 11 0) (M 12 0))) (k + 4) (bV4 (M 9) (M 10 0) (M 11 0) (M 12 0)))) → InvM M155 → wP D vwCl (mW cI B M155) H → wD A (mW cI B M155) → va_S A s.heap H locs → lv_has ls 2 [(0, .ref (B 0)), (1, .int (iv (k)))] → W p l e (rmk 4 0 0) s m args below meth c H locs 0 0 Q (F0 m 155 ls [.int (iv (v155)), .int (iv (k + 5)), .ref (B 14)]) := by
              intro v155 M155 H locs ls ev155 eM155 hIM155 hP hD hS hl
              subst ev155
              have f_34 := (show 0 ≤ bV5 (M 9) (M 10 0) (M 11 0) (M 12 0) ∧ bV5 (M 9) (M 10 0) (M 11 0) (M 12 0) ≤ 39 from obV_r _ _ _ _ _)
              refine m_ast hx hb hK hP hD hS 13 (n := 48) rfl (by decide) (by omega) dX6_beatClause_155 (fun M_35 eM_35 H locs hP hD hS => ?_)
              have hIM_35 : InvM M_35 := iMs_13 hIM155 eM_35 (by omega)
              exact r_vretS hx hb hr hlk hQ M_35 ⟨rM_eq (rM_u13 eM155 eM_35) rfl rfl (by unfold bRow; first | rfl | (congr 1; done)), hIM_35⟩ (fun t ht _ => ⟨by rw [ht]; exact hP, hD⟩) hS dX6_beatClause_156
            refine r_if_eq (tgt := 154) hx hb dX6_beatClause_144 (by decide) (by omega) (fun c_36 => ?_) (fun c_36 => ?_)
            · refine r_iconst hx hb dX6_beatClause_154 ?_
              exact J_155 (0) M_31 H locs ls (by first | rfl | (unfold bV5; first | exact (if_neg (by omega)).symm | exact (if_pos (by omega)).symm | omega) | (unfold bV5; unfold obV; first | exact (if_neg (by omega)).symm | exact (if_pos (by omega)).symm)) (rM_eq (rM_pc (rM_u13 eM130 eM_30) eM_31) (by first | rfl | (unfold bA6; first | exact (if_neg (by omega)).symm | exact (if_pos (by omega)).symm | omega) | (unfold bA6; unfold obA; first | exact (if_neg (by omega)).symm | exact (if_pos (by omega)).symm)) (by first | rfl | (unfold bW6; first | exact (if_neg (by omega)).symm | exact (if_pos (by omega)).symm | omega) | (unfold bW6; unfold obW; first | exact (if_neg (by omega)).symm | exact (if_pos (by omega)).symm)) rfl) hIM_31 hP hD hS (lv_sub hl [0, 1] rfl)
            refine lv_aload_n hx hb dX6_beatClause_147 rfl (lv_at hl 0 rfl) ?_
            refine m_cI ⟨hx, hb, hml, hown, hts⟩ (m_both hIM_31  ) (cwV 0 hts (lw_V q1202 q1204 qs36 q60 q1205) rfl rfl rfl hdV_X6_both ⟨Nat.le_of_ble_eq_true rfl, Nat.le_of_ble_eq_true rfl⟩) hK hP hD hS rfl hl.1 rfl (Nat.le_of_ble_eq_true rfl) ⟨Nat.le_of_ble_eq_true rfl, Nat.le_of_ble_eq_true rfl⟩ dX6_beatClause_148 (fun r_38 M_37 H locs hq hP hD hS => ?_)
            obtain ⟨er_38, eM_37, hIM_37⟩ := hq
            have q9 := (((show M_31 9 = M_30 9 from pM_x eM_31 9 (by decide))).trans (show M_30 9 = M130 9 from by rw [eM_30]; exact upd2_k (by decide))).trans (show M130 9 = M 9 from rM_x eM130 9 (by decide))
            have q10 := congrFun ((((show M_31 10 = M_30 10 from pM_x eM_31 10 (by decide))).trans (show M_30 10 = M130 10 from by rw [eM_30]; exact upd2_k (by decide))).trans (show M130 10 = M 10 from rM_x eM130 10 (by decide))) 0
            have q11 := (pM_11 eM_31)
            have q12 := (pM_12 eM_31)
            simp only [q9, q10, q11, q12] at er_38
            simp only [q9, q10, q11, q12] at eM_37
            subst er_38
            have f_39 := bothV_r (M 9) (M 10 0) (hasA (M 9) (M 10 0) (120 : Int) (bA5 (M 9) (M 10 0) (M 11 0) (M 12 0)) (bW4 (M 9) (M 10 0) (M 11 0) (M 12 0))) ((bW4 (M 9) (M 10 0) (M 11 0) (M 12 0)))
            refine lv_goto (tgt := 155) hx hb dX6_beatClause_151 (by decide) ?_
            exact J_155 (bothV (M 9) (M 10 0) (hasA (M 9) (M 10 0) (120 : Int) (bA5 (M 9) (M 10 0) (M 11 0) (M 12 0)) (bW4 (M 9) (M 10 0) (M 11 0) (M 12 0))) ((bW4 (M 9) (M 10 0) (M 11 0) (M 12 0)))) M_37 H locs ls (by first | rfl | (unfold bV5; first | exact (if_neg (by omega)).symm | exact (if_pos (by omega)).symm | omega) | (unfold bV5; unfold obV; first | exact (if_neg (by omega)).symm | exact (if_pos (by omega)).symm)) (rM_eq (rM_pc (rM_pc (rM_u13 eM130 eM_30) eM_31) eM_37) (by first | rfl | (unfold bA6; first | exact (if_neg (by omega)).symm | exact (if_pos (by omega)).symm | omega) | (unfold bA6; unfold obA; first | exact (if_neg (by omega)).symm | exact (if_pos (by omega)).symm)) (by first | rfl | (unfold bW6; first | exact (if_neg (by omega)).symm | exact (if_pos (by omega)).symm | omega) | (unfold bW6; unfold obW; first | exact (if_neg (by omega)).symm | exact (if_pos (by omega)).symm)) rfl) hIM_37 hP hD hS (lv_sub hl [0, 1] rfl)
          refine r_if_eq (tgt := 129) hx hb dX6_beatClause_122 (by decide) (by omega) (fun c_40 => ?_) (fun c_40 => ?_)
          · refine r_iconst hx hb dX6_beatClause_129 ?_
            exact J_130 (0) M_26 H locs ls (by first | rfl | (unfold bV4; first | exact (if_neg (by omega)).symm | exact (if_pos (by omega)).symm | omega) | (unfold bV4; unfold bV4; first | exact (if_neg (by omega)).symm | exact (if_pos (by omega)).symm)) (rM_eq (rM_pc (rM_u13 eM108 eM_25) eM_26) (by first | rfl | (unfold bA5; first | exact (if_neg (by omega)).symm | exact (if_pos (by omega)).symm | omega) | (unfold bA5; unfold bA5; first | exact (if_neg (by omega)).symm | exact (if_pos (by omega)).symm)) (by first | rfl | (unfold bW4; first | exact (if_neg (by omega)).symm | exact (if_pos (by omega)).symm | omega) | (unfold bW4; unfold odW; first | exact (if_neg (by omega)).symm | exact (if_pos (by omega)).symm)) rfl) hIM_26 hP hD hS (lv_sub hl [0, 1] rfl)
          refine r_iconst hx hb dX6_beatClause_125 ?_
          refine lv_goto (tgt := 130) hx hb dX6_beatClause_126 (by decide) ?_
          exact J_130 (1) M_26 H locs ls (by first | rfl | (unfold bV4; first | exact (if_neg (by omega)).symm | exact (if_pos (by omega)).symm | omega) | (unfold bV4; unfold bV4; first | exact (if_neg (by omega)).symm | exact (if_pos (by omega)).symm)) (rM_eq (rM_pc (rM_u13 eM108 eM_25) eM_26) (by first | rfl | (unfold bA5; first | exact (if_neg (by omega)).symm | exact (if_pos (by omega)).symm | omega) | (unfold bA5; unfold bA5; first | exact (if_neg (by omega)).symm | exact (if_pos (by omega)).symm)) (by first | rfl | (unfold bW4; first | exact (if_neg (by omega)).symm | exact (if_pos (by omega)).symm | omega) | (unfold bW4; unfold odW; first | exact (if_neg (by omega)).symm | exact (if_pos (by omega)).symm)) rfl) hIM_26 hP hD hS (lv_sub hl [0, 1] rfl)
        refine r_if_eq (tgt := 107) hx hb dX6_beatClause_95 (by decide) (by omega) (fun c_41 => ?_) (fun c_41 => ?_)
        · refine r_iconst hx hb dX6_beatClause_107 ?_
          exact J_108 (-1) M_21 H locs ls (by first | rfl | (unfold bV3; first | exact (if_neg (by omega)).symm | exact (if_pos (by omega)).symm | omega) | (unfold bV3; unfold odV; first | exact (if_neg (by omega)).symm | exact (if_pos (by omega)).symm)) (rM_eq (rM_pc (rM_u13 eM81 eM_20) eM_21) (by first | rfl | (unfold bA4; first | exact (if_neg (by omega)).symm | exact (if_pos (by omega)).symm | omega) | (unfold bA4; unfold odA; first | exact (if_neg (by omega)).symm | exact (if_pos (by omega)).symm)) (by first | rfl | (unfold bW4; first | exact (if_neg (by omega)).symm | exact (if_pos (by omega)).symm | omega) | (unfold bW4; unfold odW; first | exact (if_neg (by omega)).symm | exact (if_pos (by omega)).symm)) rfl) hIM_21 hP hD hS (lv_sub hl [0, 1] rfl)
        refine lv_aload_n hx hb dX6_beatClause_98 rfl (lv_at hl 0 rfl) ?_
        refine r_iconst hx hb dX6_beatClause_99 ?_
        refine r_iconst hx hb dX6_beatClause_100 ?_
        refine m_cI ⟨hx, hb, hml, hown, hts⟩ (m_digit hIM_21 (low := 0) (high := 3) (by decide) (by decide)) (cwV 2 hts (lw_V q1206 q1208 qs37 q60 q1209) rfl rfl rfl hdV_X6_digit ⟨Nat.le_of_ble_eq_true rfl, Nat.le_of_ble_eq_true rfl⟩) hK hP hD hS rfl hl.1 rfl (Nat.le_of_ble_eq_true rfl) ⟨Nat.le_of_ble_eq_true rfl, Nat.le_of_ble_eq_true rfl⟩ dX6_beatClause_101 (fun r_43 M_42 H locs hq hP hD hS => ?_)
        obtain ⟨er_43, eM_42, hIM_42⟩ := hq
        have q9 := (((show M_21 9 = M_20 9 from pM_x eM_21 9 (by decide))).trans (show M_20 9 = M81 9 from by rw [eM_20]; exact upd2_k (by decide))).trans (show M81 9 = M 9 from rM_x eM81 9 (by decide))
        have q10 := congrFun ((((show M_21 10 = M_20 10 from pM_x eM_21 10 (by decide))).trans (show M_20 10 = M81 10 from by rw [eM_20]; exact upd2_k (by decide))).trans (show M81 10 = M 10 from rM_x eM81 10 (by decide))) 0
        have q11 := (pM_11 eM_21)
        have q12 := (pM_12 eM_21)
        simp only [q9, q10, q11, q12] at er_43
        simp only [q9, q10, q11, q12] at eM_42
        subst er_43
        have f_44 := digW_01 (M 9) (M 10 0) (0 : Int) (3 : Int) (hasA (M 9) (M 10 0) (110 : Int) (bA3 (M 9) (M 10 0) (M 11 0) (M 12 0)) (bW3 (M 9) (M 10 0) (M 11 0) (M 12 0))) ((bW3 (M 9) (M 10 0) (M 11 0) (M 12 0)))
        have f_45 := digV_r (M 9) (M 10 0) (lo := (0 : Int)) (hi := (3 : Int)) (by omega) (hasA (M 9) (M 10 0) (110 : Int) (bA3 (M 9) (M 10 0) (M 11 0) (M 12 0)) (bW3 (M 9) (M 10 0) (M 11 0) (M 12 0))) ((bW3 (M 9) (M 10 0) (M 11 0) (M 12 0)))
        refine lv_goto (tgt := 108) hx hb dX6_beatClause_104 (by decide) ?_
        exact J_108 (digV (M 9) (M 10 0) (0 : Int) (3 : Int) (hasA (M 9) (M 10 0) (110 : Int) (bA3 (M 9) (M 10 0) (M 11 0) (M 12 0)) (bW3 (M 9) (M 10 0) (M 11 0) (M 12 0))) ((bW3 (M 9) (M 10 0) (M 11 0) (M 12 0)))) M_42 H locs ls (by first | rfl | (unfold bV3; first | exact (if_neg (by omega)).symm | exact (if_pos (by omega)).symm | omega) | (unfold bV3; unfold odV; first | exact (if_neg (by omega)).symm | exact (if_pos (by omega)).symm)) (rM_eq (rM_pc (rM_pc (rM_u13 eM81 eM_20) eM_21) eM_42) (by first | rfl | (unfold bA4; first | exact (if_neg (by omega)).symm | exact (if_pos (by omega)).symm | omega) | (unfold bA4; unfold odA; first | exact (if_neg (by omega)).symm | exact (if_pos (by omega)).symm)) (by first | rfl | (unfold bW4; first | exact (if_neg (by omega)).symm | exact (if_pos (by omega)).symm | omega) | (unfold bW4; unfold odW; first | exact (if_neg (by omega)).symm | exact (if_pos (by omega)).symm)) rfl) hIM_42 hP hD hS (lv_sub hl [0, 1] rfl)
      refine r_if_eq (tgt := 80) hx hb dX6_beatClause_68 (by decide) (by omega) (fun c_46 => ?_) (fun c_46 => ?_)
      · refine r_iconst hx hb dX6_beatClause_80 ?_
        exact J_81 (-1) M_16 H locs ls (by first | rfl | (unfold bV2; first | exact (if_neg (by omega)).symm | exact (if_pos (by omega)).symm | omega) | (unfold bV2; unfold odV; first | exact (if_neg (by omega)).symm | exact (if_pos (by omega)).symm)) (rM_eq (rM_pc (rM_u13 eM54 eM_15) eM_16) (by first | rfl | (unfold bA3; first | exact (if_neg (by omega)).symm | exact (if_pos (by omega)).symm | omega) | (unfold bA3; unfold odA; first | exact (if_neg (by omega)).symm | exact (if_pos (by omega)).symm)) (by first | rfl | (unfold bW3; first | exact (if_neg (by omega)).symm | exact (if_pos (by omega)).symm | omega) | (unfold bW3; unfold odW; first | exact (if_neg (by omega)).symm | exact (if_pos (by omega)).symm)) rfl) hIM_16 hP hD hS (lv_sub hl [0, 1] rfl)
      refine lv_aload_n hx hb dX6_beatClause_71 rfl (lv_at hl 0 rfl) ?_
      refine r_iconst hx hb dX6_beatClause_72 ?_
      refine r_iconst hx hb dX6_beatClause_73 ?_
      refine m_cI ⟨hx, hb, hml, hown, hts⟩ (m_digit hIM_16 (low := 0) (high := 3) (by decide) (by decide)) (cwV 2 hts (lw_V q1206 q1208 qs37 q60 q1209) rfl rfl rfl hdV_X6_digit ⟨Nat.le_of_ble_eq_true rfl, Nat.le_of_ble_eq_true rfl⟩) hK hP hD hS rfl hl.1 rfl (Nat.le_of_ble_eq_true rfl) ⟨Nat.le_of_ble_eq_true rfl, Nat.le_of_ble_eq_true rfl⟩ dX6_beatClause_74 (fun r_48 M_47 H locs hq hP hD hS => ?_)
      obtain ⟨er_48, eM_47, hIM_47⟩ := hq
      have q9 := (((show M_16 9 = M_15 9 from pM_x eM_16 9 (by decide))).trans (show M_15 9 = M54 9 from by rw [eM_15]; exact upd2_k (by decide))).trans (show M54 9 = M 9 from rM_x eM54 9 (by decide))
      have q10 := congrFun ((((show M_16 10 = M_15 10 from pM_x eM_16 10 (by decide))).trans (show M_15 10 = M54 10 from by rw [eM_15]; exact upd2_k (by decide))).trans (show M54 10 = M 10 from rM_x eM54 10 (by decide))) 0
      have q11 := (pM_11 eM_16)
      have q12 := (pM_12 eM_16)
      simp only [q9, q10, q11, q12] at er_48
      simp only [q9, q10, q11, q12] at eM_47
      subst er_48
      have f_49 := digW_01 (M 9) (M 10 0) (0 : Int) (3 : Int) (hasA (M 9) (M 10 0) (108 : Int) (bA2 (M 9) (M 10 0) (M 11 0) (M 12 0)) (bW2 (M 9) (M 10 0) (M 11 0) (M 12 0))) ((bW2 (M 9) (M 10 0) (M 11 0) (M 12 0)))
      have f_50 := digV_r (M 9) (M 10 0) (lo := (0 : Int)) (hi := (3 : Int)) (by omega) (hasA (M 9) (M 10 0) (108 : Int) (bA2 (M 9) (M 10 0) (M 11 0) (M 12 0)) (bW2 (M 9) (M 10 0) (M 11 0) (M 12 0))) ((bW2 (M 9) (M 10 0) (M 11 0) (M 12 0)))
      refine lv_goto (tgt := 81) hx hb dX6_beatClause_77 (by decide) ?_
      exact J_81 (digV (M 9) (M 10 0) (0 : Int) (3 : Int) (hasA (M 9) (M 10 0) (108 : Int) (bA2 (M 9) (M 10 0) (M 11 0) (M 12 0)) (bW2 (M 9) (M 10 0) (M 11 0) (M 12 0))) ((bW2 (M 9) (M 10 0) (M 11 0) (M 12 0)))) M_47 H locs ls (by first | rfl | (unfold bV2; first | exact (if_neg (by omega)).symm | exact (if_pos (by omega)).symm | omega) | (unfold bV2; unfold odV; first | exact (if_neg (by omega)).symm | exact (if_pos (by omega)).symm)) (rM_eq (rM_pc (rM_pc (rM_u13 eM54 eM_15) eM_16) eM_47) (by first | rfl | (unfold bA3; first | exact (if_neg (by omega)).symm | exact (if_pos (by omega)).symm | omega) | (unfold bA3; unfold odA; first | exact (if_neg (by omega)).symm | exact (if_pos (by omega)).symm)) (by first | rfl | (unfold bW3; first | exact (if_neg (by omega)).symm | exact (if_pos (by omega)).symm | omega) | (unfold bW3; unfold odW; first | exact (if_neg (by omega)).symm | exact (if_pos (by omega)).symm)) rfl) hIM_47 hP hD hS (lv_sub hl [0, 1] rfl)
    refine r_if_eq (tgt := 53) hx hb dX6_beatClause_43 (by decide) (by omega) (fun c_51 => ?_) (fun c_51 => ?_)
    · refine r_iconst hx hb dX6_beatClause_53 ?_
      exact J_54 (0) M_11 H locs ls (by first | rfl | (unfold bV1; first | exact (if_neg (by omega)).symm | exact (if_pos (by omega)).symm | omega) | (unfold bV1; unfold obV; first | exact (if_neg (by omega)).symm | exact (if_pos (by omega)).symm)) (rM_eq (rM_pc (rM_v eM27 eM_10) eM_11) (by first | rfl | (unfold bA2; first | exact (if_neg (by omega)).symm | exact (if_pos (by omega)).symm | omega) | (unfold bA2; unfold obA; first | exact (if_neg (by omega)).symm | exact (if_pos (by omega)).symm)) (by first | rfl | (unfold bW2; first | exact (if_neg (by omega)).symm | exact (if_pos (by omega)).symm | omega) | (unfold bW2; unfold obW; first | exact (if_neg (by omega)).symm | exact (if_pos (by omega)).symm)) rfl) hIM_11 hP hD hS (lv_sub hl [0, 1] rfl)
    refine lv_aload_n hx hb dX6_beatClause_46 rfl (lv_at hl 0 rfl) ?_
    refine m_cI ⟨hx, hb, hml, hown, hts⟩ (m_both hIM_11  ) (cwV 0 hts (lw_V q1202 q1204 qs36 q60 q1205) rfl rfl rfl hdV_X6_both ⟨Nat.le_of_ble_eq_true rfl, Nat.le_of_ble_eq_true rfl⟩) hK hP hD hS rfl hl.1 rfl (Nat.le_of_ble_eq_true rfl) ⟨Nat.le_of_ble_eq_true rfl, Nat.le_of_ble_eq_true rfl⟩ dX6_beatClause_47 (fun r_53 M_52 H locs hq hP hD hS => ?_)
    obtain ⟨er_53, eM_52, hIM_52⟩ := hq
    have q9 := (((show M_11 9 = M_10 9 from pM_x eM_11 9 (by decide))).trans (show M_10 9 = M27 9 from by rw [eM_10]; exact upd2_k (by decide))).trans (show M27 9 = M 9 from rM_x eM27 9 (by decide))
    have q10 := congrFun ((((show M_11 10 = M_10 10 from pM_x eM_11 10 (by decide))).trans (show M_10 10 = M27 10 from by rw [eM_10]; exact upd2_k (by decide))).trans (show M27 10 = M 10 from rM_x eM27 10 (by decide))) 0
    have q11 := (pM_11 eM_11)
    have q12 := (pM_12 eM_11)
    simp only [q9, q10, q11, q12] at er_53
    simp only [q9, q10, q11, q12] at eM_52
    subst er_53
    have f_54 := bothV_r (M 9) (M 10 0) (hasA (M 9) (M 10 0) (109 : Int) (bA1 (M 9) (M 10 0) (M 11 0) (M 12 0)) (bW1 (M 9) (M 10 0) (M 11 0) (M 12 0))) ((bW1 (M 9) (M 10 0) (M 11 0) (M 12 0)))
    refine lv_goto (tgt := 54) hx hb dX6_beatClause_50 (by decide) ?_
    exact J_54 (bothV (M 9) (M 10 0) (hasA (M 9) (M 10 0) (109 : Int) (bA1 (M 9) (M 10 0) (M 11 0) (M 12 0)) (bW1 (M 9) (M 10 0) (M 11 0) (M 12 0))) ((bW1 (M 9) (M 10 0) (M 11 0) (M 12 0)))) M_52 H locs ls (by first | rfl | (unfold bV1; first | exact (if_neg (by omega)).symm | exact (if_pos (by omega)).symm | omega) | (unfold bV1; unfold obV; first | exact (if_neg (by omega)).symm | exact (if_pos (by omega)).symm)) (rM_eq (rM_pc (rM_pc (rM_v eM27 eM_10) eM_11) eM_52) (by first | rfl | (unfold bA2; first | exact (if_neg (by omega)).symm | exact (if_pos (by omega)).symm | omega) | (unfold bA2; unfold obA; first | exact (if_neg (by omega)).symm | exact (if_pos (by omega)).symm)) (by first | rfl | (unfold bW2; first | exact (if_neg (by omega)).symm | exact (if_pos (by omega)).symm | omega) | (unfold bW2; unfold obW; first | exact (if_neg (by omega)).symm | exact (if_pos (by omega)).symm)) rfl) hIM_52 hP hD hS (lv_sub hl [0, 1] rfl)
  refine r_if_ne (tgt := 26) hx hb dX6_beatClause_19 (by decide) (by omega) (fun c_55 => ?_) (fun c_55 => ?_)
  · refine r_iconst hx hb dX6_beatClause_26 ?_
    exact J_27 (0) M_6 H locs ls (by first | rfl | (unfold bW1; first | exact (if_neg (by omega)).symm | exact (if_pos (by omega)).symm | omega) | (unfold bW1; unfold bW1; first | exact (if_neg (by omega)).symm | exact (if_pos (by omega)).symm)) (rM_eq (rM_pc (rM_u13 (rM_pc (rM_self M).symm eM_1) eM_5) eM_6) (by first | rfl | (unfold bA1; first | exact (if_neg (by omega)).symm | exact (if_pos (by omega)).symm | omega) | (unfold bA1; unfold bA1; first | exact (if_neg (by omega)).symm | exact (if_pos (by omega)).symm)) (by first | rfl | (unfold numW; first | exact (if_neg (by omega)).symm | exact (if_pos (by omega)).symm | omega) | (unfold numW; unfold numW; first | exact (if_neg (by omega)).symm | exact (if_pos (by omega)).symm)) rfl) hIM_6 hP hD hS (lv_sub hl [0, 1] rfl)
  refine r_iconst hx hb dX6_beatClause_22 ?_
  refine lv_goto (tgt := 27) hx hb dX6_beatClause_23 (by decide) ?_
  exact J_27 (1) M_6 H locs ls (by first | rfl | (unfold bW1; first | exact (if_neg (by omega)).symm | exact (if_pos (by omega)).symm | omega) | (unfold bW1; unfold bW1; first | exact (if_neg (by omega)).symm | exact (if_pos (by omega)).symm)) (rM_eq (rM_pc (rM_u13 (rM_pc (rM_self M).symm eM_1) eM_5) eM_6) (by first | rfl | (unfold bA1; first | exact (if_neg (by omega)).symm | exact (if_pos (by omega)).symm | omega) | (unfold bA1; unfold bA1; first | exact (if_neg (by omega)).symm | exact (if_pos (by omega)).symm)) (by first | rfl | (unfold numW; first | exact (if_neg (by omega)).symm | exact (if_pos (by omega)).symm | omega) | (unfold numW; unfold numW; first | exact (if_neg (by omega)).symm | exact (if_pos (by omega)).symm)) rfl) hIM_6 hP hD hS (lv_sub hl [0, 1] rfl)
set_option maxHeartbeats 4000000 in
set_option maxRecDepth 100000 in
theorem m_seatClause {l : Launch} {D : va_G} {cI : ClassId} {B : Nat → Nat} {A : Nat → Prop} {M : St} (hI : InvM M) {k : Int} (g_k : 0 ≤ k ∧ k ≤ 42) (g_6 : k % 6 = 0) : Met l yX6_seatClause (ws_ yX6_seatClause cX6_seatClause 5 none) (rmk 3 0 0) (va_Pc [.ref (B 0), .int (iv k)] (mUS D cI A (mW cI B M))) (va_Qv (fun M1 => M1 = rM M (sA3 (M 9) (M 10 0) (dupV (M 13) (numV (M 9) (M 10 0) (skV (M 9) (M 10 0) (M 11 0)) (M 12 0)) (takenV (pw M 0) (numV (M 9) (M 10 0) (skV (M 9) (M 10 0) (M 11 0)) (M 12 0)) (M 7 0)) (k / 6)) (M 11 0) (M 12 0)) (sW3 (M 9) (M 10 0) (dupV (M 13) (numV (M 9) (M 10 0) (skV (M 9) (M 10 0) (M 11 0)) (M 12 0)) (takenV (pw M 0) (numV (M 9) (M 10 0) (skV (M 9) (M 10 0) (M 11 0)) (M 12 0)) (M 7 0)) (k / 6)) (M 11 0) (M 12 0)) (fset (fset (M 13) k (numV (M 9) (M 10 0) (skV (M 9) (M 10 0) (M 11 0)) (M 12 0))) (k + 1) (sK (M 9) (M 10 0) (dupV (M 13) (numV (M 9) (M 10 0) (skV (M 9) (M 10 0) (M 11 0)) (M 12 0)) (takenV (pw M 0) (numV (M 9) (M 10 0) (skV (M 9) (M 10 0) (M 11 0)) (M 12 0)) (M 7 0)) (k / 6)) (M 11 0) (M 12 0))) ∧ InvM M1) (mB D cI B A) A) 0 0 A := by
  refine r_met (by decide) _ rfl (Nat.le_of_ble_eq_true rfl) ?_
  intro p e s m args below meth c Q ls hx hb hr hlk hml hown hts hpre hQ hl
  obtain ⟨hP, hD, hK⟩ := hpre
  have hS : va_S A s.heap s.heap [] := va_S.rf
  have hown : s.vm.findClass RX6 = some m.cls := hown
  have hl : lv_has ls 5 [(0, .ref (B 0)), (1, .int (iv (k)))] := hl
  have fs := skV_r (M 9) (M 10 0) (M 11 0)
  have fk := skV_sk (M 9) (M 10 0) (M 11 0)
  have fc := congrArg (chV (M 9) (M 10 0)) fk
  have b10 := iM_10 hI 0
  have b11 := iM_11 hI 0
  have b12 := iM_12 hI 0
  have b9 := iM_9 hI (skV (M 9) (M 10 0) (M 11 0))
  have fd : chV (M 9) (M 10 0) (skV (M 9) (M 10 0) (M 11 0)) = if skV (M 9) (M 10 0) (M 11 0) < M 10 0 then M 9 (skV (M 9) (M 10 0) (M 11 0)) else 0 := rfl
  refine lv_aload_n hx hb dX6_seatClause_0 rfl (lv_at hl 0 rfl) ?_
  refine m_cI ⟨hx, hb, hml, hown, hts⟩ (m_here hI  ) (cwV 0 hts (lw_V q1192 q1194 qs34 q60 q1195) rfl rfl rfl hdV_X6_here ⟨Nat.le_of_ble_eq_true rfl, Nat.le_of_ble_eq_true rfl⟩) hK hP hD hS rfl hl.1 rfl (Nat.le_of_ble_eq_true rfl) ⟨Nat.le_of_ble_eq_true rfl, Nat.le_of_ble_eq_true rfl⟩ dX6_seatClause_1 (fun r_2 M_1 H locs hq hP hD hS => ?_)
  obtain ⟨er_2, eM_1, hIM_1⟩ := hq
  subst er_2
  have f_3 := skV_r (M 9) (M 10 0) (M 11 0)
  have f_4 := iM_9 hI (skV (M 9) (M 10 0) (M 11 0))
  have f_5 := (show chV (M 9) (M 10 0) (skV (M 9) (M 10 0) (M 11 0)) = if skV (M 9) (M 10 0) (M 11 0) < M 10 0 then M 9 (skV (M 9) (M 10 0) (M 11 0)) else 0 from rfl)
  refine lv_pop hx hb dX6_seatClause_4 rfl ?_
  refine lv_aload_n hx hb dX6_seatClause_5 rfl (lv_at hl 0 rfl) ?_
  refine mg_11 hx hb hts hown hK hP dX6_seatClause_6 ?_
  refine r_top ((pM_11 eM_1)) ?_
  refine lv_istore_n (lv' := [(2, .int (iv (skV (M 9) (M 10 0) (M 11 0)))), (0, .ref (B 0)), (1, .int (iv (k)))]) hx hb dX6_seatClause_9 rfl hl (by decide) rfl (fun ls hl => ?_)
  refine lv_aload_n hx hb dX6_seatClause_10 rfl (lv_at hl 1 rfl) ?_
  refine mg_13 hx hb hts hown hK hP dX6_seatClause_11 ?_
  refine lv_iload_n hx hb dX6_seatClause_14 rfl (lv_at hl 2 rfl) ?_
  refine lv_aload_n hx hb dX6_seatClause_15 rfl (lv_at hl 1 rfl) ?_
  refine r_bipush hx hb (by decide) dX6_seatClause_16 ?_
  refine m_cI ⟨hx, hb, hml, hown, hts⟩ (m_number hIM_1 (high := 11) (by decide)) (cwV 1 hts (lw_V q1188 q1190 qs33 q60 q1191) rfl rfl rfl hdV_X6_number ⟨Nat.le_of_ble_eq_true rfl, Nat.le_of_ble_eq_true rfl⟩) hK hP hD hS rfl hl.1 rfl (Nat.le_of_ble_eq_true rfl) ⟨Nat.le_of_ble_eq_true rfl, Nat.le_of_ble_eq_true rfl⟩ dX6_seatClause_18 (fun r_7 M_6 H locs hq hP hD hS => ?_)
  obtain ⟨er_7, eM_6, hIM_6⟩ := hq
  have q9 := (show M_1 9 = M 9 from pM_x eM_1 9 (by decide))
  have q10 := congrFun ((show M_1 10 = M 10 from pM_x eM_1 10 (by decide))) 0
  have q11 := (pM_11 eM_1)
  have q12 := (pM_12 eM_1)
  simp only [q9, q10, q11, q12] at er_7
  simp only [q9, q10, q11, q12] at eM_6
  subst er_7
  have f_8 := numW_01 (M 9) (M 10 0) (11 : Int) (skV (M 9) (M 10 0) (M 11 0)) ((M 12 0))
  have f_9 := numV_r (M 9) (M 10 0) (skV (M 9) (M 10 0) (M 11 0)) ((M 12 0))
  refine m_ast hx hb hK hP hD hS 13 (n := 48) rfl (by decide) (by omega) dX6_seatClause_21 (fun M_10 eM_10 H locs hP hD hS => ?_)
  have hIM_10 : InvM M_10 := iMs_13 hIM_6 eM_10 (by omega)
  refine lv_aload_n hx hb dX6_seatClause_22 rfl (lv_at hl 1 rfl) ?_
  refine lv_aload_n hx hb dX6_seatClause_23 rfl (lv_at hl 1 rfl) ?_
  refine mg_13 hx hb hts hown hK hP dX6_seatClause_24 ?_
  refine lv_iload_n hx hb dX6_seatClause_27 rfl (lv_at hl 2 rfl) ?_
  refine m_ald hx hb hK hP 13 (n := 48) rfl (by decide) (by omega) dX6_seatClause_28 ?_
  have b_11 := iM_13 (M := M_10) hIM_10 (k)
  have w_12 : M_10 13 (k) = if (k) = (k) then (numV (M 9) (M 10 0) (skV (M 9) (M 10 0) (M 11 0)) ((M 12 0))) else M_6 13 (k) := by rw [eM_10]; exact upd2_s
  refine m_cR ⟨hx, hb, hml, hown, hts⟩ (m_isTaken hIM_10 (seat := M_10 13 k) (by omega)) (cwV 1 hts (lw_V q1140 q1142 qs27 q60 q1143) rfl rfl rfl hdV_X6_isTaken ⟨Nat.le_of_ble_eq_true rfl, Nat.le_of_ble_eq_true rfl⟩) hK hP rfl hl.1 rfl (Nat.le_of_ble_eq_true rfl) ⟨Nat.le_of_ble_eq_true rfl, Nat.le_of_ble_eq_true rfl⟩ dX6_seatClause_29 ?_
  have f_13 := takenV_01 (pw M_10 0) (M_10 13 k) (M_10 7 0)
  refine lv_istore_n (lv' := [(3, .int (iv (takenV (pw M_10 0) (M_10 13 k) (M_10 7 0)))), (2, .int (iv (skV (M 9) (M 10 0) (M 11 0)))), (0, .ref (B 0)), (1, .int (iv (k)))]) hx hb dX6_seatClause_32 rfl hl (by decide) rfl (fun ls hl => ?_)
  have er13 : M_10 13 = (fset (M 13) k (numV (M 9) (M 10 0) (skV (M 9) (M 10 0) (M 11 0)) (M 12 0))) := rM_13 (rM_u13 (rM_pc (rM_pc (rM_self M).symm eM_1) eM_6) eM_10)
  have erk : M_10 13 k = numV (M 9) (M 10 0) (skV (M 9) (M 10 0) (M 11 0)) (M 12 0) := by rw [er13]; exact fset_e
  obtain ⟨tk, etk⟩ : ∃ tk, tk = takenV (pw M_10 0) (M_10 13 k) (M_10 7 0) := ⟨_, rfl⟩
  rw [← etk] at hl
  have ftk := takenV_01 (pw M_10 0) (M_10 13 k) (M_10 7 0)
  rw [← etk] at ftk
  have etk2 : tk = (takenV (pw M 0) (numV (M 9) (M 10 0) (skV (M 9) (M 10 0) (M 11 0)) (M 12 0)) (M 7 0)) := by rw [etk, erk, congrFun ((((show M_10 7 = M_6 7 from by rw [eM_10]; exact upd2_k (by decide))).trans (show M_6 7 = M_1 7 from pM_x eM_6 7 (by decide))).trans (show M_1 7 = M 7 from pM_x eM_1 7 (by decide))) 0, pw_x ((((show M_10 8 = M_6 8 from by rw [eM_10]; exact upd2_k (by decide))).trans (show M_6 8 = M_1 8 from pM_x eM_6 8 (by decide))).trans (show M_1 8 = M 8 from pM_x eM_1 8 (by decide)))]
  refine r_iconst hx hb dX6_seatClause_33 ?_
  refine lv_istore (lv' := [(4, .int (iv (0))), (3, .int (iv (tk))), (2, .int (iv (skV (M 9) (M 10 0) (M 11 0)))), (0, .ref (B 0)), (1, .int (iv (k)))]) hx hb dX6_seatClause_34 hl (by decide) rfl (fun ls hl => ?_)
  have lp_36 : ∀ (n_36 : Nat) (taken : Int) (j : Int), k - j < (n_36 : Int) → (0 ≤ j ∧ j % 6 = 0) → (j ≤ k) → (taken = dupV (M 13) (numV (M 9) (M 10 0) (skV (M 9) (M 10 0) (M 11 0)) (M 12 0)) (takenV (pw M 0) (numV (M 9) (M 10 0) (skV (M 9) (M 10 0) (M 11 0)) (M 12 0)) (M 7 0)) (j / 6)) → (taken = 0 ∨ taken = 1) → ∀ (ls : Array Slot), lv_has ls 5 [(0, .ref (B 0)), (1, .int (iv (k))), (2, .int (iv (skV (M 9) (M 10 0) (M 11 0)))), (3, .int (iv (taken))), (4, .int (iv (j)))] → W p l e (rmk 3 0 0) s m args below meth c H locs 0 0 Q (F0 m 36 ls []) := by
    intro n_36
    induction n_36 with
    | zero =>
      intro taken j hn_36 h0 h1 h2 h3 ls hl
      exfalso
      omega
    | succ n_36 ih_36 =>
      intro taken j hn_36 h0 h1 h2 h3 ls hl
      have er13j := congrFun er13 j
      have er13n : j < k → M_10 13 j = M 13 j := fun q => by rw [er13]; exact fset_n (by omega)
      refine lv_iload hx hb dX6_seatClause_36 (lv_at hl 4 rfl) ?_
      refine lv_iload_n hx hb dX6_seatClause_38 rfl (lv_at hl 1 rfl) ?_
      refine r_icmp_ge (tgt := 74) hx hb dX6_seatClause_39 (by decide) (by omega) (by omega) (fun c_14 => ?_) (fun c_14 => ?_)
      rotate_left
      · refine lv_iload_n hx hb dX6_seatClause_42 rfl (lv_at hl 3 rfl) ?_
        refine r_if_ne (tgt := 62) hx hb dX6_seatClause_43 (by decide) (by omega) (fun c_43 => ?_) (fun c_43 => ?_)
        · refine r_iconst hx hb dX6_seatClause_62 ?_
          refine lv_goto (tgt := 67) hx hb dX6_seatClause_63 (by decide) ?_
          refine lv_istore_n (lv' := [(3, .int (iv (1))), (0, .ref (B 0)), (1, .int (iv (k))), (2, .int (iv (skV (M 9) (M 10 0) (M 11 0)))), (4, .int (iv (j)))]) hx hb dX6_seatClause_67 rfl hl (by decide) rfl (fun ls hl => ?_)
          refine lv_iinc (v := iv (j + 6)) (lv' := [(4, .int (iv (j + 6))), (3, .int (iv (1))), (0, .ref (B 0)), (1, .int (iv (k))), (2, .int (iv (skV (M 9) (M 10 0) (M 11 0))))]) hx hb dX6_seatClause_68 hl (k := 4) rfl (iv_add _ _) (by decide) rfl (fun ls hl => ?_)
          refine lv_goto (tgt := 36) hx hb dX6_seatClause_71 (by decide) ?_
          exact ih_36 1 (j + 6) (by omega) (by omega) (by omega) (by rw [show (j + 6) / 6 = j / 6 + 1 by omega, dupV_s _ _ _ (by omega), ← h2, show 6 * (j / 6) = j by omega]; first | exact (if_pos (by omega)).symm | exact (if_neg (by omega)).symm) (by omega) ls (lv_sub hl [2, 3, 4, 1, 0] rfl)
        refine lv_aload_n hx hb dX6_seatClause_46 rfl (lv_at hl 0 rfl) ?_
        refine mg_13 hx hb hts hown hK hP dX6_seatClause_47 ?_
        refine lv_iload hx hb dX6_seatClause_50 (lv_at hl 4 rfl) ?_
        refine m_ald hx hb hK hP 13 (n := 48) rfl (by decide) (by omega) dX6_seatClause_52 ?_
        have b_44 := iM_13 (M := M_10) hIM_10 (j)
        have w_45 : M_10 13 (j) = if (j) = (k) then (numV (M 9) (M 10 0) (skV (M 9) (M 10 0) (M 11 0)) ((M 12 0))) else M_6 13 (j) := by rw [eM_10]; exact upd2_s
        refine lv_aload_n hx hb dX6_seatClause_53 rfl (lv_at hl 0 rfl) ?_
        refine mg_13 hx hb hts hown hK hP dX6_seatClause_54 ?_
        refine lv_iload_n hx hb dX6_seatClause_57 rfl (lv_at hl 1 rfl) ?_
        refine m_ald hx hb hK hP 13 (n := 48) rfl (by decide) (by omega) dX6_seatClause_58 ?_
        have b_46 := iM_13 (M := M_10) hIM_10 (k)
        have w_47 : M_10 13 (k) = if (k) = (k) then (numV (M 9) (M 10 0) (skV (M 9) (M 10 0) (M 11 0)) ((M 12 0))) else M_6 13 (k) := by rw [eM_10]; exact upd2_s
        refine r_icmp_ne (tgt := 66) hx hb dX6_seatClause_59 (by decide) (by omega) (by omega) (fun c_48 => ?_) (fun c_48 => ?_)
        · refine r_iconst hx hb dX6_seatClause_66 ?_
          refine lv_istore_n (lv' := [(3, .int (iv (0))), (0, .ref (B 0)), (1, .int (iv (k))), (2, .int (iv (skV (M 9) (M 10 0) (M 11 0)))), (4, .int (iv (j)))]) hx hb dX6_seatClause_67 rfl hl (by decide) rfl (fun ls hl => ?_)
          refine lv_iinc (v := iv (j + 6)) (lv' := [(4, .int (iv (j + 6))), (3, .int (iv (0))), (0, .ref (B 0)), (1, .int (iv (k))), (2, .int (iv (skV (M 9) (M 10 0) (M 11 0))))]) hx hb dX6_seatClause_68 hl (k := 4) rfl (iv_add _ _) (by decide) rfl (fun ls hl => ?_)
          refine lv_goto (tgt := 36) hx hb dX6_seatClause_71 (by decide) ?_
          exact ih_36 0 (j + 6) (by omega) (by omega) (by omega) (by rw [show (j + 6) / 6 = j / 6 + 1 by omega, dupV_s _ _ _ (by omega), ← h2, show 6 * (j / 6) = j by omega]; first | exact (if_pos (by omega)).symm | exact (if_neg (by omega)).symm) (by omega) ls (lv_sub hl [2, 3, 4, 1, 0] rfl)
        refine r_iconst hx hb dX6_seatClause_62 ?_
        refine lv_goto (tgt := 67) hx hb dX6_seatClause_63 (by decide) ?_
        refine lv_istore_n (lv' := [(3, .int (iv (1))), (0, .ref (B 0)), (1, .int (iv (k))), (2, .int (iv (skV (M 9) (M 10 0) (M 11 0)))), (4, .int (iv (j)))]) hx hb dX6_seatClause_67 rfl hl (by decide) rfl (fun ls hl => ?_)
        refine lv_iinc (v := iv (j + 6)) (lv' := [(4, .int (iv (j + 6))), (3, .int (iv (1))), (0, .ref (B 0)), (1, .int (iv (k))), (2, .int (iv (skV (M 9) (M 10 0) (M 11 0))))]) hx hb dX6_seatClause_68 hl (k := 4) rfl (iv_add _ _) (by decide) rfl (fun ls hl => ?_)
        refine lv_goto (tgt := 36) hx hb dX6_seatClause_71 (by decide) ?_
        exact ih_36 1 (j + 6) (by omega) (by omega) (by omega) (by rw [show (j + 6) / 6 = j / 6 + 1 by omega, dupV_s _ _ _ (by omega), ← h2, show 6 * (j / 6) = j by omega]; first | exact (if_pos (by omega)).symm | exact (if_neg (by omega)).symm) (by omega) ls (lv_sub hl [2, 3, 4, 1, 0] rfl)
      have ej : j = k := by omega
      rw [ej] at h2
      refine lv_aload_n hx hb dX6_seatClause_74 rfl (lv_at hl 0 rfl) ?_
      refine mg_12 hx hb hts hown hK hP dX6_seatClause_75 ?_
      refine r_top (((show M_10 12 0 = M_6 12 0 from by rw [eM_10]; exact congrFun (upd2_k (by decide)) 0)).trans (pM_12 eM_6)) ?_
      have J_95 : ∀ (M95 : St) (H : Heap) (locs : List Loc) (ls : Array Slot), M95 = rM M (sA1 (M 9) (M 10 0) (dupV (M 13) (numV (M 9) (M 10 0) (skV (M 9) (M 10 0) (M 11 0)) (M 12 0)) (takenV (pw M 0) (numV (M 9) (M 10 0) (skV (M 9) (M 10 0) (M 11 0)) (M 12 0)) (M 7 0)) (k / 6)) (M 11 0) (M 12 0)) (sW1 (M 9) (M 10 0) (dupV (M 13) (numV (M 9) (M 10 0) (skV (M 9) (M 10 0) (M 11 0)) (M 12 0)) (takenV (pw M 0) (numV (M 9) (M 10 0) (skV (M 9) (M 10 0) (M 11 0)) (M 12 0)) (M 7 0)) (k / 6)) (M 11 0) (M 12 0)) ((fset (M 13) k (numV (M 9) (M 10 0) (skV (M 9) (M 10 0) (M 11 0)) (M 12 0)))) → InvM M95 → wP D vwCl (mW cI B M95) H → wD A (mW cI B M95) → va_S A s.heap H locs → lv_has ls 5 [(0, .ref (B 0)), (1, .int (iv (k))), (2, .int (iv (skV (M 9) (M 10 0) (M 11 0)))), (3, .int (iv (taken))), (4, .int (iv (j)))] → W p l e (rmk 3 0 0) s m args below meth c H locs 0 0 Q (F0 m 95 ls []) := by
        intro M95 H locs ls eM95 hIM95 hP hD hS hl
        have f_15 := sW1_01 (M 9) (M 10 0) (dupV (M 13) (numV (M 9) (M 10 0) (skV (M 9) (M 10 0) (M 11 0)) (M 12 0)) (takenV (pw M 0) (numV (M 9) (M 10 0) (skV (M 9) (M 10 0) (M 11 0)) (M 12 0)) (M 7 0)) (k / 6)) (M 11 0) (M 12 0)
        refine lv_aload_n hx hb dX6_seatClause_95 rfl (lv_at hl 0 rfl) ?_
        refine mg_12 hx hb hts hown hK hP dX6_seatClause_96 ?_
        refine r_top ((rM_12 eM95)) ?_
        have J_110 : ∀ (v110 : Int) (M110 : St) (H : Heap) (locs : List Loc) (ls : Array Slot), v110 = sC (M 9) (M 10 0) (dupV (M 13) (numV (M 9) (M 10 0) (skV (M 9) (M 10 0) (M 11 0)) (M 12 0)) (takenV (pw M 0) (numV (M 9) (M 10 0) (skV (M 9) (M 10 0) (M 11 0)) (M 12 0)) (M 7 0)) (k / 6)) (M 11 0) (M 12 0) → M110 = rM M (sA2 (M 9) (M 10 0) (dupV (M 13) (numV (M 9) (M 10 0) (skV (M 9) (M 10 0) (M 11 0)) (M 12 0)) (takenV (pw M 0) (numV (M 9) (M 10 0) (skV (M 9) (M 10 0) (M 11 0)) (M 12 0)) (M 7 0)) (k / 6)) (M 11 0) (M 12 0)) (sW1 (M 9) (M 10 0) (dupV (M 13) (numV (M 9) (M 10 0) (skV (M 9) (M 10 0) (M 11 0)) (M 12 0)) (takenV (pw M 0) (numV (M 9) (M 10 0) (skV (M 9) (M 10 0) (M 11 0)) (M 12 0)) (M 7 0)) (k / 6)) (M 11 0) (M 12 0)) ((fset (M 13) k (numV (M 9) (M 10 0) (skV (M 9) (M 10 0) (M 11 0)) (M 12 0)))) → InvM M110 → wP D vwCl (mW cI B M110) H → wD A (mW cI B M110) → va_S A s.heap H locs → lv_has ls 5 [(0, .ref (B 0)), (1, .int (iv (k))), (2, .int (iv (skV (M 9) (M 10 0) (M 11 0)))), (3, .int (iv (taken))), (4, .int (iv (j)))] → W p l e (rmk 3 0 0) s m args below meth c H locs 0 0 Q (F0 m 110 ls [.int (iv (v110))]) := by
          intro v110 M110 H locs ls ev110 eM110 hIM110 hP hD hS hl
          subst ev110
          have f_16 := sC_r (T := M 9) (fun j => iM_9 hI j) (M 10 0) (dupV (M 13) (numV (M 9) (M 10 0) (skV (M 9) (M 10 0) (M 11 0)) (M 12 0)) (takenV (pw M 0) (numV (M 9) (M 10 0) (skV (M 9) (M 10 0) (M 11 0)) (M 12 0)) (M 7 0)) (k / 6)) (M 11 0) (M 12 0)
          refine lv_istore (lv' := [(4, .int (iv (sC (M 9) (M 10 0) (dupV (M 13) (numV (M 9) (M 10 0) (skV (M 9) (M 10 0) (M 11 0)) (M 12 0)) (takenV (pw M 0) (numV (M 9) (M 10 0) (skV (M 9) (M 10 0) (M 11 0)) (M 12 0)) (M 7 0)) (k / 6)) (M 11 0) (M 12 0)))), (0, .ref (B 0)), (1, .int (iv (k))), (2, .int (iv (skV (M 9) (M 10 0) (M 11 0)))), (3, .int (iv (taken)))]) hx hb dX6_seatClause_110 hl (by decide) rfl (fun ls hl => ?_)
          refine lv_aload_n hx hb dX6_seatClause_112 rfl (lv_at hl 1 rfl) ?_
          refine mg_13 hx hb hts hown hK hP dX6_seatClause_113 ?_
          refine lv_iload_n hx hb dX6_seatClause_116 rfl (lv_at hl 2 rfl) ?_
          refine r_iconst hx hb dX6_seatClause_117 ?_
          refine r_iadd hx hb dX6_seatClause_118 ?_
          refine lv_iload hx hb dX6_seatClause_119 (lv_at hl 0 rfl) ?_
          refine r_bipush hx hb (by decide) dX6_seatClause_121 ?_
          have J_165 : ∀ (v165 : Int) (M165 : St) (H : Heap) (locs : List Loc) (ls : Array Slot), v165 = sK (M 9) (M 10 0) (dupV (M 13) (numV (M 9) (M 10 0) (skV (M 9) (M 10 0) (M 11 0)) (M 12 0)) (takenV (pw M 0) (numV (M 9) (M 10 0) (skV (M 9) (M 10 0) (M 11 0)) (M 12 0)) (M 7 0)) (k / 6)) (M 11 0) (M 12 0) → M165 = rM M (sA2 (M 9) (M 10 0) (dupV (M 13) (numV (M 9) (M 10 0) (skV (M 9) (M 10 0) (M 11 0)) (M 12 0)) (takenV (pw M 0) (numV (M 9) (M 10 0) (skV (M 9) (M 10 0) (M 11 0)) (M 12 0)) (M 7 0)) (k / 6)) (M 11 0) (M 12 0)) (sW1 (M 9) (M 10 0) (dupV (M 13) (numV (M 9) (M 10 0) (skV (M 9) (M 10 0) (M 11 0)) (M 12 0)) (takenV (pw M 0) (numV (M 9) (M 10 0) (skV (M 9) (M 10 0) (M 11 0)) (M 12 0)) (M 7 0)) (k / 6)) (M 11 0) (M 12 0)) ((fset (M 13) k (numV (M 9) (M 10 0) (skV (M 9) (M 10 0) (M 11 0)) (M 12 0)))) → InvM M165 → wP D vwCl (mW cI B M165) H → wD A (mW cI B M165) → va_S A s.heap H locs → lv_has ls 5 [(4, .int (iv (sC (M 9) (M 10 0) (dupV (M 13) (numV (M 9) (M 10 0) (skV (M 9) (M 10 0) (M 11 0)) (M 12 0)) (takenV (pw M 0) (numV (M 9) (M 10 0) (skV (M 9) (M 10 0) (M 11 0)) (M 12 0)) (M 7 0)) (k / 6)) (M 11 0) (M 12 0)))), (0, .ref (B 0)), (1, .int (iv (k))), (2, .int (iv (skV (M 9) (M 10 0) (M 11 0)))), (3, .int (iv (taken)))] → W p l e (rmk 3 0 0) s m args below meth c H locs 0 0 Q (F0 m 165 ls [.int (iv (v165)), .int (iv (k + 1)), .ref (B 14)]) := by
            intro v165 M165 H locs ls ev165 eM165 hIM165 hP hD hS hl
            subst ev165
            have f_17 := (show (0 ≤ sK (M 9) (M 10 0) (dupV (M 13) (numV (M 9) (M 10 0) (skV (M 9) (M 10 0) (M 11 0)) (M 12 0)) (takenV (pw M 0) (numV (M 9) (M 10 0) (skV (M 9) (M 10 0) (M 11 0)) (M 12 0)) (M 7 0)) (k / 6)) (M 11 0) (M 12 0) ∧ sK (M 9) (M 10 0) (dupV (M 13) (numV (M 9) (M 10 0) (skV (M 9) (M 10 0) (M 11 0)) (M 12 0)) (takenV (pw M 0) (numV (M 9) (M 10 0) (skV (M 9) (M 10 0) (M 11 0)) (M 12 0)) (M 7 0)) (k / 6)) (M 11 0) (M 12 0) ≤ 3) ∨ sK (M 9) (M 10 0) (dupV (M 13) (numV (M 9) (M 10 0) (skV (M 9) (M 10 0) (M 11 0)) (M 12 0)) (takenV (pw M 0) (numV (M 9) (M 10 0) (skV (M 9) (M 10 0) (M 11 0)) (M 12 0)) (M 7 0)) (k / 6)) (M 11 0) (M 12 0) = -4 from kdV_r _)
            refine m_ast hx hb hK hP hD hS 13 (n := 48) rfl (by decide) (by omega) dX6_seatClause_165 (fun M_18 eM_18 H locs hP hD hS => ?_)
            have hIM_18 : InvM M_18 := iMs_13 hIM165 eM_18 (by omega)
            refine lv_aload_n hx hb dX6_seatClause_166 rfl (lv_at hl 1 rfl) ?_
            refine lv_aload_n hx hb dX6_seatClause_167 rfl (lv_at hl 1 rfl) ?_
            refine mg_12 hx hb hts hown hK hP dX6_seatClause_168 ?_
            refine r_top (((show M_18 12 0 = M165 12 0 from by rw [eM_18]; exact congrFun (upd2_k (by decide)) 0)).trans (rM_12 eM165)) ?_
            have J_190 : ∀ (v190 : Int) (M190 : St) (H : Heap) (locs : List Loc) (ls : Array Slot), v190 = sW3 (M 9) (M 10 0) (dupV (M 13) (numV (M 9) (M 10 0) (skV (M 9) (M 10 0) (M 11 0)) (M 12 0)) (takenV (pw M 0) (numV (M 9) (M 10 0) (skV (M 9) (M 10 0) (M 11 0)) (M 12 0)) (M 7 0)) (k / 6)) (M 11 0) (M 12 0) → M190 = rM M (sA2 (M 9) (M 10 0) (dupV (M 13) (numV (M 9) (M 10 0) (skV (M 9) (M 10 0) (M 11 0)) (M 12 0)) (takenV (pw M 0) (numV (M 9) (M 10 0) (skV (M 9) (M 10 0) (M 11 0)) (M 12 0)) (M 7 0)) (k / 6)) (M 11 0) (M 12 0)) (sW1 (M 9) (M 10 0) (dupV (M 13) (numV (M 9) (M 10 0) (skV (M 9) (M 10 0) (M 11 0)) (M 12 0)) (takenV (pw M 0) (numV (M 9) (M 10 0) (skV (M 9) (M 10 0) (M 11 0)) (M 12 0)) (M 7 0)) (k / 6)) (M 11 0) (M 12 0)) ((fset (fset (M 13) k (numV (M 9) (M 10 0) (skV (M 9) (M 10 0) (M 11 0)) (M 12 0))) (k + 1) (sK (M 9) (M 10 0) (dupV (M 13) (numV (M 9) (M 10 0) (skV (M 9) (M 10 0) (M 11 0)) (M 12 0)) (takenV (pw M 0) (numV (M 9) (M 10 0) (skV (M 9) (M 10 0) (M 11 0)) (M 12 0)) (M 7 0)) (k / 6)) (M 11 0) (M 12 0)))) → InvM M190 → wP D vwCl (mW cI B M190) H → wD A (mW cI B M190) → va_S A s.heap H locs → lv_has ls 5 [(4, .int (iv (sC (M 9) (M 10 0) (dupV (M 13) (numV (M 9) (M 10 0) (skV (M 9) (M 10 0) (M 11 0)) (M 12 0)) (takenV (pw M 0) (numV (M 9) (M 10 0) (skV (M 9) (M 10 0) (M 11 0)) (M 12 0)) (M 7 0)) (k / 6)) (M 11 0) (M 12 0)))), (0, .ref (B 0)), (1, .int (iv (k))), (2, .int (iv (skV (M 9) (M 10 0) (M 11 0)))), (3, .int (iv (taken)))] → W p l e (rmk 3 0 0) s m args below meth c H locs 0 0 Q (F0 m 190 ls [.int (iv (v190)), .ref (B 0)]) := by
              intro v190 M190 H locs ls ev190 eM190 hIM190 hP hD hS hl
              subst ev190
              have f_19 := sW3_01 (M 9) (M 10 0) (dupV (M 13) (numV (M 9) (M 10 0) (skV (M 9) (M 10 0) (M 11 0)) (M 12 0)) (takenV (pw M 0) (numV (M 9) (M 10 0) (skV (M 9) (M 10 0) (M 11 0)) (M 12 0)) (M 7 0)) (k / 6)) (M 11 0) (M 12 0)
              have f_20 := sA3_r (M 9) (M 10 0) (dupV (M 13) (numV (M 9) (M 10 0) (skV (M 9) (M 10 0) (M 11 0)) (M 12 0)) (takenV (pw M 0) (numV (M 9) (M 10 0) (skV (M 9) (M 10 0) (M 11 0)) (M 12 0)) (M 7 0)) (k / 6)) (M 11 0) (M 12 0)
              have q190 := iM_11 hIM190 0
              rw [rM_11 eM190] at q190
              refine mp_12 hx hb hts hown hK hP hD hS (by omega) dX6_seatClause_190 (fun M_21 eM_21 H locs hP hD hS => ?_)
              have hIM_21 : InvM M_21 := iMs_12 hIM190 eM_21 (by omega)
              refine lv_aload_n hx hb dX6_seatClause_193 rfl (lv_at hl 1 rfl) ?_
              refine lv_dup hx hb dX6_seatClause_194 rfl ?_
              refine mg_11 hx hb hts hown hK hP dX6_seatClause_195 ?_
              refine r_top (((show M_21 11 0 = M190 11 0 from by rw [eM_21]; exact congrFun (upd2_k (by decide)) 0)).trans (rM_11 eM190)) ?_
              refine lv_aload_n hx hb dX6_seatClause_198 rfl (lv_at hl 1 rfl) ?_
              refine mg_12 hx hb hts hown hK hP dX6_seatClause_199 ?_
              refine r_top ((show M_21 12 0 = sW3 (M 9) (M 10 0) (dupV (M 13) (numV (M 9) (M 10 0) (skV (M 9) (M 10 0) (M 11 0)) (M 12 0)) (takenV (pw M 0) (numV (M 9) (M 10 0) (skV (M 9) (M 10 0) (M 11 0)) (M 12 0)) (M 7 0)) (k / 6)) (M 11 0) (M 12 0) from by rw [eM_21]; exact upd2_e)) ?_
              refine r_if_eq (tgt := 209) hx hb dX6_seatClause_202 (by decide) (by omega) (fun c_22 => ?_) (fun c_22 => ?_)
              · refine r_iconst hx hb dX6_seatClause_209 ?_
                refine r_iadd hx hb dX6_seatClause_210 ?_
                refine mp_11 hx hb hts hown hK hP hD hS dX6_seatClause_211 (fun M_23 eM_23 H locs hP hD hS => ?_)
                have hIM_23 : InvM M_23 := iMs_11 hIM_21 eM_23 (by omega)
                exact r_vretS hx hb hr hlk hQ M_23 ⟨rM_eq (rM_u (rM_v eM190 eM_21) eM_23) (by unfold sA3; first | exact ((if_neg (by omega)).trans (by omega)).symm | exact ((if_pos (by omega)).trans (by omega)).symm) rfl rfl, hIM_23⟩ (fun t ht _ => ⟨by rw [ht]; exact hP, hD⟩) hS dX6_seatClause_214
              refine r_iconst hx hb dX6_seatClause_205 ?_
              refine lv_goto (tgt := 210) hx hb dX6_seatClause_206 (by decide) ?_
              refine r_iadd hx hb dX6_seatClause_210 ?_
              refine mp_11 hx hb hts hown hK hP hD hS dX6_seatClause_211 (fun M_24 eM_24 H locs hP hD hS => ?_)
              have hIM_24 : InvM M_24 := iMs_11 hIM_21 eM_24 (by omega)
              exact r_vretS hx hb hr hlk hQ M_24 ⟨rM_eq (rM_u (rM_v eM190 eM_21) eM_24) (by unfold sA3; first | exact ((if_neg (by omega)).trans (by omega)).symm | exact ((if_pos (by omega)).trans (by omega)).symm) rfl rfl, hIM_24⟩ (fun t ht _ => ⟨by rw [ht]; exact hP, hD⟩) hS dX6_seatClause_214
            refine r_if_ne (tgt := 185) hx hb dX6_seatClause_171 (by decide) (by omega) (fun c_25 => ?_) (fun c_25 => ?_)
            · refine r_iconst hx hb dX6_seatClause_185 ?_
              refine lv_goto (tgt := 190) hx hb dX6_seatClause_186 (by decide) ?_
              exact J_190 (1) M_18 H locs ls (by first | rfl | ((try unfold sW3); first | exact (if_neg (by omega)).symm | exact (if_pos (by omega)).symm | omega)) (rM_eq (rM_u13 eM165 eM_18) (by first | rfl | ((try unfold sW3); first | exact (if_neg (by omega)).symm | exact (if_pos (by omega)).symm | omega)) (by first | rfl | ((try unfold sW3); first | exact (if_neg (by omega)).symm | exact (if_pos (by omega)).symm | omega)) rfl) hIM_18 hP hD hS (lv_sub hl [0, 1, 2, 3, 4] rfl)
            refine lv_aload_n hx hb dX6_seatClause_174 rfl (lv_at hl 1 rfl) ?_
            refine mg_13 hx hb hts hown hK hP dX6_seatClause_175 ?_
            refine lv_iload_n hx hb dX6_seatClause_178 rfl (lv_at hl 2 rfl) ?_
            refine r_iconst hx hb dX6_seatClause_179 ?_
            refine r_iadd hx hb dX6_seatClause_180 ?_
            refine m_ald hx hb hK hP 13 (n := 48) rfl (by decide) (by omega) dX6_seatClause_181 ?_
            have b_26 := iM_13 (M := M_18) hIM_18 (k + 1)
            have w_27 : M_18 13 (k + 1) = if (k + 1) = (k + 1) then (sK (M 9) (M 10 0) (dupV (M 13) (numV (M 9) (M 10 0) (skV (M 9) (M 10 0) (M 11 0)) (M 12 0)) (takenV (pw M 0) (numV (M 9) (M 10 0) (skV (M 9) (M 10 0) (M 11 0)) (M 12 0)) (M 7 0)) (k / 6)) (M 11 0) (M 12 0)) else M165 13 (k + 1) := by rw [eM_18]; exact upd2_s
            refine r_if_ge (tgt := 189) hx hb dX6_seatClause_182 (by decide) (by omega) (fun c_28 => ?_) (fun c_28 => ?_)
            · refine r_iconst hx hb dX6_seatClause_189 ?_
              exact J_190 (0) M_18 H locs ls (by first | rfl | ((try unfold sW3); first | exact (if_neg (by omega)).symm | exact (if_pos (by omega)).symm | omega)) (rM_eq (rM_u13 eM165 eM_18) (by first | rfl | ((try unfold sW3); first | exact (if_neg (by omega)).symm | exact (if_pos (by omega)).symm | omega)) (by first | rfl | ((try unfold sW3); first | exact (if_neg (by omega)).symm | exact (if_pos (by omega)).symm | omega)) rfl) hIM_18 hP hD hS (lv_sub hl [0, 1, 2, 3, 4] rfl)
            refine r_iconst hx hb dX6_seatClause_185 ?_
            refine lv_goto (tgt := 190) hx hb dX6_seatClause_186 (by decide) ?_
            exact J_190 (1) M_18 H locs ls (by first | rfl | ((try unfold sW3); first | exact (if_neg (by omega)).symm | exact (if_pos (by omega)).symm | omega)) (rM_eq (rM_u13 eM165 eM_18) (by first | rfl | ((try unfold sW3); first | exact (if_neg (by omega)).symm | exact (if_pos (by omega)).symm | omega)) (by first | rfl | ((try unfold sW3); first | exact (if_neg (by omega)).symm | exact (if_pos (by omega)).symm | omega)) rfl) hIM_18 hP hD hS (lv_sub hl [0, 1, 2, 3, 4] rfl)
          refine r_icmp_ne (tgt := 130) hx hb dX6_seatClause_123 (by decide) (by omega) (by omega) (fun c_29 => ?_) (fun c_29 => ?_)
          rotate_left
          · refine r_iconst hx hb dX6_seatClause_126 ?_
            refine lv_goto (tgt := 165) hx hb dX6_seatClause_127 (by decide) ?_
            exact J_165 (0) M110 H locs ls (by first | rfl | (unfold sK kdV; first | (rw [if_pos (by omega)]; done) | (rw [if_neg (by omega), if_pos (by omega)]; done) | (rw [if_neg (by omega), if_neg (by omega), if_pos (by omega)]; done) | (rw [if_neg (by omega), if_neg (by omega), if_neg (by omega), if_pos (by omega)]; done) | (rw [if_neg (by omega), if_neg (by omega), if_neg (by omega), if_neg (by omega)]; done))) (rM_eq eM110 (by first | rfl | (unfold sK kdV; first | (rw [if_pos (by omega)]; done) | (rw [if_neg (by omega), if_pos (by omega)]; done) | (rw [if_neg (by omega), if_neg (by omega), if_pos (by omega)]; done) | (rw [if_neg (by omega), if_neg (by omega), if_neg (by omega), if_pos (by omega)]; done) | (rw [if_neg (by omega), if_neg (by omega), if_neg (by omega), if_neg (by omega)]; done))) (by first | rfl | (unfold sK kdV; first | (rw [if_pos (by omega)]; done) | (rw [if_neg (by omega), if_pos (by omega)]; done) | (rw [if_neg (by omega), if_neg (by omega), if_pos (by omega)]; done) | (rw [if_neg (by omega), if_neg (by omega), if_neg (by omega), if_pos (by omega)]; done) | (rw [if_neg (by omega), if_neg (by omega), if_neg (by omega), if_neg (by omega)]; done))) rfl) hIM110 hP hD hS (lv_sub hl [0, 1, 2, 3, 4] rfl)
          refine lv_iload hx hb dX6_seatClause_130 (lv_at hl 0 rfl) ?_
          refine r_bipush hx hb (by decide) dX6_seatClause_132 ?_
          refine r_icmp_ne (tgt := 141) hx hb dX6_seatClause_134 (by decide) (by omega) (by omega) (fun c_30 => ?_) (fun c_30 => ?_)
          rotate_left
          · refine r_iconst hx hb dX6_seatClause_137 ?_
            refine lv_goto (tgt := 165) hx hb dX6_seatClause_138 (by decide) ?_
            exact J_165 (1) M110 H locs ls (by first | rfl | (unfold sK kdV; first | (rw [if_pos (by omega)]; done) | (rw [if_neg (by omega), if_pos (by omega)]; done) | (rw [if_neg (by omega), if_neg (by omega), if_pos (by omega)]; done) | (rw [if_neg (by omega), if_neg (by omega), if_neg (by omega), if_pos (by omega)]; done) | (rw [if_neg (by omega), if_neg (by omega), if_neg (by omega), if_neg (by omega)]; done))) (rM_eq eM110 (by first | rfl | (unfold sK kdV; first | (rw [if_pos (by omega)]; done) | (rw [if_neg (by omega), if_pos (by omega)]; done) | (rw [if_neg (by omega), if_neg (by omega), if_pos (by omega)]; done) | (rw [if_neg (by omega), if_neg (by omega), if_neg (by omega), if_pos (by omega)]; done) | (rw [if_neg (by omega), if_neg (by omega), if_neg (by omega), if_neg (by omega)]; done))) (by first | rfl | (unfold sK kdV; first | (rw [if_pos (by omega)]; done) | (rw [if_neg (by omega), if_pos (by omega)]; done) | (rw [if_neg (by omega), if_neg (by omega), if_pos (by omega)]; done) | (rw [if_neg (by omega), if_neg (by omega), if_neg (by omega), if_pos (by omega)]; done) | (rw [if_neg (by omega), if_neg (by omega), if_neg (by omega), if_neg (by omega)]; done))) rfl) hIM110 hP hD hS (lv_sub hl [0, 1, 2, 3, 4] rfl)
          refine lv_iload hx hb dX6_seatClause_141 (lv_at hl 0 rfl) ?_
          refine r_bipush hx hb (by decide) dX6_seatClause_143 ?_
          refine r_icmp_ne (tgt := 152) hx hb dX6_seatClause_145 (by decide) (by omega) (by omega) (fun c_31 => ?_) (fun c_31 => ?_)
          rotate_left
          · refine r_iconst hx hb dX6_seatClause_148 ?_
            refine lv_goto (tgt := 165) hx hb dX6_seatClause_149 (by decide) ?_
            exact J_165 (2) M110 H locs ls (by first | rfl | (unfold sK kdV; first | (rw [if_pos (by omega)]; done) | (rw [if_neg (by omega), if_pos (by omega)]; done) | (rw [if_neg (by omega), if_neg (by omega), if_pos (by omega)]; done) | (rw [if_neg (by omega), if_neg (by omega), if_neg (by omega), if_pos (by omega)]; done) | (rw [if_neg (by omega), if_neg (by omega), if_neg (by omega), if_neg (by omega)]; done))) (rM_eq eM110 (by first | rfl | (unfold sK kdV; first | (rw [if_pos (by omega)]; done) | (rw [if_neg (by omega), if_pos (by omega)]; done) | (rw [if_neg (by omega), if_neg (by omega), if_pos (by omega)]; done) | (rw [if_neg (by omega), if_neg (by omega), if_neg (by omega), if_pos (by omega)]; done) | (rw [if_neg (by omega), if_neg (by omega), if_neg (by omega), if_neg (by omega)]; done))) (by first | rfl | (unfold sK kdV; first | (rw [if_pos (by omega)]; done) | (rw [if_neg (by omega), if_pos (by omega)]; done) | (rw [if_neg (by omega), if_neg (by omega), if_pos (by omega)]; done) | (rw [if_neg (by omega), if_neg (by omega), if_neg (by omega), if_pos (by omega)]; done) | (rw [if_neg (by omega), if_neg (by omega), if_neg (by omega), if_neg (by omega)]; done))) rfl) hIM110 hP hD hS (lv_sub hl [0, 1, 2, 3, 4] rfl)
          refine lv_iload hx hb dX6_seatClause_152 (lv_at hl 0 rfl) ?_
          refine r_bipush hx hb (by decide) dX6_seatClause_154 ?_
          refine r_icmp_ne (tgt := 163) hx hb dX6_seatClause_156 (by decide) (by omega) (by omega) (fun c_32 => ?_) (fun c_32 => ?_)
          · refine r_bipush hx hb (by decide) dX6_seatClause_163 ?_
            exact J_165 (-4) M110 H locs ls (by first | rfl | (unfold sK kdV; first | (rw [if_pos (by omega)]; done) | (rw [if_neg (by omega), if_pos (by omega)]; done) | (rw [if_neg (by omega), if_neg (by omega), if_pos (by omega)]; done) | (rw [if_neg (by omega), if_neg (by omega), if_neg (by omega), if_pos (by omega)]; done) | (rw [if_neg (by omega), if_neg (by omega), if_neg (by omega), if_neg (by omega)]; done))) (rM_eq eM110 (by first | rfl | (unfold sK kdV; first | (rw [if_pos (by omega)]; done) | (rw [if_neg (by omega), if_pos (by omega)]; done) | (rw [if_neg (by omega), if_neg (by omega), if_pos (by omega)]; done) | (rw [if_neg (by omega), if_neg (by omega), if_neg (by omega), if_pos (by omega)]; done) | (rw [if_neg (by omega), if_neg (by omega), if_neg (by omega), if_neg (by omega)]; done))) (by first | rfl | (unfold sK kdV; first | (rw [if_pos (by omega)]; done) | (rw [if_neg (by omega), if_pos (by omega)]; done) | (rw [if_neg (by omega), if_neg (by omega), if_pos (by omega)]; done) | (rw [if_neg (by omega), if_neg (by omega), if_neg (by omega), if_pos (by omega)]; done) | (rw [if_neg (by omega), if_neg (by omega), if_neg (by omega), if_neg (by omega)]; done))) rfl) hIM110 hP hD hS (lv_sub hl [0, 1, 2, 3, 4] rfl)
          refine r_iconst hx hb dX6_seatClause_159 ?_
          refine lv_goto (tgt := 165) hx hb dX6_seatClause_160 (by decide) ?_
          exact J_165 (3) M110 H locs ls (by first | rfl | (unfold sK kdV; first | (rw [if_pos (by omega)]; done) | (rw [if_neg (by omega), if_pos (by omega)]; done) | (rw [if_neg (by omega), if_neg (by omega), if_pos (by omega)]; done) | (rw [if_neg (by omega), if_neg (by omega), if_neg (by omega), if_pos (by omega)]; done) | (rw [if_neg (by omega), if_neg (by omega), if_neg (by omega), if_neg (by omega)]; done))) (rM_eq eM110 (by first | rfl | (unfold sK kdV; first | (rw [if_pos (by omega)]; done) | (rw [if_neg (by omega), if_pos (by omega)]; done) | (rw [if_neg (by omega), if_neg (by omega), if_pos (by omega)]; done) | (rw [if_neg (by omega), if_neg (by omega), if_neg (by omega), if_pos (by omega)]; done) | (rw [if_neg (by omega), if_neg (by omega), if_neg (by omega), if_neg (by omega)]; done))) (by first | rfl | (unfold sK kdV; first | (rw [if_pos (by omega)]; done) | (rw [if_neg (by omega), if_pos (by omega)]; done) | (rw [if_neg (by omega), if_neg (by omega), if_pos (by omega)]; done) | (rw [if_neg (by omega), if_neg (by omega), if_neg (by omega), if_pos (by omega)]; done) | (rw [if_neg (by omega), if_neg (by omega), if_neg (by omega), if_neg (by omega)]; done))) rfl) hIM110 hP hD hS (lv_sub hl [0, 1, 2, 3, 4] rfl)
        refine r_if_eq (tgt := 106) hx hb dX6_seatClause_99 (by decide) (by omega) (fun c_33 => ?_) (fun c_33 => ?_)
        rotate_left
        · refine r_iconst hx hb dX6_seatClause_102 ?_
          refine lv_goto (tgt := 110) hx hb dX6_seatClause_103 (by decide) ?_
          exact J_110 (0) M95 H locs ls (by first | rfl | ((try unfold sC); (try unfold sA2); first | exact (if_neg (by omega)).symm | exact (if_pos (by omega)).symm | omega)) (rM_eq eM95 (by first | rfl | ((try unfold sC); (try unfold sA2); first | exact (if_neg (by omega)).symm | exact (if_pos (by omega)).symm | omega)) (by first | rfl | ((try unfold sC); (try unfold sA2); first | exact (if_neg (by omega)).symm | exact (if_pos (by omega)).symm | omega)) rfl) hIM95 hP hD hS (lv_sub hl [0, 1, 2, 3, 4] rfl)
        refine lv_aload_n hx hb dX6_seatClause_106 rfl (lv_at hl 0 rfl) ?_
        refine m_cI ⟨hx, hb, hml, hown, hts⟩ (m_here hIM95  ) (cwV 0 hts (lw_V q1192 q1194 qs34 q60 q1195) rfl rfl rfl hdV_X6_here ⟨Nat.le_of_ble_eq_true rfl, Nat.le_of_ble_eq_true rfl⟩) hK hP hD hS rfl hl.1 rfl (Nat.le_of_ble_eq_true rfl) ⟨Nat.le_of_ble_eq_true rfl, Nat.le_of_ble_eq_true rfl⟩ dX6_seatClause_107 (fun r_35 M_34 H locs hq hP hD hS => ?_)
        obtain ⟨er_35, eM_34, hIM_34⟩ := hq
        have q9 := (show M95 9 = M 9 from rM_x eM95 9 (by decide))
        have q10 := congrFun ((show M95 10 = M 10 from rM_x eM95 10 (by decide))) 0
        have q11 := (rM_11 eM95)
        have q12 := (rM_12 eM95)
        simp only [q9, q10, q11, q12] at er_35
        simp only [q9, q10, q11, q12] at eM_34
        subst er_35
        have f_36 := skV_r (M 9) (M 10 0) (sA1 (M 9) (M 10 0) (dupV (M 13) (numV (M 9) (M 10 0) (skV (M 9) (M 10 0) (M 11 0)) (M 12 0)) (takenV (pw M 0) (numV (M 9) (M 10 0) (skV (M 9) (M 10 0) (M 11 0)) (M 12 0)) (M 7 0)) (k / 6)) (M 11 0) (M 12 0))
        have f_37 := iM_9 hI (skV (M 9) (M 10 0) (sA1 (M 9) (M 10 0) (dupV (M 13) (numV (M 9) (M 10 0) (skV (M 9) (M 10 0) (M 11 0)) (M 12 0)) (takenV (pw M 0) (numV (M 9) (M 10 0) (skV (M 9) (M 10 0) (M 11 0)) (M 12 0)) (M 7 0)) (k / 6)) (M 11 0) (M 12 0)))
        have f_38 := (show chV (M 9) (M 10 0) (skV (M 9) (M 10 0) (sA1 (M 9) (M 10 0) (dupV (M 13) (numV (M 9) (M 10 0) (skV (M 9) (M 10 0) (M 11 0)) (M 12 0)) (takenV (pw M 0) (numV (M 9) (M 10 0) (skV (M 9) (M 10 0) (M 11 0)) (M 12 0)) (M 7 0)) (k / 6)) (M 11 0) (M 12 0))) = if skV (M 9) (M 10 0) (sA1 (M 9) (M 10 0) (dupV (M 13) (numV (M 9) (M 10 0) (skV (M 9) (M 10 0) (M 11 0)) (M 12 0)) (takenV (pw M 0) (numV (M 9) (M 10 0) (skV (M 9) (M 10 0) (M 11 0)) (M 12 0)) (M 7 0)) (k / 6)) (M 11 0) (M 12 0)) < M 10 0 then M 9 (skV (M 9) (M 10 0) (sA1 (M 9) (M 10 0) (dupV (M 13) (numV (M 9) (M 10 0) (skV (M 9) (M 10 0) (M 11 0)) (M 12 0)) (takenV (pw M 0) (numV (M 9) (M 10 0) (skV (M 9) (M 10 0) (M 11 0)) (M 12 0)) (M 7 0)) (k / 6)) (M 11 0) (M 12 0))) else 0 from rfl)
        exact J_110 (chV (M 9) (M 10 0) (skV (M 9) (M 10 0) (sA1 (M 9) (M 10 0) (dupV (M 13) (numV (M 9) (M 10 0) (skV (M 9) (M 10 0) (M 11 0)) (M 12 0)) (takenV (pw M 0) (numV (M 9) (M 10 0) (skV (M 9) (M 10 0) (M 11 0)) (M 12 0)) (M 7 0)) (k / 6)) (M 11 0) (M 12 0)))) M_34 H locs ls (by first | rfl | ((try unfold sC); (try unfold sA2); first | exact (if_neg (by omega)).symm | exact (if_pos (by omega)).symm | omega)) (rM_eq (rM_pc eM95 eM_34) (by first | rfl | ((try unfold sC); (try unfold sA2); first | exact (if_neg (by omega)).symm | exact (if_pos (by omega)).symm | omega)) (by first | rfl | ((try unfold sC); (try unfold sA2); first | exact (if_neg (by omega)).symm | exact (if_pos (by omega)).symm | omega)) rfl) hIM_34 hP hD hS (lv_sub hl [0, 1, 2, 3, 4] rfl)
      refine r_if_ne (tgt := 95) hx hb dX6_seatClause_78 (by decide) (by omega) (fun c_39 => ?_) (fun c_39 => ?_)
      · exact J_95 M_10 H locs ls (rM_eq (rM_u13 (rM_pc (rM_pc (rM_self M).symm eM_1) eM_6) eM_10) (by first | rfl | ((try unfold sA1); (try unfold sW1); (try unfold sA0); (try unfold sW0); first | exact (if_neg (by omega)).symm | exact (if_pos (by omega)).symm | omega)) (by first | rfl | ((try unfold sA1); (try unfold sW1); (try unfold sA0); (try unfold sW0); first | exact (if_neg (by omega)).symm | exact (if_pos (by omega)).symm | omega)) rfl) hIM_10 hP hD hS (lv_sub hl [0, 1, 2, 3, 4] rfl)
      refine lv_iload_n hx hb dX6_seatClause_81 rfl (lv_at hl 3 rfl) ?_
      refine r_if_eq (tgt := 95) hx hb dX6_seatClause_82 (by decide) (by omega) (fun c_40 => ?_) (fun c_40 => ?_)
      · exact J_95 M_10 H locs ls (rM_eq (rM_u13 (rM_pc (rM_pc (rM_self M).symm eM_1) eM_6) eM_10) (by first | rfl | ((try unfold sA1); (try unfold sW1); (try unfold sA0); (try unfold sW0); first | exact (if_neg (by omega)).symm | exact (if_pos (by omega)).symm | omega)) (by first | rfl | ((try unfold sA1); (try unfold sW1); (try unfold sA0); (try unfold sW0); first | exact (if_neg (by omega)).symm | exact (if_pos (by omega)).symm | omega)) rfl) hIM_10 hP hD hS (lv_sub hl [0, 1, 2, 3, 4] rfl)
      refine lv_aload_n hx hb dX6_seatClause_85 rfl (lv_at hl 0 rfl) ?_
      refine r_iconst hx hb dX6_seatClause_86 ?_
      refine mp_12 hx hb hts hown hK hP hD hS (by decide) dX6_seatClause_87 (fun M_41 eM_41 H locs hP hD hS => ?_)
      have hIM_41 : InvM M_41 := iMs_12 hIM_10 eM_41 (by omega)
      refine lv_aload_n hx hb dX6_seatClause_90 rfl (lv_at hl 0 rfl) ?_
      refine lv_iload_n hx hb dX6_seatClause_91 rfl (lv_at hl 2 rfl) ?_
      refine mp_11 hx hb hts hown hK hP hD hS dX6_seatClause_92 (fun M_42 eM_42 H locs hP hD hS => ?_)
      have hIM_42 : InvM M_42 := iMs_11 hIM_41 eM_42 (by omega)
      exact J_95 M_42 H locs ls (rM_eq (rM_u (rM_v (rM_u13 (rM_pc (rM_pc (rM_self M).symm eM_1) eM_6) eM_10) eM_41) eM_42) (by first | rfl | ((try unfold sA1); (try unfold sW1); (try unfold sA0); (try unfold sW0); first | exact (if_neg (by omega)).symm | exact (if_pos (by omega)).symm | omega)) (by first | rfl | ((try unfold sA1); (try unfold sW1); (try unfold sA0); (try unfold sW0); first | exact (if_neg (by omega)).symm | exact (if_pos (by omega)).symm | omega)) rfl) hIM_42 hP hD hS (lv_sub hl [0, 1, 2, 3, 4] rfl)
  exact lp_36 (k - 0 + 1 : Int).toNat tk 0 (by omega) (by omega) (by omega) (by rw [← etk2]; exact dupV_0 _ _ _) (by omega) ls (lv_sub hl [3, 4, 2, 1, 0] rfl)
