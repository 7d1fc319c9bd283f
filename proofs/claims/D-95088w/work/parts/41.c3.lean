set_option maxRecDepth 100000
set_option maxHeartbeats 4000000 in
set_option maxRecDepth 100000 in
theorem c_canSee {l : Launch} {D : va_G} {cs : Nat → ClassId} {B : Nat → Nat} {e0 : Nat} {A : Nat → Prop} {M : St} (hI : InvX M) {r : Nat} (h_r : r < 3) {seat : Int} {place : Int} {column : Int} (g_seat : 0 ≤ seat ∧ seat ≤ 2147483647) (g_place : -2147483648 ≤ place ∧ place ≤ 2147483647) (g_column : 0 ≤ column ∧ column ≤ 3) : Met l yX1_canSee (ws_ yX1_canSee cX1_canSee 5 (some .boolean)) (rmk 1 0 0) (va_Pc [.ref (B (1 + r)), .int (iv seat), .int (iv place), .int (iv column)] (xU D cs B e0 A M)) (QcRead (iv (bi (sightV seat place column)))) 0 0 (fun _ => False) := by
  refine r_met (by decide) _ rfl (Nat.le_of_ble_eq_true rfl) ?_
  intro p e s m args below meth c Q ls hx hb hr hlk hml hown hts hpre hQ hl
  obtain ⟨hP, hD, hk0⟩ := hpre
  have hS : va_S A s.heap s.heap [] := va_S.rf
  have hown : s.vm.findClass RX1 = some m.cls := hown
  have hl : lv_has ls 5 [(0, .ref (B (1 + r))), (1, .int (iv (seat))), (2, .int (iv (place))), (3, .int (iv (column)))] := hl
  refine lv_iload_n hx hb dX1_canSee_0 rfl (lv_at hl 1 rfl) ?_
  refine r_iconst hx hb dX1_canSee_1 ?_
  refine r_irem hx hb (by omega) (by omega) dX1_canSee_2 ?_
  refine lv_istore (lv' := [(4, .int (iv (seat % 4))), (0, .ref (B (1 + r))), (1, .int (iv (seat))), (2, .int (iv (place))), (3, .int (iv (column)))]) hx hb dX1_canSee_3 hl (by decide) rfl (fun ls hl => ?_)
  refine lv_iload_n hx hb dX1_canSee_5 rfl (lv_at hl 3 rfl) ?_
  have J_4 : ∀ (v_2 : Int) (ls : Array Slot), v_2 = (if place = 0 then if (column + 2) ≤ (seat % 4) then 0 else 1 else if place = 1 then if (seat % 4) ≤ (column - 2) then 0 else 1 else 1) → lv_has ls 5 [(0, .ref (B (1 + r))), (1, .int (iv (seat))), (2, .int (iv (place))), (3, .int (iv (column))), (4, .int (iv (seat % 4)))] → W p l e (rmk 1 0 0) s m args below meth c s.heap [] 0 0 Q (F0 m 43 ls [.int (iv (v_2))]) := by
    intro v_2 ls ev_2 hl
    exact r_zretR hx hb hr hlk hQ (by omega) (congrArg iv (by refine bi_of (fun h => ?_) (fun h => ?_) <;> unfold sightV at h <;> omega)) dX1_canSee_43
  refine r_if_ne (tgt := 25) hx hb dX1_canSee_6 (by decide) (by omega) (fun c_1 => ?_) (fun c_1 => ?_)
  rotate_left
  · refine lv_iload hx hb dX1_canSee_9 (lv_at hl 0 rfl) ?_
    refine lv_iload_n hx hb dX1_canSee_11 rfl (lv_at hl 4 rfl) ?_
    refine r_iconst hx hb dX1_canSee_12 ?_
    refine r_iadd hx hb dX1_canSee_13 ?_
    refine r_icmp_ge (tgt := 21) hx hb dX1_canSee_14 (by decide) (by omega) (by omega) (fun c_8 => ?_) (fun c_8 => ?_)
    · refine r_iconst hx hb dX1_canSee_21 ?_
      refine lv_goto (tgt := 43) hx hb dX1_canSee_22 (by decide) ?_
      exact J_4 0 ls (by rw [if_pos c_1]; rw [if_pos c_8]) (lv_sub hl [1, 2, 3, 4, 0] rfl)
    refine r_iconst hx hb dX1_canSee_17 ?_
    refine lv_goto (tgt := 43) hx hb dX1_canSee_18 (by decide) ?_
    exact J_4 1 ls (by rw [if_pos c_1]; rw [if_neg c_8]) (lv_sub hl [1, 2, 3, 4, 0] rfl)
  refine lv_iload_n hx hb dX1_canSee_25 rfl (lv_at hl 3 rfl) ?_
  refine r_iconst hx hb dX1_canSee_26 ?_
  refine r_icmp_ne (tgt := 38) hx hb dX1_canSee_27 (by decide) (by omega) (by omega) (fun c_6 => ?_) (fun c_6 => ?_)
  · refine r_iconst hx hb dX1_canSee_38 ?_
    refine lv_goto (tgt := 43) hx hb dX1_canSee_39 (by decide) ?_
    exact J_4 1 ls (by rw [if_neg c_1]; rw [if_neg c_6]) (lv_sub hl [1, 2, 3, 4, 0] rfl)
  refine lv_iload hx hb dX1_canSee_30 (lv_at hl 0 rfl) ?_
  refine lv_iload_n hx hb dX1_canSee_32 rfl (lv_at hl 4 rfl) ?_
  refine r_iconst hx hb dX1_canSee_33 ?_
  refine r_isub hx hb dX1_canSee_34 ?_
  refine r_icmp_le (tgt := 42) hx hb dX1_canSee_35 (by decide) (by omega) (by omega) (fun c_7 => ?_) (fun c_7 => ?_)
  · refine r_iconst hx hb dX1_canSee_42 ?_
    exact J_4 0 ls (by rw [if_neg c_1]; rw [if_pos c_6]; rw [if_pos c_7]) (lv_sub hl [1, 2, 3, 4, 0] rfl)
  refine r_iconst hx hb dX1_canSee_38 ?_
  refine lv_goto (tgt := 43) hx hb dX1_canSee_39 (by decide) ?_
  exact J_4 1 ls (by rw [if_neg c_1]; rw [if_pos c_6]; rw [if_neg c_7]) (lv_sub hl [1, 2, 3, 4, 0] rfl)
set_option maxHeartbeats 4000000 in
set_option maxRecDepth 100000 in
theorem c_can {l : Launch} {D : va_G} {cs : Nat → ClassId} {B : Nat → Nat} {e0 : Nat} {A : Nat → Prop} {M : St} (hI : InvX M) {seat : Int} {place : Int} (g_seat : -2147483648 ≤ seat ∧ seat ≤ 2147483647) (g_place : -2147483648 ≤ place ∧ place ≤ 2147483647) : Met l yX0_can (ws_ yX0_can cX0_can 3 (some .int)) (rmk 3 0 0) (va_Pc [.ref (B 0), .int (iv seat), .int (iv place)] (xU D cs B e0 A M)) (QcRead (iv (opCan (xr M 0) seat place))) 0 0 (fun _ => False) := by
  refine r_met (by decide) _ rfl (Nat.le_of_ble_eq_true rfl) ?_
  intro p e s m args below meth c Q ls hx hb hr hlk hml hown hts hpre hQ hl
  obtain ⟨hP, hD, hk0⟩ := hpre
  have hS : va_S A s.heap s.heap [] := va_S.rf
  have hown : s.vm.findClass RX0 = some m.cls := hown
  have hl : lv_has ls 3 [(0, .ref (B 0)), (1, .int (iv (seat))), (2, .int (iv (place)))] := hl
  refine lv_iload_n hx hb dX0_can_0 rfl (lv_at hl 1 rfl) ?_
  refine r_iconst hx hb dX0_can_1 ?_
  refine r_bipush hx hb (by decide) dX0_can_2 ?_
  refine s_cR ⟨hx, hb, hml, hown, hts⟩ (c_isIn (v := seat) (least := 0) (most := 11) (by omega) (by decide) (by decide)) (va_cwS 3 hts (lw_S q355 q356 q49 q357) rfl rfl rfl hdS_X0_isIn ⟨Nat.le_of_ble_eq_true rfl, Nat.le_of_ble_eq_true rfl⟩) rfl hl.1 rfl (Nat.le_of_ble_eq_true rfl) ⟨Nat.le_of_ble_eq_true rfl, Nat.le_of_ble_eq_true rfl⟩ dX0_can_4 ?_
  refine r_ifz_eq (tgt := 17) hx hb dX0_can_7 (by decide) (fun c_1 => ?_) (fun c_1 => ?_)
  · refine r_iconst hx hb dX0_can_17 ?_
    refine lv_goto (tgt := 45) hx hb dX0_can_18 (by decide) ?_
    exact r_iretR hx hb hr hlk hQ (congrArg iv (by subst_vars; first | (refine Eq.trans ?_ ((if_neg (by first | assumption | omega))).symm; first | rfl | omega) | (refine Eq.trans ?_ ((if_pos (by first | assumption | omega))).symm; first | rfl | omega) | (refine Eq.trans ?_ (((if_neg (by first | assumption | omega))).trans (if_neg (by first | assumption | omega))).symm; first | rfl | omega) | (refine Eq.trans ?_ (((if_neg (by first | assumption | omega))).trans (if_pos (by first | assumption | omega))).symm; first | rfl | omega) | (refine Eq.trans ?_ (((if_pos (by first | assumption | omega))).trans (if_neg (by first | assumption | omega))).symm; first | rfl | omega) | (refine Eq.trans ?_ (((if_pos (by first | assumption | omega))).trans (if_pos (by first | assumption | omega))).symm; first | rfl | omega))) dX0_can_45
  refine lv_iload_n hx hb dX0_can_10 rfl (lv_at hl 2 rfl) ?_
  refine s_cR ⟨hx, hb, hml, hown, hts⟩ (c_isPlace (q := place) (by omega)) (va_cwS 1 hts (lw_S q358 q359 q49 q360) rfl rfl rfl hdS_X0_isPlace ⟨Nat.le_of_ble_eq_true rfl, Nat.le_of_ble_eq_true rfl⟩) rfl hl.1 rfl (Nat.le_of_ble_eq_true rfl) ⟨Nat.le_of_ble_eq_true rfl, Nat.le_of_ble_eq_true rfl⟩ dX0_can_11 ?_
  refine r_ifz_ne (tgt := 21) hx hb dX0_can_14 (by decide) (fun c_2 => ?_) (fun c_2 => ?_)
  rotate_left
  · refine r_iconst hx hb dX0_can_17 ?_
    refine lv_goto (tgt := 45) hx hb dX0_can_18 (by decide) ?_
    exact r_iretR hx hb hr hlk hQ (congrArg iv (by subst_vars; first | (refine Eq.trans ?_ ((if_neg (by first | assumption | omega))).symm; first | rfl | omega) | (refine Eq.trans ?_ ((if_pos (by first | assumption | omega))).symm; first | rfl | omega) | (refine Eq.trans ?_ (((if_neg (by first | assumption | omega))).trans (if_neg (by first | assumption | omega))).symm; first | rfl | omega) | (refine Eq.trans ?_ (((if_neg (by first | assumption | omega))).trans (if_pos (by first | assumption | omega))).symm; first | rfl | omega) | (refine Eq.trans ?_ (((if_pos (by first | assumption | omega))).trans (if_neg (by first | assumption | omega))).symm; first | rfl | omega) | (refine Eq.trans ?_ (((if_pos (by first | assumption | omega))).trans (if_pos (by first | assumption | omega))).symm; first | rfl | omega))) dX0_can_45
  refine lv_aload_n hx hb dX0_can_21 rfl (lv_at hl 0 rfl) ?_
  refine xg_X0_16 hx hb hts hown hk0.1 hk0.2.1 hP dX0_can_22 ?_
  refine lv_iload_n hx hb dX0_can_25 rfl (lv_at hl 1 rfl) ?_
  refine lv_iload_n hx hb dX0_can_26 rfl (lv_at hl 2 rfl) ?_
  refine lv_aload_n hx hb dX0_can_27 rfl (lv_at hl 0 rfl) ?_
  refine xg_X0_16 hx hb hts hown hk0.1 hk0.2.1 hP dX0_can_28 ?_
  refine xg_X0_124 hx hb hts hown hk0.1 hk0.2.1 hP (r := 0) (by decide) dX0_can_31 ?_
  refine r_top (b := M 5 0) rfl ?_
  have b_3 := iX_5 (X := M) hI 0
  refine c_cR (i := 1 + 0) ⟨hx, hb, hml, hown, hts⟩ (c_canSee hI (r := 0) (by decide) (seat := seat) (place := place) (column := M 5 0) (by omega) (by omega) (by omega)) (hk0.kept hS) hP hD (xW_R (by decide)) rfl (cwV 3 hts (lw_V q738 q739 q740 q50 q741) rfl rfl rfl hdV_X1_canSee ⟨Nat.le_of_ble_eq_true rfl, Nat.le_of_ble_eq_true rfl⟩) rfl hl.1 rfl (Nat.le_of_ble_eq_true rfl) ⟨Nat.le_of_ble_eq_true rfl, Nat.le_of_ble_eq_true rfl⟩ dX0_can_34 ?_
  refine r_ifz_eq (tgt := 44) hx hb dX0_can_37 (by decide) (fun c_4 => ?_) (fun c_4 => ?_)
  · refine r_iconst hx hb dX0_can_44 ?_
    exact r_iretR hx hb hr hlk hQ (congrArg iv (by subst_vars; first | (refine Eq.trans ?_ ((if_neg (by first | assumption | omega))).symm; first | rfl | omega) | (refine Eq.trans ?_ ((if_pos (by first | assumption | omega))).symm; first | rfl | omega) | (refine Eq.trans ?_ (((if_neg (by first | assumption | omega))).trans (if_neg (by first | assumption | omega))).symm; first | rfl | omega) | (refine Eq.trans ?_ (((if_neg (by first | assumption | omega))).trans (if_pos (by first | assumption | omega))).symm; first | rfl | omega) | (refine Eq.trans ?_ (((if_pos (by first | assumption | omega))).trans (if_neg (by first | assumption | omega))).symm; first | rfl | omega) | (refine Eq.trans ?_ (((if_pos (by first | assumption | omega))).trans (if_pos (by first | assumption | omega))).symm; first | rfl | omega))) dX0_can_45
  refine r_iconst hx hb dX0_can_40 ?_
  refine lv_goto (tgt := 45) hx hb dX0_can_41 (by decide) ?_
  exact r_iretR hx hb hr hlk hQ (congrArg iv (by subst_vars; first | (refine Eq.trans ?_ ((if_neg (by first | assumption | omega))).symm; first | rfl | omega) | (refine Eq.trans ?_ ((if_pos (by first | assumption | omega))).symm; first | rfl | omega) | (refine Eq.trans ?_ (((if_neg (by first | assumption | omega))).trans (if_neg (by first | assumption | omega))).symm; first | rfl | omega) | (refine Eq.trans ?_ (((if_neg (by first | assumption | omega))).trans (if_pos (by first | assumption | omega))).symm; first | rfl | omega) | (refine Eq.trans ?_ (((if_pos (by first | assumption | omega))).trans (if_neg (by first | assumption | omega))).symm; first | rfl | omega) | (refine Eq.trans ?_ (((if_pos (by first | assumption | omega))).trans (if_pos (by first | assumption | omega))).symm; first | rfl | omega))) dX0_can_45
