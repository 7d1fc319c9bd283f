set_option maxRecDepth 100000
set_option maxHeartbeats 4000000 in
set_option maxRecDepth 100000 in
theorem c_clear {l : Launch} {D : va_G} {cs : Nat → ClassId} {B : Nat → Nat} {e0 : Nat} {A : Nat → Prop} {M : St} (hI : InvX M)   : Met l yX0_clear (ws_ yX0_clear cX0_clear 2 (some .int)) (rmk 1 0 0) (va_Pc [.ref (B 0)] (xU D cs B e0 A M)) (va_Qi (fun r M1 => r = iv (M 36 0 + M 38 0) ∧ M1 = clearX M ∧ InvX M1) (xB D cs B e0 A) A) 0 0 A := by
  refine r_met (by decide) _ rfl (Nat.le_of_ble_eq_true rfl) ?_
  intro p e s m args below meth c Q ls hx hb hr hlk hml hown hts hpre hQ hl
  obtain ⟨hP, hD, hk0⟩ := hpre
  have hS : va_S A s.heap s.heap [] := va_S.rf
  have hown : s.vm.findClass RX0 = some m.cls := hown
  have hl : lv_has ls 2 [(0, .ref (B 0))] := hl
  refine lv_aload_n hx hb dX0_clear_0 rfl (lv_at hl 0 rfl) ?_
  refine xg_X0_166 hx hb hts hown hk0.1 hk0.2.1 hP dX0_clear_1 ?_
  have b_1 := iX_36 (X := M) hI 0
  refine lv_aload_n hx hb dX0_clear_4 rfl (lv_at hl 0 rfl) ?_
  refine xg_X0_169 hx hb hts hown hk0.1 hk0.2.1 hP dX0_clear_5 ?_
  have b_2 := iX_38 (X := M) hI 0
  refine r_iadd hx hb dX0_clear_8 ?_
  refine lv_istore_n (lv' := [(1, .int (iv ((M 36 0) + (M 38 0)))), (0, .ref (B 0))]) hx hb dX0_clear_9 rfl hl (by decide) rfl (fun ls hl => ?_)
  refine lv_aload_n hx hb dX0_clear_10 rfl (lv_at hl 1 rfl) ?_
  refine r_iconst hx hb dX0_clear_11 ?_
  refine xp_X0_166 hx hb hts hown hk0.1 hk0.2.1 hP hD hS  dX0_clear_12 (fun M_3 eM_3 H locs hP hD hS => ?_)
  have hIM_3 : InvX M_3 := iXs_36 hI eM_3 (by omega)
  refine lv_aload_n hx hb dX0_clear_15 rfl (lv_at hl 1 rfl) ?_
  refine r_iconst hx hb dX0_clear_16 ?_
  refine xp_X0_169 hx hb hts hown hk0.1 hk0.2.1 hP hD hS  dX0_clear_17 (fun M_4 eM_4 H locs hP hD hS => ?_)
  have hIM_4 : InvX M_4 := iXs_38 hIM_3 eM_4 (by omega)
  refine lv_iload_n hx hb dX0_clear_20 rfl (lv_at hl 0 rfl) ?_
  exact r_iretS hx hb hr hlk hQ M_4 ⟨congrArg iv (by first | rfl | omega), (by subst_vars; rfl), hIM_4⟩ (fun t ht _ => ⟨by rw [ht]; exact hP, hD⟩) hS dX0_clear_21
set_option maxHeartbeats 4000000 in
set_option maxRecDepth 100000 in
theorem c_point {l : Launch} {D : va_G} {cs : Nat → ClassId} {B : Nat → Nat} {e0 : Nat} {A : Nat → Prop} {M : St} (hI : InvX M) {beat : Int} {place : Int} (g_beat : -2147483648 ≤ beat ∧ beat ≤ 2147483647) (g_place : -2147483648 ≤ place ∧ place ≤ 2147483647) : Met l yX0_point (ws_ yX0_point cX0_point 3 (some .int)) (rmk 3 0 0) (va_Pc [.ref (B 0), .int (iv beat), .int (iv place)] (xU D cs B e0 A M)) (va_Qi (fun r M1 => r = iv (pointR (M 38 0) beat place) ∧ M1 = pointX M beat place ∧ InvX M1) (xB D cs B e0 A) A) 0 0 A := by
  refine r_met (by decide) _ rfl (Nat.le_of_ble_eq_true rfl) ?_
  intro p e s m args below meth c Q ls hx hb hr hlk hml hown hts hpre hQ hl
  obtain ⟨hP, hD, hk0⟩ := hpre
  have hS : va_S A s.heap s.heap [] := va_S.rf
  have hown : s.vm.findClass RX0 = some m.cls := hown
  have hl : lv_has ls 3 [(0, .ref (B 0)), (1, .int (iv (beat))), (2, .int (iv (place)))] := hl
  have b38 := iX_38 hI 0
  refine lv_iload_n hx hb dX0_point_0 rfl (lv_at hl 1 rfl) ?_
  refine s_cR ⟨hx, hb, hml, hown, hts⟩ (c_isBeat (b := beat) (by omega)) (va_cwS 1 hts (lw_S q352 q353 q49 q354) rfl rfl rfl hdS_X0_isBeat ⟨Nat.le_of_ble_eq_true rfl, Nat.le_of_ble_eq_true rfl⟩) rfl hl.1 rfl (Nat.le_of_ble_eq_true rfl) ⟨Nat.le_of_ble_eq_true rfl, Nat.le_of_ble_eq_true rfl⟩ dX0_point_1 ?_
  refine r_ifz_eq (tgt := 14) hx hb dX0_point_4 (by decide) (fun c_1 => ?_) (fun c_1 => ?_)
  · refine r_iconst hx hb dX0_point_14 ?_
    exact r_iretS hx hb hr hlk hQ M ⟨congrArg iv (by subst_vars; first | (refine Eq.trans ?_ ((if_neg (by first | assumption | omega))).symm; first | rfl | omega) | (refine Eq.trans ?_ ((if_pos (by first | assumption | omega))).symm; first | rfl | omega) | (refine Eq.trans ?_ (((if_neg (by first | assumption | omega))).trans (if_neg (by first | assumption | omega))).symm; first | rfl | omega) | (refine Eq.trans ?_ (((if_neg (by first | assumption | omega))).trans (if_pos (by first | assumption | omega))).symm; first | rfl | omega) | (refine Eq.trans ?_ (((if_pos (by first | assumption | omega))).trans (if_neg (by first | assumption | omega))).symm; first | rfl | omega) | (refine Eq.trans ?_ (((if_pos (by first | assumption | omega))).trans (if_pos (by first | assumption | omega))).symm; first | rfl | omega)), (by subst_vars; first | (refine Eq.trans ?_ ((if_neg (by first | assumption | omega))).symm; first | rfl | omega) | (refine Eq.trans ?_ ((if_pos (by first | assumption | omega))).symm; first | rfl | omega) | (refine Eq.trans ?_ (((if_neg (by first | assumption | omega))).trans (if_neg (by first | assumption | omega))).symm; first | rfl | omega) | (refine Eq.trans ?_ (((if_neg (by first | assumption | omega))).trans (if_pos (by first | assumption | omega))).symm; first | rfl | omega) | (refine Eq.trans ?_ (((if_pos (by first | assumption | omega))).trans (if_neg (by first | assumption | omega))).symm; first | rfl | omega) | (refine Eq.trans ?_ (((if_pos (by first | assumption | omega))).trans (if_pos (by first | assumption | omega))).symm; first | rfl | omega)), hI⟩ (fun t ht _ => ⟨by rw [ht]; exact hP, hD⟩) hS dX0_point_15
  refine lv_iload_n hx hb dX0_point_7 rfl (lv_at hl 2 rfl) ?_
  refine s_cR ⟨hx, hb, hml, hown, hts⟩ (c_isPlace (q := place) (by omega)) (va_cwS 1 hts (lw_S q358 q359 q49 q360) rfl rfl rfl hdS_X0_isPlace ⟨Nat.le_of_ble_eq_true rfl, Nat.le_of_ble_eq_true rfl⟩) rfl hl.1 rfl (Nat.le_of_ble_eq_true rfl) ⟨Nat.le_of_ble_eq_true rfl, Nat.le_of_ble_eq_true rfl⟩ dX0_point_8 ?_
  refine r_ifz_ne (tgt := 16) hx hb dX0_point_11 (by decide) (fun c_2 => ?_) (fun c_2 => ?_)
  rotate_left
  · refine r_iconst hx hb dX0_point_14 ?_
    exact r_iretS hx hb hr hlk hQ M ⟨congrArg iv (by subst_vars; first | (refine Eq.trans ?_ ((if_neg (by first | assumption | omega))).symm; first | rfl | omega) | (refine Eq.trans ?_ ((if_pos (by first | assumption | omega))).symm; first | rfl | omega) | (refine Eq.trans ?_ (((if_neg (by first | assumption | omega))).trans (if_neg (by first | assumption | omega))).symm; first | rfl | omega) | (refine Eq.trans ?_ (((if_neg (by first | assumption | omega))).trans (if_pos (by first | assumption | omega))).symm; first | rfl | omega) | (refine Eq.trans ?_ (((if_pos (by first | assumption | omega))).trans (if_neg (by first | assumption | omega))).symm; first | rfl | omega) | (refine Eq.trans ?_ (((if_pos (by first | assumption | omega))).trans (if_pos (by first | assumption | omega))).symm; first | rfl | omega)), (by subst_vars; first | (refine Eq.trans ?_ ((if_neg (by first | assumption | omega))).symm; first | rfl | omega) | (refine Eq.trans ?_ ((if_pos (by first | assumption | omega))).symm; first | rfl | omega) | (refine Eq.trans ?_ (((if_neg (by first | assumption | omega))).trans (if_neg (by first | assumption | omega))).symm; first | rfl | omega) | (refine Eq.trans ?_ (((if_neg (by first | assumption | omega))).trans (if_pos (by first | assumption | omega))).symm; first | rfl | omega) | (refine Eq.trans ?_ (((if_pos (by first | assumption | omega))).trans (if_neg (by first | assumption | omega))).symm; first | rfl | omega) | (refine Eq.trans ?_ (((if_pos (by first | assumption | omega))).trans (if_pos (by first | assumption | omega))).symm; first | rfl | omega)), hI⟩ (fun t ht _ => ⟨by rw [ht]; exact hP, hD⟩) hS dX0_point_15
  refine lv_aload_n hx hb dX0_point_16 rfl (lv_at hl 0 rfl) ?_
  refine xg_X0_169 hx hb hts hown hk0.1 hk0.2.1 hP dX0_point_17 ?_
  have b_3 := iX_38 (X := M) hI 0
  refine r_bipush hx hb (by decide) dX0_point_20 ?_
  refine r_icmp_ne (tgt := 28) hx hb dX0_point_22 (by decide) (by omega) (by omega) (fun c_4 => ?_) (fun c_4 => ?_)
  rotate_left
  · refine r_bipush hx hb (by decide) dX0_point_25 ?_
    exact r_iretS hx hb hr hlk hQ M ⟨congrArg iv (by subst_vars; first | (refine Eq.trans ?_ ((if_neg (by first | assumption | omega))).symm; first | rfl | omega) | (refine Eq.trans ?_ ((if_pos (by first | assumption | omega))).symm; first | rfl | omega) | (refine Eq.trans ?_ (((if_neg (by first | assumption | omega))).trans (if_neg (by first | assumption | omega))).symm; first | rfl | omega) | (refine Eq.trans ?_ (((if_neg (by first | assumption | omega))).trans (if_pos (by first | assumption | omega))).symm; first | rfl | omega) | (refine Eq.trans ?_ (((if_pos (by first | assumption | omega))).trans (if_neg (by first | assumption | omega))).symm; first | rfl | omega) | (refine Eq.trans ?_ (((if_pos (by first | assumption | omega))).trans (if_pos (by first | assumption | omega))).symm; first | rfl | omega)), (by subst_vars; first | (refine Eq.trans ?_ ((if_neg (by first | assumption | omega))).symm; first | rfl | omega) | (refine Eq.trans ?_ ((if_pos (by first | assumption | omega))).symm; first | rfl | omega) | (refine Eq.trans ?_ (((if_neg (by first | assumption | omega))).trans (if_neg (by first | assumption | omega))).symm; first | rfl | omega) | (refine Eq.trans ?_ (((if_neg (by first | assumption | omega))).trans (if_pos (by first | assumption | omega))).symm; first | rfl | omega) | (refine Eq.trans ?_ (((if_pos (by first | assumption | omega))).trans (if_neg (by first | assumption | omega))).symm; first | rfl | omega) | (refine Eq.trans ?_ (((if_pos (by first | assumption | omega))).trans (if_pos (by first | assumption | omega))).symm; first | rfl | omega)), hI⟩ (fun t ht _ => ⟨by rw [ht]; exact hP, hD⟩) hS dX0_point_27
  refine lv_aload_n hx hb dX0_point_28 rfl (lv_at hl 0 rfl) ?_
  refine xg_X0_48 hx hb hts hown hk0.1 hk0.2.1 hP dX0_point_29 ?_
  refine r_iconst hx hb dX0_point_32 ?_
  refine lv_aload_n hx hb dX0_point_33 rfl (lv_at hl 0 rfl) ?_
  refine xg_X0_169 hx hb hts hown hk0.1 hk0.2.1 hP dX0_point_34 ?_
  have b_5 := iX_38 (X := M) hI 0
  refine r_imul hx hb dX0_point_37 ?_
  refine lv_iload_n hx hb dX0_point_38 rfl (lv_at hl 1 rfl) ?_
  refine xa_ast hx hb hk0.1 hP hD hS (i := 19) (k := 37) (N := 48) (by unfold xIA; omega) (by omega) dX0_point_39 (fun M_6 eM_6 H locs hP hD hS => ?_)
  have hIM_6 : InvX M_6 := iXs_37 hI eM_6 (by omega)
  refine lv_aload_n hx hb dX0_point_40 rfl (lv_at hl 0 rfl) ?_
  refine xg_X0_48 hx hb hts hown hk0.1 hk0.2.1 hP dX0_point_41 ?_
  refine r_iconst hx hb dX0_point_44 ?_
  refine lv_aload_n hx hb dX0_point_45 rfl (lv_at hl 0 rfl) ?_
  refine xg_X0_169 hx hb hts hown hk0.1 hk0.2.1 hP dX0_point_46 ?_
  refine r_top (congrFun ((show M_6 38 = M 38 from by rw [eM_6]; exact upd2_k (by omega))) 0) ?_
  have b_7 := iX_38 (X := M) hI 0
  refine r_imul hx hb dX0_point_49 ?_
  refine r_iconst hx hb dX0_point_50 ?_
  refine r_iadd hx hb dX0_point_51 ?_
  refine lv_iload_n hx hb dX0_point_52 rfl (lv_at hl 2 rfl) ?_
  refine xa_ast hx hb hk0.1 hP hD hS (i := 19) (k := 37) (N := 48) (by unfold xIA; omega) (by omega) dX0_point_53 (fun M_8 eM_8 H locs hP hD hS => ?_)
  have hIM_8 : InvX M_8 := iXs_37 hIM_6 eM_8 (by omega)
  refine lv_aload_n hx hb dX0_point_54 rfl (lv_at hl 0 rfl) ?_
  refine lv_dup hx hb dX0_point_55 rfl ?_
  refine xg_X0_169 hx hb hts hown hk0.1 hk0.2.1 hP dX0_point_56 ?_
  refine r_top (congrFun (((show M_8 38 = M_6 38 from by rw [eM_8]; exact upd2_k (by omega))).trans (show M_6 38 = M 38 from by rw [eM_6]; exact upd2_k (by omega))) 0) ?_
  have b_9 := iX_38 (X := M) hI 0
  refine r_iconst hx hb dX0_point_59 ?_
  refine r_iadd hx hb dX0_point_60 ?_
  refine xp_X0_169 hx hb hts hown hk0.1 hk0.2.1 hP hD hS  dX0_point_61 (fun M_10 eM_10 H locs hP hD hS => ?_)
  have hIM_10 : InvX M_10 := iXs_38 hIM_8 eM_10 (by omega)
  refine lv_aload_n hx hb dX0_point_64 rfl (lv_at hl 0 rfl) ?_
  refine xg_X0_169 hx hb hts hown hk0.1 hk0.2.1 hP dX0_point_65 ?_
  refine r_top ((show M_10 38 0 = (M 38 0) + 1 from by rw [eM_10]; exact upd2_e)) ?_
  exact r_iretS hx hb hr hlk hQ M_10 ⟨congrArg iv (by subst_vars; first | (refine Eq.trans ?_ ((if_neg (by first | assumption | omega))).symm; first | rfl | omega) | (refine Eq.trans ?_ ((if_pos (by first | assumption | omega))).symm; first | rfl | omega) | (refine Eq.trans ?_ (((if_neg (by first | assumption | omega))).trans (if_neg (by first | assumption | omega))).symm; first | rfl | omega) | (refine Eq.trans ?_ (((if_neg (by first | assumption | omega))).trans (if_pos (by first | assumption | omega))).symm; first | rfl | omega) | (refine Eq.trans ?_ (((if_pos (by first | assumption | omega))).trans (if_neg (by first | assumption | omega))).symm; first | rfl | omega) | (refine Eq.trans ?_ (((if_pos (by first | assumption | omega))).trans (if_pos (by first | assumption | omega))).symm; first | rfl | omega)), (by subst_vars; first | (refine Eq.trans ?_ ((if_neg (by first | assumption | omega))).symm; first | rfl | omega) | (refine Eq.trans ?_ ((if_pos (by first | assumption | omega))).symm; first | rfl | omega) | (refine Eq.trans ?_ (((if_neg (by first | assumption | omega))).trans (if_neg (by first | assumption | omega))).symm; first | rfl | omega) | (refine Eq.trans ?_ (((if_neg (by first | assumption | omega))).trans (if_pos (by first | assumption | omega))).symm; first | rfl | omega) | (refine Eq.trans ?_ (((if_pos (by first | assumption | omega))).trans (if_neg (by first | assumption | omega))).symm; first | rfl | omega) | (refine Eq.trans ?_ (((if_pos (by first | assumption | omega))).trans (if_pos (by first | assumption | omega))).symm; first | rfl | omega)), hIM_10⟩ (fun t ht _ => ⟨by rw [ht]; exact hP, hD⟩) hS dX0_point_68
set_option maxHeartbeats 4000000 in
set_option maxRecDepth 100000 in
theorem c_cover {l : Launch} {D : va_G} {cs : Nat → ClassId} {B : Nat → Nat} {e0 : Nat} {A : Nat → Prop} {M : St} (hI : InvX M) {beat : Int} {kind : Int} {place : Int} {cost : Int} (g_beat : -2147483648 ≤ beat ∧ beat ≤ 2147483647) (g_kind : -2147483648 ≤ kind ∧ kind ≤ 2147483647) (g_place : -2147483648 ≤ place ∧ place ≤ 2147483647) (g_cost : -2147483648 ≤ cost ∧ cost ≤ 2147483647) : Met l yX0_cover (ws_ yX0_cover cX0_cover 5 (some .int)) (rmk 3 0 0) (va_Pc [.ref (B 0), .int (iv beat), .int (iv kind), .int (iv place), .int (iv cost)] (xU D cs B e0 A M)) (va_Qi (fun r M1 => r = iv (coverR (M 36 0) beat kind place cost) ∧ M1 = coverS M 35 36 beat kind place cost ∧ InvX M1) (xB D cs B e0 A) A) 0 0 A := by
  refine r_met (by decide) _ rfl (Nat.le_of_ble_eq_true rfl) ?_
  intro p e s m args below meth c Q ls hx hb hr hlk hml hown hts hpre hQ hl
  obtain ⟨hP, hD, hk0⟩ := hpre
  have hS : va_S A s.heap s.heap [] := va_S.rf
  have hown : s.vm.findClass RX0 = some m.cls := hown
  have hl : lv_has ls 5 [(0, .ref (B 0)), (1, .int (iv (beat))), (2, .int (iv (kind))), (3, .int (iv (place))), (4, .int (iv (cost)))] := hl
  have b36 := iX_36 hI 0
  refine lv_iload_n hx hb dX0_cover_0 rfl (lv_at hl 1 rfl) ?_
  refine s_cR ⟨hx, hb, hml, hown, hts⟩ (c_isBeat (b := beat) (by omega)) (va_cwS 1 hts (lw_S q352 q353 q49 q354) rfl rfl rfl hdS_X0_isBeat ⟨Nat.le_of_ble_eq_true rfl, Nat.le_of_ble_eq_true rfl⟩) rfl hl.1 rfl (Nat.le_of_ble_eq_true rfl) ⟨Nat.le_of_ble_eq_true rfl, Nat.le_of_ble_eq_true rfl⟩ dX0_cover_1 ?_
  refine r_ifz_eq (tgt := 43) hx hb dX0_cover_4 (by decide) (fun c_1 => ?_) (fun c_1 => ?_)
  · refine r_iconst hx hb dX0_cover_43 ?_
    exact r_iretS hx hb hr hlk hQ M ⟨congrArg iv (by subst_vars; first | (refine Eq.trans ?_ ((if_neg (by first | assumption | omega))).symm; first | rfl | omega) | (refine Eq.trans ?_ ((if_pos (by first | assumption | omega))).symm; first | rfl | omega) | (refine Eq.trans ?_ (((if_neg (by first | assumption | omega))).trans (if_neg (by first | assumption | omega))).symm; first | rfl | omega) | (refine Eq.trans ?_ (((if_neg (by first | assumption | omega))).trans (if_pos (by first | assumption | omega))).symm; first | rfl | omega) | (refine Eq.trans ?_ (((if_pos (by first | assumption | omega))).trans (if_neg (by first | assumption | omega))).symm; first | rfl | omega) | (refine Eq.trans ?_ (((if_pos (by first | assumption | omega))).trans (if_pos (by first | assumption | omega))).symm; first | rfl | omega)), (by subst_vars; first | (refine Eq.trans ?_ ((if_neg (by first | assumption | omega))).symm; first | rfl | omega) | (refine Eq.trans ?_ ((if_pos (by first | assumption | omega))).symm; first | rfl | omega) | (refine Eq.trans ?_ (((if_neg (by first | assumption | omega))).trans (if_neg (by first | assumption | omega))).symm; first | rfl | omega) | (refine Eq.trans ?_ (((if_neg (by first | assumption | omega))).trans (if_pos (by first | assumption | omega))).symm; first | rfl | omega) | (refine Eq.trans ?_ (((if_pos (by first | assumption | omega))).trans (if_neg (by first | assumption | omega))).symm; first | rfl | omega) | (refine Eq.trans ?_ (((if_pos (by first | assumption | omega))).trans (if_pos (by first | assumption | omega))).symm; first | rfl | omega)), hI⟩ (fun t ht _ => ⟨by rw [ht]; exact hP, hD⟩) hS dX0_cover_44
  refine lv_iload_n hx hb dX0_cover_7 rfl (lv_at hl 2 rfl) ?_
  refine r_iconst hx hb dX0_cover_8 ?_
  refine r_iconst hx hb dX0_cover_9 ?_
  refine s_cR ⟨hx, hb, hml, hown, hts⟩ (c_isIn (v := kind) (least := 0) (most := 3) (by omega) (by decide) (by decide)) (va_cwS 3 hts (lw_S q355 q356 q49 q357) rfl rfl rfl hdS_X0_isIn ⟨Nat.le_of_ble_eq_true rfl, Nat.le_of_ble_eq_true rfl⟩) rfl hl.1 rfl (Nat.le_of_ble_eq_true rfl) ⟨Nat.le_of_ble_eq_true rfl, Nat.le_of_ble_eq_true rfl⟩ dX0_cover_10 ?_
  refine r_ifz_eq (tgt := 43) hx hb dX0_cover_13 (by decide) (fun c_2 => ?_) (fun c_2 => ?_)
  · refine r_iconst hx hb dX0_cover_43 ?_
    exact r_iretS hx hb hr hlk hQ M ⟨congrArg iv (by subst_vars; first | (refine Eq.trans ?_ ((if_neg (by first | assumption | omega))).symm; first | rfl | omega) | (refine Eq.trans ?_ ((if_pos (by first | assumption | omega))).symm; first | rfl | omega) | (refine Eq.trans ?_ (((if_neg (by first | assumption | omega))).trans (if_neg (by first | assumption | omega))).symm; first | rfl | omega) | (refine Eq.trans ?_ (((if_neg (by first | assumption | omega))).trans (if_pos (by first | assumption | omega))).symm; first | rfl | omega) | (refine Eq.trans ?_ (((if_pos (by first | assumption | omega))).trans (if_neg (by first | assumption | omega))).symm; first | rfl | omega) | (refine Eq.trans ?_ (((if_pos (by first | assumption | omega))).trans (if_pos (by first | assumption | omega))).symm; first | rfl | omega)), (by subst_vars; first | (refine Eq.trans ?_ ((if_neg (by first | assumption | omega))).symm; first | rfl | omega) | (refine Eq.trans ?_ ((if_pos (by first | assumption | omega))).symm; first | rfl | omega) | (refine Eq.trans ?_ (((if_neg (by first | assumption | omega))).trans (if_neg (by first | assumption | omega))).symm; first | rfl | omega) | (refine Eq.trans ?_ (((if_neg (by first | assumption | omega))).trans (if_pos (by first | assumption | omega))).symm; first | rfl | omega) | (refine Eq.trans ?_ (((if_pos (by first | assumption | omega))).trans (if_neg (by first | assumption | omega))).symm; first | rfl | omega) | (refine Eq.trans ?_ (((if_pos (by first | assumption | omega))).trans (if_pos (by first | assumption | omega))).symm; first | rfl | omega)), hI⟩ (fun t ht _ => ⟨by rw [ht]; exact hP, hD⟩) hS dX0_cover_44
  refine lv_iload_n hx hb dX0_cover_16 rfl (lv_at hl 3 rfl) ?_
  refine s_cR ⟨hx, hb, hml, hown, hts⟩ (c_isPlace (q := place) (by omega)) (va_cwS 1 hts (lw_S q358 q359 q49 q360) rfl rfl rfl hdS_X0_isPlace ⟨Nat.le_of_ble_eq_true rfl, Nat.le_of_ble_eq_true rfl⟩) rfl hl.1 rfl (Nat.le_of_ble_eq_true rfl) ⟨Nat.le_of_ble_eq_true rfl, Nat.le_of_ble_eq_true rfl⟩ dX0_cover_17 ?_
  refine r_ifz_eq (tgt := 43) hx hb dX0_cover_20 (by decide) (fun c_3 => ?_) (fun c_3 => ?_)
  · refine r_iconst hx hb dX0_cover_43 ?_
    exact r_iretS hx hb hr hlk hQ M ⟨congrArg iv (by subst_vars; first | (refine Eq.trans ?_ ((if_neg (by first | assumption | omega))).symm; first | rfl | omega) | (refine Eq.trans ?_ ((if_pos (by first | assumption | omega))).symm; first | rfl | omega) | (refine Eq.trans ?_ (((if_neg (by first | assumption | omega))).trans (if_neg (by first | assumption | omega))).symm; first | rfl | omega) | (refine Eq.trans ?_ (((if_neg (by first | assumption | omega))).trans (if_pos (by first | assumption | omega))).symm; first | rfl | omega) | (refine Eq.trans ?_ (((if_pos (by first | assumption | omega))).trans (if_neg (by first | assumption | omega))).symm; first | rfl | omega) | (refine Eq.trans ?_ (((if_pos (by first | assumption | omega))).trans (if_pos (by first | assumption | omega))).symm; first | rfl | omega)), (by subst_vars; first | (refine Eq.trans ?_ ((if_neg (by first | assumption | omega))).symm; first | rfl | omega) | (refine Eq.trans ?_ ((if_pos (by first | assumption | omega))).symm; first | rfl | omega) | (refine Eq.trans ?_ (((if_neg (by first | assumption | omega))).trans (if_neg (by first | assumption | omega))).symm; first | rfl | omega) | (refine Eq.trans ?_ (((if_neg (by first | assumption | omega))).trans (if_pos (by first | assumption | omega))).symm; first | rfl | omega) | (refine Eq.trans ?_ (((if_pos (by first | assumption | omega))).trans (if_neg (by first | assumption | omega))).symm; first | rfl | omega) | (refine Eq.trans ?_ (((if_pos (by first | assumption | omega))).trans (if_pos (by first | assumption | omega))).symm; first | rfl | omega)), hI⟩ (fun t ht _ => ⟨by rw [ht]; exact hP, hD⟩) hS dX0_cover_44
  refine lv_iload_n hx hb dX0_cover_23 rfl (lv_at hl 2 rfl) ?_
  refine r_iconst hx hb dX0_cover_24 ?_
  refine r_icmp_ne (tgt := 32) hx hb dX0_cover_25 (by decide) (by omega) (by omega) (fun c_4 => ?_) (fun c_4 => ?_)
  · refine lv_iload hx hb dX0_cover_32 (lv_at hl 4 rfl) ?_
    refine r_iconst hx hb dX0_cover_34 ?_
    refine r_bipush hx hb (by decide) dX0_cover_35 ?_
    refine s_cR ⟨hx, hb, hml, hown, hts⟩ (c_isIn (v := cost) (least := 0) (most := 99) (by omega) (by decide) (by decide)) (va_cwS 3 hts (lw_S q355 q356 q49 q357) rfl rfl rfl hdS_X0_isIn ⟨Nat.le_of_ble_eq_true rfl, Nat.le_of_ble_eq_true rfl⟩) rfl hl.1 rfl (Nat.le_of_ble_eq_true rfl) ⟨Nat.le_of_ble_eq_true rfl, Nat.le_of_ble_eq_true rfl⟩ dX0_cover_37 ?_
    refine r_ifz_ne (tgt := 45) hx hb dX0_cover_40 (by decide) (fun c_5 => ?_) (fun c_5 => ?_)
    rotate_left
    · refine r_iconst hx hb dX0_cover_43 ?_
      exact r_iretS hx hb hr hlk hQ M ⟨congrArg iv (by subst_vars; first | (refine Eq.trans ?_ ((if_neg (by first | assumption | omega))).symm; first | rfl | omega) | (refine Eq.trans ?_ ((if_pos (by first | assumption | omega))).symm; first | rfl | omega) | (refine Eq.trans ?_ (((if_neg (by first | assumption | omega))).trans (if_neg (by first | assumption | omega))).symm; first | rfl | omega) | (refine Eq.trans ?_ (((if_neg (by first | assumption | omega))).trans (if_pos (by first | assumption | omega))).symm; first | rfl | omega) | (refine Eq.trans ?_ (((if_pos (by first | assumption | omega))).trans (if_neg (by first | assumption | omega))).symm; first | rfl | omega) | (refine Eq.trans ?_ (((if_pos (by first | assumption | omega))).trans (if_pos (by first | assumption | omega))).symm; first | rfl | omega)), (by subst_vars; first | (refine Eq.trans ?_ ((if_neg (by first | assumption | omega))).symm; first | rfl | omega) | (refine Eq.trans ?_ ((if_pos (by first | assumption | omega))).symm; first | rfl | omega) | (refine Eq.trans ?_ (((if_neg (by first | assumption | omega))).trans (if_neg (by first | assumption | omega))).symm; first | rfl | omega) | (refine Eq.trans ?_ (((if_neg (by first | assumption | omega))).trans (if_pos (by first | assumption | omega))).symm; first | rfl | omega) | (refine Eq.trans ?_ (((if_pos (by first | assumption | omega))).trans (if_neg (by first | assumption | omega))).symm; first | rfl | omega) | (refine Eq.trans ?_ (((if_pos (by first | assumption | omega))).trans (if_pos (by first | assumption | omega))).symm; first | rfl | omega)), hI⟩ (fun t ht _ => ⟨by rw [ht]; exact hP, hD⟩) hS dX0_cover_44
    refine lv_aload_n hx hb dX0_cover_45 rfl (lv_at hl 0 rfl) ?_
    refine xg_X0_166 hx hb hts hown hk0.1 hk0.2.1 hP dX0_cover_46 ?_
    have b_6 := iX_36 (X := M) hI 0
    refine r_bipush hx hb (by decide) dX0_cover_49 ?_
    refine r_icmp_ne (tgt := 57) hx hb dX0_cover_51 (by decide) (by omega) (by omega) (fun c_7 => ?_) (fun c_7 => ?_)
    rotate_left
    · refine r_bipush hx hb (by decide) dX0_cover_54 ?_
      exact r_iretS hx hb hr hlk hQ M ⟨congrArg iv (by subst_vars; first | (refine Eq.trans ?_ ((if_neg (by first | assumption | omega))).symm; first | rfl | omega) | (refine Eq.trans ?_ ((if_pos (by first | assumption | omega))).symm; first | rfl | omega) | (refine Eq.trans ?_ (((if_neg (by first | assumption | omega))).trans (if_neg (by first | assumption | omega))).symm; first | rfl | omega) | (refine Eq.trans ?_ (((if_neg (by first | assumption | omega))).trans (if_pos (by first | assumption | omega))).symm; first | rfl | omega) | (refine Eq.trans ?_ (((if_pos (by first | assumption | omega))).trans (if_neg (by first | assumption | omega))).symm; first | rfl | omega) | (refine Eq.trans ?_ (((if_pos (by first | assumption | omega))).trans (if_pos (by first | assumption | omega))).symm; first | rfl | omega)), (by subst_vars; first | (refine Eq.trans ?_ ((if_neg (by first | assumption | omega))).symm; first | rfl | omega) | (refine Eq.trans ?_ ((if_pos (by first | assumption | omega))).symm; first | rfl | omega) | (refine Eq.trans ?_ (((if_neg (by first | assumption | omega))).trans (if_neg (by first | assumption | omega))).symm; first | rfl | omega) | (refine Eq.trans ?_ (((if_neg (by first | assumption | omega))).trans (if_pos (by first | assumption | omega))).symm; first | rfl | omega) | (refine Eq.trans ?_ (((if_pos (by first | assumption | omega))).trans (if_neg (by first | assumption | omega))).symm; first | rfl | omega) | (refine Eq.trans ?_ (((if_pos (by first | assumption | omega))).trans (if_pos (by first | assumption | omega))).symm; first | rfl | omega)), hI⟩ (fun t ht _ => ⟨by rw [ht]; exact hP, hD⟩) hS dX0_cover_56
    refine lv_aload_n hx hb dX0_cover_57 rfl (lv_at hl 0 rfl) ?_
    refine xg_X0_44 hx hb hts hown hk0.1 hk0.2.1 hP dX0_cover_58 ?_
    refine r_iconst hx hb dX0_cover_61 ?_
    refine lv_aload_n hx hb dX0_cover_62 rfl (lv_at hl 0 rfl) ?_
    refine xg_X0_166 hx hb hts hown hk0.1 hk0.2.1 hP dX0_cover_63 ?_
    have b_8 := iX_36 (X := M) hI 0
    refine r_imul hx hb dX0_cover_66 ?_
    refine lv_iload_n hx hb dX0_cover_67 rfl (lv_at hl 1 rfl) ?_
    refine xa_ast hx hb hk0.1 hP hD hS (i := 18) (k := 35) (N := 32) (by unfold xIA; omega) (by omega) dX0_cover_68 (fun M_9 eM_9 H locs hP hD hS => ?_)
    have hIM_9 : InvX M_9 := iXs_35 hI eM_9 (by omega)
    refine lv_aload_n hx hb dX0_cover_69 rfl (lv_at hl 0 rfl) ?_
    refine xg_X0_44 hx hb hts hown hk0.1 hk0.2.1 hP dX0_cover_70 ?_
    refine r_iconst hx hb dX0_cover_73 ?_
    refine lv_aload_n hx hb dX0_cover_74 rfl (lv_at hl 0 rfl) ?_
    refine xg_X0_166 hx hb hts hown hk0.1 hk0.2.1 hP dX0_cover_75 ?_
    refine r_top (congrFun ((show M_9 36 = M 36 from by rw [eM_9]; exact upd2_k (by omega))) 0) ?_
    have b_10 := iX_36 (X := M) hI 0
    refine r_imul hx hb dX0_cover_78 ?_
    refine r_iconst hx hb dX0_cover_79 ?_
    refine r_iadd hx hb dX0_cover_80 ?_
    refine lv_iload_n hx hb dX0_cover_81 rfl (lv_at hl 2 rfl) ?_
    refine xa_ast hx hb hk0.1 hP hD hS (i := 18) (k := 35) (N := 32) (by unfold xIA; omega) (by omega) dX0_cover_82 (fun M_11 eM_11 H locs hP hD hS => ?_)
    have hIM_11 : InvX M_11 := iXs_35 hIM_9 eM_11 (by omega)
    refine lv_aload_n hx hb dX0_cover_83 rfl (lv_at hl 0 rfl) ?_
    refine xg_X0_44 hx hb hts hown hk0.1 hk0.2.1 hP dX0_cover_84 ?_
    refine r_iconst hx hb dX0_cover_87 ?_
    refine lv_aload_n hx hb dX0_cover_88 rfl (lv_at hl 0 rfl) ?_
    refine xg_X0_166 hx hb hts hown hk0.1 hk0.2.1 hP dX0_cover_89 ?_
    refine r_top (congrFun (((show M_11 36 = M_9 36 from by rw [eM_11]; exact upd2_k (by omega))).trans (show M_9 36 = M 36 from by rw [eM_9]; exact upd2_k (by omega))) 0) ?_
    have b_12 := iX_36 (X := M) hI 0
    refine r_imul hx hb dX0_cover_92 ?_
    refine r_iconst hx hb dX0_cover_93 ?_
    refine r_iadd hx hb dX0_cover_94 ?_
    refine lv_iload_n hx hb dX0_cover_95 rfl (lv_at hl 3 rfl) ?_
    refine xa_ast hx hb hk0.1 hP hD hS (i := 18) (k := 35) (N := 32) (by unfold xIA; omega) (by omega) dX0_cover_96 (fun M_13 eM_13 H locs hP hD hS => ?_)
    have hIM_13 : InvX M_13 := iXs_35 hIM_11 eM_13 (by omega)
    refine lv_aload_n hx hb dX0_cover_97 rfl (lv_at hl 0 rfl) ?_
    refine xg_X0_44 hx hb hts hown hk0.1 hk0.2.1 hP dX0_cover_98 ?_
    refine r_iconst hx hb dX0_cover_101 ?_
    refine lv_aload_n hx hb dX0_cover_102 rfl (lv_at hl 0 rfl) ?_
    refine xg_X0_166 hx hb hts hown hk0.1 hk0.2.1 hP dX0_cover_103 ?_
    refine r_top (congrFun ((((show M_13 36 = M_11 36 from by rw [eM_13]; exact upd2_k (by omega))).trans (show M_11 36 = M_9 36 from by rw [eM_11]; exact upd2_k (by omega))).trans (show M_9 36 = M 36 from by rw [eM_9]; exact upd2_k (by omega))) 0) ?_
    have b_14 := iX_36 (X := M) hI 0
    refine r_imul hx hb dX0_cover_106 ?_
    refine r_iconst hx hb dX0_cover_107 ?_
    refine r_iadd hx hb dX0_cover_108 ?_
    refine lv_iload hx hb dX0_cover_109 (lv_at hl 4 rfl) ?_
    refine xa_ast hx hb hk0.1 hP hD hS (i := 18) (k := 35) (N := 32) (by unfold xIA; omega) (by omega) dX0_cover_111 (fun M_15 eM_15 H locs hP hD hS => ?_)
    have hIM_15 : InvX M_15 := iXs_35 hIM_13 eM_15 (by omega)
    refine lv_aload_n hx hb dX0_cover_112 rfl (lv_at hl 0 rfl) ?_
    refine lv_dup hx hb dX0_cover_113 rfl ?_
    refine xg_X0_166 hx hb hts hown hk0.1 hk0.2.1 hP dX0_cover_114 ?_
    refine r_top (congrFun (((((show M_15 36 = M_13 36 from by rw [eM_15]; exact upd2_k (by omega))).trans (show M_13 36 = M_11 36 from by rw [eM_13]; exact upd2_k (by omega))).trans (show M_11 36 = M_9 36 from by rw [eM_11]; exact upd2_k (by omega))).trans (show M_9 36 = M 36 from by rw [eM_9]; exact upd2_k (by omega))) 0) ?_
    have b_16 := iX_36 (X := M) hI 0
    refine r_iconst hx hb dX0_cover_117 ?_
    refine r_iadd hx hb dX0_cover_118 ?_
    refine xp_X0_166 hx hb hts hown hk0.1 hk0.2.1 hP hD hS  dX0_cover_119 (fun M_17 eM_17 H locs hP hD hS => ?_)
    have hIM_17 : InvX M_17 := iXs_36 hIM_15 eM_17 (by omega)
    refine lv_aload_n hx hb dX0_cover_122 rfl (lv_at hl 0 rfl) ?_
    refine xg_X0_166 hx hb hts hown hk0.1 hk0.2.1 hP dX0_cover_123 ?_
    refine r_top ((show M_17 36 0 = (M 36 0) + 1 from by rw [eM_17]; exact upd2_e)) ?_
    refine r_iconst hx hb dX0_cover_126 ?_
    refine r_isub hx hb dX0_cover_127 ?_
    exact r_iretS hx hb hr hlk hQ M_17 ⟨congrArg iv (by subst_vars; first | (refine Eq.trans ?_ ((if_neg (by first | assumption | omega))).symm; first | rfl | omega) | (refine Eq.trans ?_ ((if_pos (by first | assumption | omega))).symm; first | rfl | omega) | (refine Eq.trans ?_ (((if_neg (by first | assumption | omega))).trans (if_neg (by first | assumption | omega))).symm; first | rfl | omega) | (refine Eq.trans ?_ (((if_neg (by first | assumption | omega))).trans (if_pos (by first | assumption | omega))).symm; first | rfl | omega) | (refine Eq.trans ?_ (((if_pos (by first | assumption | omega))).trans (if_neg (by first | assumption | omega))).symm; first | rfl | omega) | (refine Eq.trans ?_ (((if_pos (by first | assumption | omega))).trans (if_pos (by first | assumption | omega))).symm; first | rfl | omega)), (by subst_vars; first | (refine Eq.trans ?_ ((if_neg (by first | assumption | omega))).symm; first | rfl | omega) | (refine Eq.trans ?_ ((if_pos (by first | assumption | omega))).symm; first | rfl | omega) | (refine Eq.trans ?_ (((if_neg (by first | assumption | omega))).trans (if_neg (by first | assumption | omega))).symm; first | rfl | omega) | (refine Eq.trans ?_ (((if_neg (by first | assumption | omega))).trans (if_pos (by first | assumption | omega))).symm; first | rfl | omega) | (refine Eq.trans ?_ (((if_pos (by first | assumption | omega))).trans (if_neg (by first | assumption | omega))).symm; first | rfl | omega) | (refine Eq.trans ?_ (((if_pos (by first | assumption | omega))).trans (if_pos (by first | assumption | omega))).symm; first | rfl | omega)), hIM_17⟩ (fun t ht _ => ⟨by rw [ht]; exact hP, hD⟩) hS dX0_cover_128
  refine lv_iload_n hx hb dX0_cover_28 rfl (lv_at hl 3 rfl) ?_
  refine r_if_ne (tgt := 43) hx hb dX0_cover_29 (by decide) (by omega) (fun c_18 => ?_) (fun c_18 => ?_)
  · refine r_iconst hx hb dX0_cover_43 ?_
    exact r_iretS hx hb hr hlk hQ M ⟨congrArg iv (by subst_vars; first | (refine Eq.trans ?_ ((if_neg (by first | assumption | omega))).symm; first | rfl | omega) | (refine Eq.trans ?_ ((if_pos (by first | assumption | omega))).symm; first | rfl | omega) | (refine Eq.trans ?_ (((if_neg (by first | assumption | omega))).trans (if_neg (by first | assumption | omega))).symm; first | rfl | omega) | (refine Eq.trans ?_ (((if_neg (by first | assumption | omega))).trans (if_pos (by first | assumption | omega))).symm; first | rfl | omega) | (refine Eq.trans ?_ (((if_pos (by first | assumption | omega))).trans (if_neg (by first | assumption | omega))).symm; first | rfl | omega) | (refine Eq.trans ?_ (((if_pos (by first | assumption | omega))).trans (if_pos (by first | assumption | omega))).symm; first | rfl | omega)), (by subst_vars; first | (refine Eq.trans ?_ ((if_neg (by first | assumption | omega))).symm; first | rfl | omega) | (refine Eq.trans ?_ ((if_pos (by first | assumption | omega))).symm; first | rfl | omega) | (refine Eq.trans ?_ (((if_neg (by first | assumption | omega))).trans (if_neg (by first | assumption | omega))).symm; first | rfl | omega) | (refine Eq.trans ?_ (((if_neg (by first | assumption | omega))).trans (if_pos (by first | assumption | omega))).symm; first | rfl | omega) | (refine Eq.trans ?_ (((if_pos (by first | assumption | omega))).trans (if_neg (by first | assumption | omega))).symm; first | rfl | omega) | (refine Eq.trans ?_ (((if_pos (by first | assumption | omega))).trans (if_pos (by first | assumption | omega))).symm; first | rfl | omega)), hI⟩ (fun t ht _ => ⟨by rw [ht]; exact hP, hD⟩) hS dX0_cover_44
  refine lv_iload hx hb dX0_cover_32 (lv_at hl 4 rfl) ?_
  refine r_iconst hx hb dX0_cover_34 ?_
  refine r_bipush hx hb (by decide) dX0_cover_35 ?_
  refine s_cR ⟨hx, hb, hml, hown, hts⟩ (c_isIn (v := cost) (least := 0) (most := 99) (by omega) (by decide) (by decide)) (va_cwS 3 hts (lw_S q355 q356 q49 q357) rfl rfl rfl hdS_X0_isIn ⟨Nat.le_of_ble_eq_true rfl, Nat.le_of_ble_eq_true rfl⟩) rfl hl.1 rfl (Nat.le_of_ble_eq_true rfl) ⟨Nat.le_of_ble_eq_true rfl, Nat.le_of_ble_eq_true rfl⟩ dX0_cover_37 ?_
  refine r_ifz_ne (tgt := 45) hx hb dX0_cover_40 (by decide) (fun c_19 => ?_) (fun c_19 => ?_)
  rotate_left
  · refine r_iconst hx hb dX0_cover_43 ?_
    exact r_iretS hx hb hr hlk hQ M ⟨congrArg iv (by subst_vars; first | (refine Eq.trans ?_ ((if_neg (by first | assumption | omega))).symm; first | rfl | omega) | (refine Eq.trans ?_ ((if_pos (by first | assumption | omega))).symm; first | rfl | omega) | (refine Eq.trans ?_ (((if_neg (by first | assumption | omega))).trans (if_neg (by first | assumption | omega))).symm; first | rfl | omega) | (refine Eq.trans ?_ (((if_neg (by first | assumption | omega))).trans (if_pos (by first | assumption | omega))).symm; first | rfl | omega) | (refine Eq.trans ?_ (((if_pos (by first | assumption | omega))).trans (if_neg (by first | assumption | omega))).symm; first | rfl | omega) | (refine Eq.trans ?_ (((if_pos (by first | assumption | omega))).trans (if_pos (by first | assumption | omega))).symm; first | rfl | omega)), (by subst_vars; first | (refine Eq.trans ?_ ((if_neg (by first | assumption | omega))).symm; first | rfl | omega) | (refine Eq.trans ?_ ((if_pos (by first | assumption | omega))).symm; first | rfl | omega) | (refine Eq.trans ?_ (((if_neg (by first | assumption | omega))).trans (if_neg (by first | assumption | omega))).symm; first | rfl | omega) | (refine Eq.trans ?_ (((if_neg (by first | assumption | omega))).trans (if_pos (by first | assumption | omega))).symm; first | rfl | omega) | (refine Eq.trans ?_ (((if_pos (by first | assumption | omega))).trans (if_neg (by first | assumption | omega))).symm; first | rfl | omega) | (refine Eq.trans ?_ (((if_pos (by first | assumption | omega))).trans (if_pos (by first | assumption | omega))).symm; first | rfl | omega)), hI⟩ (fun t ht _ => ⟨by rw [ht]; exact hP, hD⟩) hS dX0_cover_44
  refine lv_aload_n hx hb dX0_cover_45 rfl (lv_at hl 0 rfl) ?_
  refine xg_X0_166 hx hb hts hown hk0.1 hk0.2.1 hP dX0_cover_46 ?_
  have b_20 := iX_36 (X := M) hI 0
  refine r_bipush hx hb (by decide) dX0_cover_49 ?_
  refine r_icmp_ne (tgt := 57) hx hb dX0_cover_51 (by decide) (by omega) (by omega) (fun c_21 => ?_) (fun c_21 => ?_)
  rotate_left
  · refine r_bipush hx hb (by decide) dX0_cover_54 ?_
    exact r_iretS hx hb hr hlk hQ M ⟨congrArg iv (by subst_vars; first | (refine Eq.trans ?_ ((if_neg (by first | assumption | omega))).symm; first | rfl | omega) | (refine Eq.trans ?_ ((if_pos (by first | assumption | omega))).symm; first | rfl | omega) | (refine Eq.trans ?_ (((if_neg (by first | assumption | omega))).trans (if_neg (by first | assumption | omega))).symm; first | rfl | omega) | (refine Eq.trans ?_ (((if_neg (by first | assumption | omega))).trans (if_pos (by first | assumption | omega))).symm; first | rfl | omega) | (refine Eq.trans ?_ (((if_pos (by first | assumption | omega))).trans (if_neg (by first | assumption | omega))).symm; first | rfl | omega) | (refine Eq.trans ?_ (((if_pos (by first | assumption | omega))).trans (if_pos (by first | assumption | omega))).symm; first | rfl | omega)), (by subst_vars; first | (refine Eq.trans ?_ ((if_neg (by first | assumption | omega))).symm; first | rfl | omega) | (refine Eq.trans ?_ ((if_pos (by first | assumption | omega))).symm; first | rfl | omega) | (refine Eq.trans ?_ (((if_neg (by first | assumption | omega))).trans (if_neg (by first | assumption | omega))).symm; first | rfl | omega) | (refine Eq.trans ?_ (((if_neg (by first | assumption | omega))).trans (if_pos (by first | assumption | omega))).symm; first | rfl | omega) | (refine Eq.trans ?_ (((if_pos (by first | assumption | omega))).trans (if_neg (by first | assumption | omega))).symm; first | rfl | omega) | (refine Eq.trans ?_ (((if_pos (by first | assumption | omega))).trans (if_pos (by first | assumption | omega))).symm; first | rfl | omega)), hI⟩ (fun t ht _ => ⟨by rw [ht]; exact hP, hD⟩) hS dX0_cover_56
  refine lv_aload_n hx hb dX0_cover_57 rfl (lv_at hl 0 rfl) ?_
  refine xg_X0_44 hx hb hts hown hk0.1 hk0.2.1 hP dX0_cover_58 ?_
  refine r_iconst hx hb dX0_cover_61 ?_
  refine lv_aload_n hx hb dX0_cover_62 rfl (lv_at hl 0 rfl) ?_
  refine xg_X0_166 hx hb hts hown hk0.1 hk0.2.1 hP dX0_cover_63 ?_
  have b_22 := iX_36 (X := M) hI 0
  refine r_imul hx hb dX0_cover_66 ?_
  refine lv_iload_n hx hb dX0_cover_67 rfl (lv_at hl 1 rfl) ?_
  refine xa_ast hx hb hk0.1 hP hD hS (i := 18) (k := 35) (N := 32) (by unfold xIA; omega) (by omega) dX0_cover_68 (fun M_23 eM_23 H locs hP hD hS => ?_)
  have hIM_23 : InvX M_23 := iXs_35 hI eM_23 (by omega)
  refine lv_aload_n hx hb dX0_cover_69 rfl (lv_at hl 0 rfl) ?_
  refine xg_X0_44 hx hb hts hown hk0.1 hk0.2.1 hP dX0_cover_70 ?_
  refine r_iconst hx hb dX0_cover_73 ?_
  refine lv_aload_n hx hb dX0_cover_74 rfl (lv_at hl 0 rfl) ?_
  refine xg_X0_166 hx hb hts hown hk0.1 hk0.2.1 hP dX0_cover_75 ?_
  refine r_top (congrFun ((show M_23 36 = M 36 from by rw [eM_23]; exact upd2_k (by omega))) 0) ?_
  have b_24 := iX_36 (X := M) hI 0
  refine r_imul hx hb dX0_cover_78 ?_
  refine r_iconst hx hb dX0_cover_79 ?_
  refine r_iadd hx hb dX0_cover_80 ?_
  refine lv_iload_n hx hb dX0_cover_81 rfl (lv_at hl 2 rfl) ?_
  refine xa_ast hx hb hk0.1 hP hD hS (i := 18) (k := 35) (N := 32) (by unfold xIA; omega) (by omega) dX0_cover_82 (fun M_25 eM_25 H locs hP hD hS => ?_)
  have hIM_25 : InvX M_25 := iXs_35 hIM_23 eM_25 (by omega)
  refine lv_aload_n hx hb dX0_cover_83 rfl (lv_at hl 0 rfl) ?_
  refine xg_X0_44 hx hb hts hown hk0.1 hk0.2.1 hP dX0_cover_84 ?_
  refine r_iconst hx hb dX0_cover_87 ?_
  refine lv_aload_n hx hb dX0_cover_88 rfl (lv_at hl 0 rfl) ?_
  refine xg_X0_166 hx hb hts hown hk0.1 hk0.2.1 hP dX0_cover_89 ?_
  refine r_top (congrFun (((show M_25 36 = M_23 36 from by rw [eM_25]; exact upd2_k (by omega))).trans (show M_23 36 = M 36 from by rw [eM_23]; exact upd2_k (by omega))) 0) ?_
  have b_26 := iX_36 (X := M) hI 0
  refine r_imul hx hb dX0_cover_92 ?_
  refine r_iconst hx hb dX0_cover_93 ?_
  refine r_iadd hx hb dX0_cover_94 ?_
  refine lv_iload_n hx hb dX0_cover_95 rfl (lv_at hl 3 rfl) ?_
  refine xa_ast hx hb hk0.1 hP hD hS (i := 18) (k := 35) (N := 32) (by unfold xIA; omega) (by omega) dX0_cover_96 (fun M_27 eM_27 H locs hP hD hS => ?_)
  have hIM_27 : InvX M_27 := iXs_35 hIM_25 eM_27 (by omega)
  refine lv_aload_n hx hb dX0_cover_97 rfl (lv_at hl 0 rfl) ?_
  refine xg_X0_44 hx hb hts hown hk0.1 hk0.2.1 hP dX0_cover_98 ?_
  refine r_iconst hx hb dX0_cover_101 ?_
  refine lv_aload_n hx hb dX0_cover_102 rfl (lv_at hl 0 rfl) ?_
  refine xg_X0_166 hx hb hts hown hk0.1 hk0.2.1 hP dX0_cover_103 ?_
  refine r_top (congrFun ((((show M_27 36 = M_25 36 from by rw [eM_27]; exact upd2_k (by omega))).trans (show M_25 36 = M_23 36 from by rw [eM_25]; exact upd2_k (by omega))).trans (show M_23 36 = M 36 from by rw [eM_23]; exact upd2_k (by omega))) 0) ?_
  have b_28 := iX_36 (X := M) hI 0
  refine r_imul hx hb dX0_cover_106 ?_
  refine r_iconst hx hb dX0_cover_107 ?_
  refine r_iadd hx hb dX0_cover_108 ?_
  refine lv_iload hx hb dX0_cover_109 (lv_at hl 4 rfl) ?_
  refine xa_ast hx hb hk0.1 hP hD hS (i := 18) (k := 35) (N := 32) (by unfold xIA; omega) (by omega) dX0_cover_111 (fun M_29 eM_29 H locs hP hD hS => ?_)
  have hIM_29 : InvX M_29 := iXs_35 hIM_27 eM_29 (by omega)
  refine lv_aload_n hx hb dX0_cover_112 rfl (lv_at hl 0 rfl) ?_
  refine lv_dup hx hb dX0_cover_113 rfl ?_
  refine xg_X0_166 hx hb hts hown hk0.1 hk0.2.1 hP dX0_cover_114 ?_
  refine r_top (congrFun (((((show M_29 36 = M_27 36 from by rw [eM_29]; exact upd2_k (by omega))).trans (show M_27 36 = M_25 36 from by rw [eM_27]; exact upd2_k (by omega))).trans (show M_25 36 = M_23 36 from by rw [eM_25]; exact upd2_k (by omega))).trans (show M_23 36 = M 36 from by rw [eM_23]; exact upd2_k (by omega))) 0) ?_
  have b_30 := iX_36 (X := M) hI 0
  refine r_iconst hx hb dX0_cover_117 ?_
  refine r_iadd hx hb dX0_cover_118 ?_
  refine xp_X0_166 hx hb hts hown hk0.1 hk0.2.1 hP hD hS  dX0_cover_119 (fun M_31 eM_31 H locs hP hD hS => ?_)
  have hIM_31 : InvX M_31 := iXs_36 hIM_29 eM_31 (by omega)
  refine lv_aload_n hx hb dX0_cover_122 rfl (lv_at hl 0 rfl) ?_
  refine xg_X0_166 hx hb hts hown hk0.1 hk0.2.1 hP dX0_cover_123 ?_
  refine r_top ((show M_31 36 0 = (M 36 0) + 1 from by rw [eM_31]; exact upd2_e)) ?_
  refine r_iconst hx hb dX0_cover_126 ?_
  refine r_isub hx hb dX0_cover_127 ?_
  exact r_iretS hx hb hr hlk hQ M_31 ⟨congrArg iv (by subst_vars; first | (refine Eq.trans ?_ ((if_neg (by first | assumption | omega))).symm; first | rfl | omega) | (refine Eq.trans ?_ ((if_pos (by first | assumption | omega))).symm; first | rfl | omega) | (refine Eq.trans ?_ (((if_neg (by first | assumption | omega))).trans (if_neg (by first | assumption | omega))).symm; first | rfl | omega) | (refine Eq.trans ?_ (((if_neg (by first | assumption | omega))).trans (if_pos (by first | assumption | omega))).symm; first | rfl | omega) | (refine Eq.trans ?_ (((if_pos (by first | assumption | omega))).trans (if_neg (by first | assumption | omega))).symm; first | rfl | omega) | (refine Eq.trans ?_ (((if_pos (by first | assumption | omega))).trans (if_pos (by first | assumption | omega))).symm; first | rfl | omega)), (by subst_vars; first | (refine Eq.trans ?_ ((if_neg (by first | assumption | omega))).symm; first | rfl | omega) | (refine Eq.trans ?_ ((if_pos (by first | assumption | omega))).symm; first | rfl | omega) | (refine Eq.trans ?_ (((if_neg (by first | assumption | omega))).trans (if_neg (by first | assumption | omega))).symm; first | rfl | omega) | (refine Eq.trans ?_ (((if_neg (by first | assumption | omega))).trans (if_pos (by first | assumption | omega))).symm; first | rfl | omega) | (refine Eq.trans ?_ (((if_pos (by first | assumption | omega))).trans (if_neg (by first | assumption | omega))).symm; first | rfl | omega) | (refine Eq.trans ?_ (((if_pos (by first | assumption | omega))).trans (if_pos (by first | assumption | omega))).symm; first | rfl | omega)), hIM_31⟩ (fun t ht _ => ⟨by rw [ht]; exact hP, hD⟩) hS dX0_cover_128
