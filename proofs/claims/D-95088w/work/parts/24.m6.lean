set_option maxRecDepth 100000
set_option maxHeartbeats 4000000 in
set_option maxRecDepth 100000 in
theorem m_here {l : Launch} {D : va_G} {cI : ClassId} {B : Nat → Nat} {A : Nat → Prop} {M : St} (hI : InvM M)   : Met l yX6_here (ws_ yX6_here cX6_here 1 (some .int)) (rmk 1 0 0) (va_Pc [.ref (B 0)] (mUS D cI A (mW cI B M))) (va_Qi (fun r M1 => r = iv (chV (M 9) (M 10 0) (skV (M 9) (M 10 0) (M 11 0))) ∧ M1 = pM M (skV (M 9) (M 10 0) (M 11 0)) (M 12 0) ∧ InvM M1) (mB D cI B A) A) 0 0 A := by
  refine r_met (by decide) _ rfl (Nat.le_of_ble_eq_true rfl) ?_
  intro p e s m args below meth c Q ls hx hb hr hlk hml hown hts hpre hQ hl
  obtain ⟨hP, hD, hK⟩ := hpre
  have hS : va_S A s.heap s.heap [] := va_S.rf
  have hown : s.vm.findClass RX6 = some m.cls := hown
  have hl : lv_has ls 1 [(0, .ref (B 0))] := hl
  have b10 := iM_10 hI 0
  have lp_0 : ∀ (n_0 : Nat)  (Mw : St) (H : Heap) (locs : List Loc), 101 - Mw 11 0 < (n_0 : Int) → (Mw = upd2 M 11 0 (Mw 11 0)) → (M 11 0 ≤ Mw 11 0) → (∀ j, M 11 0 ≤ j → j < Mw 11 0 → j < M 10 0 ∧ M 9 j = 32) → InvM Mw → wP D vwCl (mW cI B Mw) H → wD A (mW cI B Mw) → va_S A s.heap H locs → ∀ (ls : Array Slot), lv_has ls 1 [(0, .ref (B 0))] → W p l e (rmk 1 0 0) s m args below meth c H locs 0 0 Q (F0 m 0 ls []) := by
    intro n_0
    induction n_0 with
    | zero =>
      intro Mw H locs hn_0 h0 h1 h2 hIMw hP hD hS ls hl
      exfalso
      have b11 := iM_11 hIMw 0; omega
    | succ n_0 ih_0 =>
      intro Mw H locs hn_0 h0 h1 h2 hIMw hP hD hS ls hl
      have b11 := iM_11 hIMw 0
      refine lv_aload_n hx hb dX6_here_0 rfl (lv_at hl 0 rfl) ?_
      refine mg_11 hx hb hts hown hK hP dX6_here_1 ?_
      have b_1 := iM_11 (M := Mw) hIMw (0)
      refine lv_aload_n hx hb dX6_here_4 rfl (lv_at hl 0 rfl) ?_
      refine mg_10 hx hb hts hown hK hP dX6_here_5 ?_
      refine r_top (congrFun ((show Mw 10 = M 10 from by rw [h0]; exact upd2_k (by decide))) 0) ?_
      have b_3 := iM_10 (M := M) hI (0)
      refine r_icmp_ge (tgt := 38) hx hb dX6_here_8 (by decide) (by omega) (by omega) (fun c_4 => ?_) (fun c_4 => ?_)
      · refine lv_aload_n hx hb dX6_here_38 rfl (lv_at hl 0 rfl) ?_
        refine mg_11 hx hb hts hown hK hP dX6_here_39 ?_
        have b_5 := iM_11 (M := Mw) hIMw (0)
        refine lv_aload_n hx hb dX6_here_42 rfl (lv_at hl 0 rfl) ?_
        refine mg_10 hx hb hts hown hK hP dX6_here_43 ?_
        refine r_top (congrFun ((show Mw 10 = M 10 from by rw [h0]; exact upd2_k (by decide))) 0) ?_
        have b_7 := iM_10 (M := M) hI (0)
        refine r_icmp_ge (tgt := 61) hx hb dX6_here_46 (by decide) (by omega) (by omega) (fun c_8 => ?_) (fun c_8 => ?_)
        · refine r_iconst hx hb dX6_here_61 ?_
          exact r_iretS hx hb hr hlk hQ Mw ⟨congrArg iv (by have e := skV_of (T := M 9) (n := M 10 0) ⟨h1, h2, (by omega)⟩; rw [← e]; unfold chV; first | exact (if_pos (by omega)).symm | exact (if_neg (by omega)).symm), pM_eq (pM_u (pM_self M).symm h0) (skV_of ⟨h1, h2, (by omega)⟩) rfl, hIMw⟩ (fun t ht _ => ⟨by rw [ht]; exact hP, hD⟩) hS dX6_here_62
        refine lv_aload_n hx hb dX6_here_49 rfl (lv_at hl 0 rfl) ?_
        refine mg_9 hx hb hts hown hK hP dX6_here_50 ?_
        refine lv_aload_n hx hb dX6_here_53 rfl (lv_at hl 0 rfl) ?_
        refine mg_11 hx hb hts hown hK hP dX6_here_54 ?_
        have b_9 := iM_11 (M := Mw) hIMw (0)
        refine m_ald hx hb hK hP 9 (n := 100) rfl (by decide) (by omega) dX6_here_57 ?_
        refine r_top (congrFun ((show Mw 9 = M 9 from by rw [h0]; exact upd2_k (by decide))) _) ?_
        have b_10 := iM_9 (M := M) hI (Mw 11 0)
        refine lv_goto (tgt := 62) hx hb dX6_here_58 (by decide) ?_
        exact r_iretS hx hb hr hlk hQ Mw ⟨congrArg iv (by have e := skV_of (T := M 9) (n := M 10 0) ⟨h1, h2, (by omega)⟩; rw [← e]; unfold chV; first | exact (if_pos (by omega)).symm | exact (if_neg (by omega)).symm), pM_eq (pM_u (pM_self M).symm h0) (skV_of ⟨h1, h2, (by omega)⟩) rfl, hIMw⟩ (fun t ht _ => ⟨by rw [ht]; exact hP, hD⟩) hS dX6_here_62
      refine lv_aload_n hx hb dX6_here_11 rfl (lv_at hl 0 rfl) ?_
      refine mg_9 hx hb hts hown hK hP dX6_here_12 ?_
      refine lv_aload_n hx hb dX6_here_15 rfl (lv_at hl 0 rfl) ?_
      refine mg_11 hx hb hts hown hK hP dX6_here_16 ?_
      have b_11 := iM_11 (M := Mw) hIMw (0)
      refine m_ald hx hb hK hP 9 (n := 100) rfl (by decide) (by omega) dX6_here_19 ?_
      refine r_top (congrFun ((show Mw 9 = M 9 from by rw [h0]; exact upd2_k (by decide))) _) ?_
      have b_12 := iM_9 (M := M) hI (Mw 11 0)
      refine r_bipush hx hb (by decide) dX6_here_20 ?_
      refine r_icmp_ne (tgt := 38) hx hb dX6_here_22 (by decide) (by omega) (by omega) (fun c_13 => ?_) (fun c_13 => ?_)
      rotate_left
      · refine lv_aload_n hx hb dX6_here_25 rfl (lv_at hl 0 rfl) ?_
        refine lv_dup hx hb dX6_here_26 rfl ?_
        refine mg_11 hx hb hts hown hK hP dX6_here_27 ?_
        have b_20 := iM_11 (M := Mw) hIMw (0)
        refine r_iconst hx hb dX6_here_30 ?_
        refine r_iadd hx hb dX6_here_31 ?_
        refine mp_11 hx hb hts hown hK hP hD hS dX6_here_32 (fun M_21 eM_21 H locs hP hD hS => ?_)
        have hIM_21 : InvM M_21 := iMs_11 hIMw eM_21 (by omega)
        refine lv_goto (tgt := 0) hx hb dX6_here_35 (by decide) ?_
        exact ih_0  M_21 H locs (by rw [eM_21, upd2_e]; omega) (by rw [eM_21, upd2_e, h0, upd2_2]) (by rw [eM_21, upd2_e]; omega) (fun j q1 q2 => (by rw [eM_21, upd2_e] at q2; rcases (show j < Mw 11 0 ∨ j = Mw 11 0 by omega) with q | q; exact h2 j q1 q; subst q; constructor; omega; omega)) hIM_21 hP hD hS ls (lv_sub hl [0] rfl)
      refine lv_aload_n hx hb dX6_here_38 rfl (lv_at hl 0 rfl) ?_
      refine mg_11 hx hb hts hown hK hP dX6_here_39 ?_
      have b_14 := iM_11 (M := Mw) hIMw (0)
      refine lv_aload_n hx hb dX6_here_42 rfl (lv_at hl 0 rfl) ?_
      refine mg_10 hx hb hts hown hK hP dX6_here_43 ?_
      refine r_top (congrFun ((show Mw 10 = M 10 from by rw [h0]; exact upd2_k (by decide))) 0) ?_
      have b_16 := iM_10 (M := M) hI (0)
      refine r_icmp_ge (tgt := 61) hx hb dX6_here_46 (by decide) (by omega) (by omega) (fun c_17 => ?_) (fun c_17 => ?_)
      · refine r_iconst hx hb dX6_here_61 ?_
        exact r_iretS hx hb hr hlk hQ Mw ⟨congrArg iv (by have e := skV_of (T := M 9) (n := M 10 0) ⟨h1, h2, (by omega)⟩; rw [← e]; unfold chV; first | exact (if_pos (by omega)).symm | exact (if_neg (by omega)).symm), pM_eq (pM_u (pM_self M).symm h0) (skV_of ⟨h1, h2, (by omega)⟩) rfl, hIMw⟩ (fun t ht _ => ⟨by rw [ht]; exact hP, hD⟩) hS dX6_here_62
      refine lv_aload_n hx hb dX6_here_49 rfl (lv_at hl 0 rfl) ?_
      refine mg_9 hx hb hts hown hK hP dX6_here_50 ?_
      refine lv_aload_n hx hb dX6_here_53 rfl (lv_at hl 0 rfl) ?_
      refine mg_11 hx hb hts hown hK hP dX6_here_54 ?_
      have b_18 := iM_11 (M := Mw) hIMw (0)
      refine m_ald hx hb hK hP 9 (n := 100) rfl (by decide) (by omega) dX6_here_57 ?_
      refine r_top (congrFun ((show Mw 9 = M 9 from by rw [h0]; exact upd2_k (by decide))) _) ?_
      have b_19 := iM_9 (M := M) hI (Mw 11 0)
      refine lv_goto (tgt := 62) hx hb dX6_here_58 (by decide) ?_
      exact r_iretS hx hb hr hlk hQ Mw ⟨congrArg iv (by have e := skV_of (T := M 9) (n := M 10 0) ⟨h1, h2, (by omega)⟩; rw [← e]; unfold chV; first | exact (if_pos (by omega)).symm | exact (if_neg (by omega)).symm), pM_eq (pM_u (pM_self M).symm h0) (skV_of ⟨h1, h2, (by omega)⟩) rfl, hIMw⟩ (fun t ht _ => ⟨by rw [ht]; exact hP, hD⟩) hS dX6_here_62
  exact lp_0 (101 - M 11 0 + 1 : Int).toNat  M s.heap [] (by omega) ((upd2_id M 11 0).symm) (by omega) (fun j q1 q2 => (by omega)) hI hP hD hS ls (lv_sub hl [0] rfl)
set_option maxHeartbeats 4000000 in
set_option maxRecDepth 100000 in
theorem m_has {l : Launch} {D : va_G} {cI : ClassId} {B : Nat → Nat} {A : Nat → Prop} {M : St} (hI : InvM M) {ch_ : Int} (g_ch_ : 1 ≤ ch_ ∧ ch_ ≤ 126) : Met l yX6_has (ws_ yX6_has cX6_has 3 (some .boolean)) (rmk 2 0 0) (va_Pc [.ref (B 0), .int (iv ch_)] (mUS D cI A (mW cI B M))) (va_Qi (fun r M1 => r = iv (hasR (M 9) (M 10 0) ch_ (skV (M 9) (M 10 0) (M 11 0)) (M 12 0)) ∧ M1 = pM M (hasA (M 9) (M 10 0) ch_ (M 11 0) (M 12 0)) (M 12 0) ∧ InvM M1) (mB D cI B A) A) 0 0 A := by
  refine r_met (by decide) _ rfl (Nat.le_of_ble_eq_true rfl) ?_
  intro p e s m args below meth c Q ls hx hb hr hlk hml hown hts hpre hQ hl
  obtain ⟨hP, hD, hK⟩ := hpre
  have hS : va_S A s.heap s.heap [] := va_S.rf
  have hown : s.vm.findClass RX6 = some m.cls := hown
  have hl : lv_has ls 3 [(0, .ref (B 0)), (1, .int (iv (ch_)))] := hl
  have fs := skV_r (M 9) (M 10 0) (M 11 0)
  have fk := skV_sk (M 9) (M 10 0) (M 11 0)
  have fc := congrArg (chV (M 9) (M 10 0)) fk
  have b10 := iM_10 hI 0
  have b11 := iM_11 hI 0
  have b12 := iM_12 hI 0
  have b9 := iM_9 hI (skV (M 9) (M 10 0) (M 11 0))
  have fd : chV (M 9) (M 10 0) (skV (M 9) (M 10 0) (M 11 0)) = if skV (M 9) (M 10 0) (M 11 0) < M 10 0 then M 9 (skV (M 9) (M 10 0) (M 11 0)) else 0 := rfl
  refine lv_aload_n hx hb dX6_has_0 rfl (lv_at hl 0 rfl) ?_
  refine mg_12 hx hb hts hown hK hP dX6_has_1 ?_
  have b_1 := iM_12 (M := M) hI (0)
  refine r_if_ne (tgt := 19) hx hb dX6_has_4 (by decide) (by omega) (fun c_2 => ?_) (fun c_2 => ?_)
  · refine r_iconst hx hb dX6_has_19 ?_
    refine lv_istore_n (lv' := [(2, .int (iv (0))), (0, .ref (B 0)), (1, .int (iv (ch_)))]) hx hb dX6_has_20 rfl hl (by decide) rfl (fun ls hl => ?_)
    refine lv_aload_n hx hb dX6_has_21 rfl (lv_at hl 1 rfl) ?_
    refine lv_dup hx hb dX6_has_22 rfl ?_
    refine mg_11 hx hb hts hown hK hP dX6_has_23 ?_
    have b_3 := iM_11 (M := M) hI (0)
    refine lv_iload_n hx hb dX6_has_26 rfl (lv_at hl 0 rfl) ?_
    refine r_if_eq (tgt := 34) hx hb dX6_has_27 (by decide) (by omega) (fun c_4 => ?_) (fun c_4 => ?_)
    · refine r_iconst hx hb dX6_has_34 ?_
      refine r_iadd hx hb dX6_has_35 ?_
      refine mp_11 hx hb hts hown hK hP hD hS dX6_has_36 (fun M_5 eM_5 H locs hP hD hS => ?_)
      have hIM_5 : InvM M_5 := iMs_11 hI eM_5 (by omega)
      refine lv_iload_n hx hb dX6_has_39 rfl (lv_at hl 0 rfl) ?_
      exact r_zretS hx hb hr hlk hQ (by decide) M_5 ⟨congrArg iv (by unfold hasR; split <;> first | omega | (split <;> omega)), pM_eq (pM_u (pM_self M).symm eM_5) (by unfold hasA; first | (rw [if_neg (by omega)] <;> omega) | (rw [if_pos (by omega)]; unfold hasR; rw [if_pos (by omega)]; first | (rw [if_pos (by omega)]; done) | (rw [if_neg (by omega)]; done))) (by rfl), hIM_5⟩ (fun t ht _ => ⟨by rw [ht]; exact hP, hD⟩) hS dX6_has_40
    refine r_iconst hx hb dX6_has_30 ?_
    refine lv_goto (tgt := 35) hx hb dX6_has_31 (by decide) ?_
    refine r_iadd hx hb dX6_has_35 ?_
    refine mp_11 hx hb hts hown hK hP hD hS dX6_has_36 (fun M_6 eM_6 H locs hP hD hS => ?_)
    have hIM_6 : InvM M_6 := iMs_11 hI eM_6 (by omega)
    refine lv_iload_n hx hb dX6_has_39 rfl (lv_at hl 0 rfl) ?_
    exact r_zretS hx hb hr hlk hQ (by decide) M_6 ⟨congrArg iv (by unfold hasR; split <;> first | omega | (split <;> omega)), pM_eq (pM_u (pM_self M).symm eM_6) (by unfold hasA; first | (rw [if_neg (by omega)] <;> omega) | (rw [if_pos (by omega)]; unfold hasR; rw [if_pos (by omega)]; first | (rw [if_pos (by omega)]; done) | (rw [if_neg (by omega)]; done))) (by rfl), hIM_6⟩ (fun t ht _ => ⟨by rw [ht]; exact hP, hD⟩) hS dX6_has_40
  refine lv_aload_n hx hb dX6_has_7 rfl (lv_at hl 0 rfl) ?_
  refine m_cI ⟨hx, hb, hml, hown, hts⟩ (m_here hI  ) (cwV 0 hts (lw_V q1192 q1194 qs34 q60 q1195) rfl rfl rfl hdV_X6_here ⟨Nat.le_of_ble_eq_true rfl, Nat.le_of_ble_eq_true rfl⟩) hK hP hD hS rfl hl.1 rfl (Nat.le_of_ble_eq_true rfl) ⟨Nat.le_of_ble_eq_true rfl, Nat.le_of_ble_eq_true rfl⟩ dX6_has_8 (fun r_8 M_7 H locs hq hP hD hS => ?_)
  obtain ⟨er_8, eM_7, hIM_7⟩ := hq
  subst er_8
  have f_9 := skV_r (M 9) (M 10 0) (M 11 0)
  have f_10 := iM_9 hI (skV (M 9) (M 10 0) (M 11 0))
  have f_11 := (show chV (M 9) (M 10 0) (skV (M 9) (M 10 0) (M 11 0)) = if skV (M 9) (M 10 0) (M 11 0) < M 10 0 then M 9 (skV (M 9) (M 10 0) (M 11 0)) else 0 from rfl)
  refine lv_iload_n hx hb dX6_has_11 rfl (lv_at hl 1 rfl) ?_
  refine r_icmp_ne (tgt := 19) hx hb dX6_has_12 (by decide) (by omega) (by omega) (fun c_12 => ?_) (fun c_12 => ?_)
  · refine r_iconst hx hb dX6_has_19 ?_
    refine lv_istore_n (lv' := [(2, .int (iv (0))), (0, .ref (B 0)), (1, .int (iv (ch_)))]) hx hb dX6_has_20 rfl hl (by decide) rfl (fun ls hl => ?_)
    refine lv_aload_n hx hb dX6_has_21 rfl (lv_at hl 1 rfl) ?_
    refine lv_dup hx hb dX6_has_22 rfl ?_
    refine mg_11 hx hb hts hown hK hP dX6_has_23 ?_
    refine r_top (pM_11 eM_7) ?_
    refine lv_iload_n hx hb dX6_has_26 rfl (lv_at hl 0 rfl) ?_
    refine r_if_eq (tgt := 34) hx hb dX6_has_27 (by decide) (by omega) (fun c_13 => ?_) (fun c_13 => ?_)
    · refine r_iconst hx hb dX6_has_34 ?_
      refine r_iadd hx hb dX6_has_35 ?_
      refine mp_11 hx hb hts hown hK hP hD hS dX6_has_36 (fun M_14 eM_14 H locs hP hD hS => ?_)
      have hIM_14 : InvM M_14 := iMs_11 hIM_7 eM_14 (by omega)
      refine lv_iload_n hx hb dX6_has_39 rfl (lv_at hl 0 rfl) ?_
      exact r_zretS hx hb hr hlk hQ (by decide) M_14 ⟨congrArg iv (by unfold hasR; split <;> first | omega | (split <;> omega)), pM_eq (pM_u (pM_c (pM_self M).symm eM_7) eM_14) (by unfold hasA; first | (rw [if_neg (by omega)] <;> omega) | (rw [if_pos (by omega)]; unfold hasR; rw [if_pos (by omega)]; first | (rw [if_pos (by omega)]; done) | (rw [if_neg (by omega)]; done))) (by rfl), hIM_14⟩ (fun t ht _ => ⟨by rw [ht]; exact hP, hD⟩) hS dX6_has_40
    refine r_iconst hx hb dX6_has_30 ?_
    refine lv_goto (tgt := 35) hx hb dX6_has_31 (by decide) ?_
    refine r_iadd hx hb dX6_has_35 ?_
    refine mp_11 hx hb hts hown hK hP hD hS dX6_has_36 (fun M_15 eM_15 H locs hP hD hS => ?_)
    have hIM_15 : InvM M_15 := iMs_11 hIM_7 eM_15 (by omega)
    refine lv_iload_n hx hb dX6_has_39 rfl (lv_at hl 0 rfl) ?_
    exact r_zretS hx hb hr hlk hQ (by decide) M_15 ⟨congrArg iv (by unfold hasR; split <;> first | omega | (split <;> omega)), pM_eq (pM_u (pM_c (pM_self M).symm eM_7) eM_15) (by unfold hasA; first | (rw [if_neg (by omega)] <;> omega) | (rw [if_pos (by omega)]; unfold hasR; rw [if_pos (by omega)]; first | (rw [if_pos (by omega)]; done) | (rw [if_neg (by omega)]; done))) (by rfl), hIM_15⟩ (fun t ht _ => ⟨by rw [ht]; exact hP, hD⟩) hS dX6_has_40
  refine r_iconst hx hb dX6_has_15 ?_
  refine lv_goto (tgt := 20) hx hb dX6_has_16 (by decide) ?_
  refine lv_istore_n (lv' := [(2, .int (iv (1))), (0, .ref (B 0)), (1, .int (iv (ch_)))]) hx hb dX6_has_20 rfl hl (by decide) rfl (fun ls hl => ?_)
  refine lv_aload_n hx hb dX6_has_21 rfl (lv_at hl 1 rfl) ?_
  refine lv_dup hx hb dX6_has_22 rfl ?_
  refine mg_11 hx hb hts hown hK hP dX6_has_23 ?_
  refine r_top (pM_11 eM_7) ?_
  refine lv_iload_n hx hb dX6_has_26 rfl (lv_at hl 0 rfl) ?_
  refine r_if_eq (tgt := 34) hx hb dX6_has_27 (by decide) (by omega) (fun c_16 => ?_) (fun c_16 => ?_)
  · refine r_iconst hx hb dX6_has_34 ?_
    refine r_iadd hx hb dX6_has_35 ?_
    refine mp_11 hx hb hts hown hK hP hD hS dX6_has_36 (fun M_17 eM_17 H locs hP hD hS => ?_)
    have hIM_17 : InvM M_17 := iMs_11 hIM_7 eM_17 (by omega)
    refine lv_iload_n hx hb dX6_has_39 rfl (lv_at hl 0 rfl) ?_
    exact r_zretS hx hb hr hlk hQ (by decide) M_17 ⟨congrArg iv (by unfold hasR; split <;> first | omega | (split <;> omega)), pM_eq (pM_u (pM_c (pM_self M).symm eM_7) eM_17) (by unfold hasA; first | (rw [if_neg (by omega)] <;> omega) | (rw [if_pos (by omega)]; unfold hasR; rw [if_pos (by omega)]; first | (rw [if_pos (by omega)]; done) | (rw [if_neg (by omega)]; done))) (by rfl), hIM_17⟩ (fun t ht _ => ⟨by rw [ht]; exact hP, hD⟩) hS dX6_has_40
  refine r_iconst hx hb dX6_has_30 ?_
  refine lv_goto (tgt := 35) hx hb dX6_has_31 (by decide) ?_
  refine r_iadd hx hb dX6_has_35 ?_
  refine mp_11 hx hb hts hown hK hP hD hS dX6_has_36 (fun M_18 eM_18 H locs hP hD hS => ?_)
  have hIM_18 : InvM M_18 := iMs_11 hIM_7 eM_18 (by omega)
  refine lv_iload_n hx hb dX6_has_39 rfl (lv_at hl 0 rfl) ?_
  exact r_zretS hx hb hr hlk hQ (by decide) M_18 ⟨congrArg iv (by unfold hasR; split <;> first | omega | (split <;> omega)), pM_eq (pM_u (pM_c (pM_self M).symm eM_7) eM_18) (by unfold hasA; first | (rw [if_neg (by omega)] <;> omega) | (rw [if_pos (by omega)]; unfold hasR; rw [if_pos (by omega)]; first | (rw [if_pos (by omega)]; done) | (rw [if_neg (by omega)]; done))) (by rfl), hIM_18⟩ (fun t ht _ => ⟨by rw [ht]; exact hP, hD⟩) hS dX6_has_40
set_option maxHeartbeats 4000000 in
set_option maxRecDepth 100000 in
theorem m_number {l : Launch} {D : va_G} {cI : ClassId} {B : Nat → Nat} {A : Nat → Prop} {M : St} (hI : InvM M) {high : Int} (g_high : 0 ≤ high ∧ high ≤ 99) : Met l yX6_number (ws_ yX6_number cX6_number 4 (some .int)) (rmk 2 0 0) (va_Pc [.ref (B 0), .int (iv high)] (mUS D cI A (mW cI B M))) (va_Qi (fun r M1 => r = iv (numV (M 9) (M 10 0) (M 11 0) (M 12 0)) ∧ M1 = pM M (numA (M 9) (M 10 0) high (M 11 0) (M 12 0)) (numW (M 9) (M 10 0) high (M 11 0) (M 12 0)) ∧ InvM M1) (mB D cI B A) A) 0 0 A := by
  refine r_met (by decide) _ rfl (Nat.le_of_ble_eq_true rfl) ?_
  intro p e s m args below meth c Q ls hx hb hr hlk hml hown hts hpre hQ hl
  obtain ⟨hP, hD, hK⟩ := hpre
  have hS : va_S A s.heap s.heap [] := va_S.rf
  have hown : s.vm.findClass RX6 = some m.cls := hown
  have hl : lv_has ls 4 [(0, .ref (B 0)), (1, .int (iv (high)))] := hl
  have fs := skV_r (M 9) (M 10 0) (M 11 0)
  have fk := skV_sk (M 9) (M 10 0) (M 11 0)
  have fc := congrArg (chV (M 9) (M 10 0)) fk
  have b10 := iM_10 hI 0
  have b11 := iM_11 hI 0
  have b12 := iM_12 hI 0
  have b9 := iM_9 hI (skV (M 9) (M 10 0) (M 11 0))
  have fd : chV (M 9) (M 10 0) (skV (M 9) (M 10 0) (M 11 0)) = if skV (M 9) (M 10 0) (M 11 0) < M 10 0 then M 9 (skV (M 9) (M 10 0) (M 11 0)) else 0 := rfl
  refine lv_aload_n hx hb dX6_number_0 rfl (lv_at hl 0 rfl) ?_
  refine mg_12 hx hb hts hown hK hP dX6_number_1 ?_
  have b_1 := iM_12 (M := M) hI (0)
  refine r_if_ne (tgt := 24) hx hb dX6_number_4 (by decide) (by omega) (fun c_2 => ?_) (fun c_2 => ?_)
  · refine lv_aload_n hx hb dX6_number_24 rfl (lv_at hl 0 rfl) ?_
    refine r_iconst hx hb dX6_number_25 ?_
    refine mp_12 hx hb hts hown hK hP hD hS (by decide) dX6_number_26 (fun M_3 eM_3 H locs hP hD hS => ?_)
    have hIM_3 : InvM M_3 := iMs_12 hI eM_3 (by omega)
    refine r_iconst hx hb dX6_number_29 ?_
    exact r_iretS hx hb hr hlk hQ M_3 ⟨congrArg iv (num_bad (by omega) 0).1, pM_eq (pM_v (pM_self M).symm eM_3) (by rw [(num_bad (by omega) high).2.2]; first | (rw [if_pos (by omega)]; done) | (rw [if_neg (by omega)]; done)) (num_bad (by omega) high).2.1, hIM_3⟩ (fun t ht _ => ⟨by rw [ht]; exact hP, hD⟩) hS dX6_number_30
  refine lv_aload_n hx hb dX6_number_7 rfl (lv_at hl 0 rfl) ?_
  refine m_cI ⟨hx, hb, hml, hown, hts⟩ (m_here hI  ) (cwV 0 hts (lw_V q1192 q1194 qs34 q60 q1195) rfl rfl rfl hdV_X6_here ⟨Nat.le_of_ble_eq_true rfl, Nat.le_of_ble_eq_true rfl⟩) hK hP hD hS rfl hl.1 rfl (Nat.le_of_ble_eq_true rfl) ⟨Nat.le_of_ble_eq_true rfl, Nat.le_of_ble_eq_true rfl⟩ dX6_number_8 (fun r_5 M_4 H locs hq hP hD hS => ?_)
  obtain ⟨er_5, eM_4, hIM_4⟩ := hq
  subst er_5
  have f_6 := skV_r (M 9) (M 10 0) (M 11 0)
  have f_7 := iM_9 hI (skV (M 9) (M 10 0) (M 11 0))
  have f_8 := (show chV (M 9) (M 10 0) (skV (M 9) (M 10 0) (M 11 0)) = if skV (M 9) (M 10 0) (M 11 0) < M 10 0 then M 9 (skV (M 9) (M 10 0) (M 11 0)) else 0 from rfl)
  refine r_i2l hx hb (by omega) dX6_number_11 ?_
  refine r_ldc2 hx hb (48) (by decide) hown (hts _ q1196) dX6_number_12 ?_
  refine r_ldc2 hx hb (57) (by decide) hown (hts _ q1197) dX6_number_15 ?_
  refine s_cR ⟨hx, hb, hml, hown, hts⟩ (m_in (v := chV (M 9) (M 10 0) (skV (M 9) (M 10 0) (M 11 0))) (low := 48) (high := 57) (by omega) (by decide) (by decide)) (va_cwS 3 hts (lw_S q1111 q1112 q60 q1113) rfl rfl rfl hdS_X6_in ⟨Nat.le_of_ble_eq_true rfl, Nat.le_of_ble_eq_true rfl⟩) rfl hl.1 rfl (Nat.le_of_ble_eq_true rfl) ⟨Nat.le_of_ble_eq_true rfl, Nat.le_of_ble_eq_true rfl⟩ dX6_number_18 ?_
  refine r_ifz_ne (tgt := 31) hx hb dX6_number_21 (by decide) (fun c_9 => ?_) (fun c_9 => ?_)
  rotate_left
  · refine lv_aload_n hx hb dX6_number_24 rfl (lv_at hl 0 rfl) ?_
    refine r_iconst hx hb dX6_number_25 ?_
    refine mp_12 hx hb hts hown hK hP hD hS (by decide) dX6_number_26 (fun M_58 eM_58 H locs hP hD hS => ?_)
    have hIM_58 : InvM M_58 := iMs_12 hIM_4 eM_58 (by omega)
    refine r_iconst hx hb dX6_number_29 ?_
    exact r_iretS hx hb hr hlk hQ M_58 ⟨congrArg iv (num_bad (by omega) 0).1, pM_eq (pM_v (pM_c (pM_self M).symm eM_4) eM_58) (by rw [(num_bad (by omega) high).2.2]; first | (rw [if_pos (by omega)]; done) | (rw [if_neg (by omega)]; done)) (num_bad (by omega) high).2.1, hIM_58⟩ (fun t ht _ => ⟨by rw [ht]; exact hP, hD⟩) hS dX6_number_30
  refine lv_aload_n hx hb dX6_number_31 rfl (lv_at hl 0 rfl) ?_
  refine mg_11 hx hb hts hown hK hP dX6_number_32 ?_
  refine r_top (pM_11 eM_4) ?_
  refine lv_istore_n (lv' := [(2, .int (iv (skV (M 9) (M 10 0) (M 11 0)))), (0, .ref (B 0)), (1, .int (iv (high)))]) hx hb dX6_number_35 rfl hl (by decide) rfl (fun ls hl => ?_)
  refine r_iconst hx hb dX6_number_36 ?_
  refine lv_istore_n (lv' := [(3, .int (iv (0))), (2, .int (iv (skV (M 9) (M 10 0) (M 11 0)))), (0, .ref (B 0)), (1, .int (iv (high)))]) hx hb dX6_number_37 rfl hl (by decide) rfl (fun ls hl => ?_)
  have lp_38 : ∀ (n_38 : Nat) (v : Int) (Mw : St) (H : Heap) (locs : List Loc), 101 - Mw 11 0 < (n_38 : Int) → (Mw = upd2 M_4 11 0 (Mw 11 0)) → (skV (M 9) (M 10 0) (M 11 0) ≤ Mw 11 0) → (∀ j, skV (M 9) (M 10 0) (M 11 0) ≤ j → j < Mw 11 0 → j < M 10 0 ∧ 48 ≤ M 9 j ∧ M 9 j ≤ 57) → (v = dvV (M 9) (skV (M 9) (M 10 0) (M 11 0)) (Mw 11 0 - skV (M 9) (M 10 0) (M 11 0))) → (0 ≤ v ∧ v ≤ 9999) → InvM Mw → wP D vwCl (mW cI B Mw) H → wD A (mW cI B Mw) → va_S A s.heap H locs → ∀ (ls : Array Slot), lv_has ls 4 [(0, .ref (B 0)), (1, .int (iv (high))), (2, .int (iv (skV (M 9) (M 10 0) (M 11 0)))), (3, .int (iv (v)))] → W p l e (rmk 2 0 0) s m args below meth c H locs 0 0 Q (F0 m 38 ls []) := by
    intro n_38
    induction n_38 with
    | zero =>
      intro v Mw H locs hn_38 k0 k1 k2 k3 k4 hIMw hP hD hS ls hl
      exfalso
      have c11 := iM_11 hIMw 0; omega
    | succ n_38 ih_38 =>
      intro v Mw H locs hn_38 k0 k1 k2 k3 k4 hIMw hP hD hS ls hl
      have c11 := iM_11 hIMw 0
      refine lv_aload_n hx hb dX6_number_38 rfl (lv_at hl 0 rfl) ?_
      refine mg_11 hx hb hts hown hK hP dX6_number_39 ?_
      have b_10 := iM_11 (M := Mw) hIMw (0)
      refine lv_aload_n hx hb dX6_number_42 rfl (lv_at hl 0 rfl) ?_
      refine mg_10 hx hb hts hown hK hP dX6_number_43 ?_
      refine r_top (congrFun (((show Mw 10 = M_4 10 from by rw [k0]; exact upd2_k (by decide))).trans (show M_4 10 = M 10 from pM_x eM_4 10 (by decide))) 0) ?_
      have b_12 := iM_10 (M := M) hI (0)
      refine r_icmp_ge (tgt := 113) hx hb dX6_number_46 (by decide) (by omega) (by omega) (fun c_13 => ?_) (fun c_13 => ?_)
      · have hnn := num_ok (T := M 9) (n := M 10 0) (a := M 11 0) (w := M 12 0) (hi := high) (show numOK (M 9) (M 10 0) (skV (M 9) (M 10 0) (M 11 0)) (M 12 0) from ⟨by omega, by omega, by omega⟩) ⟨k1, k2, by omega⟩ k3
        refine lv_aload_n hx hb dX6_number_113 rfl (lv_at hl 0 rfl) ?_
        refine lv_iload_n hx hb dX6_number_114 rfl (lv_at hl 3 rfl) ?_
        refine lv_iload_n hx hb dX6_number_115 rfl (lv_at hl 1 rfl) ?_
        refine r_icmp_le (tgt := 123) hx hb dX6_number_116 (by decide) (by omega) (by omega) (fun c_14 => ?_) (fun c_14 => ?_)
        · refine r_iconst hx hb dX6_number_123 ?_
          refine mp_12 hx hb hts hown hK hP hD hS (by decide) dX6_number_124 (fun M_15 eM_15 H locs hP hD hS => ?_)
          have hIM_15 : InvM M_15 := iMs_12 hIMw eM_15 (by omega)
          refine lv_aload_n hx hb dX6_number_127 rfl (lv_at hl 0 rfl) ?_
          refine lv_aload_n hx hb dX6_number_128 rfl (lv_at hl 0 rfl) ?_
          refine mg_12 hx hb hts hown hK hP dX6_number_129 ?_
          refine r_top (show M_15 12 0 = 0 from (by rw [eM_15]; exact upd2_e)) ?_
          refine r_if_eq (tgt := 139) hx hb dX6_number_132 (by decide) (by omega) (fun c_18 => ?_) (fun c_18 => ?_)
          rotate_left
          · refine lv_iload_n hx hb dX6_number_135 rfl (lv_at hl 2 rfl) ?_
            refine lv_goto (tgt := 143) hx hb dX6_number_136 (by decide) ?_
            refine mp_11 hx hb hts hown hK hP hD hS dX6_number_143 (fun M_22 eM_22 H locs hP hD hS => ?_)
            have hIM_22 : InvM M_22 := iMs_11 hIM_15 eM_22 (by omega)
            refine lv_iload_n hx hb dX6_number_146 rfl (lv_at hl 3 rfl) ?_
            exact r_iretS hx hb hr hlk hQ M_22 ⟨congrArg iv hnn.1, pM_eq (pM_u (pM_v (pM_u (pM_c (pM_self M).symm eM_4) k0) eM_15) eM_22) (by rw [hnn.2.2]; first | (rw [if_pos (by omega)]; done) | (rw [if_neg (by omega)]; done)) (by rw [hnn.2.1]; first | (rw [if_pos (by omega)]; done) | (rw [if_neg (by omega)]; done)), hIM_22⟩ (fun t ht _ => ⟨by rw [ht]; exact hP, hD⟩) hS dX6_number_147
          refine lv_aload_n hx hb dX6_number_139 rfl (lv_at hl 0 rfl) ?_
          refine mg_11 hx hb hts hown hK hP dX6_number_140 ?_
          refine r_top (congrFun ((show M_15 11 = Mw 11 from by rw [eM_15]; exact upd2_k (by decide))) 0) ?_
          have b_20 := iM_11 (M := Mw) hIMw (0)
          refine mp_11 hx hb hts hown hK hP hD hS dX6_number_143 (fun M_21 eM_21 H locs hP hD hS => ?_)
          have hIM_21 : InvM M_21 := iMs_11 hIM_15 eM_21 (by omega)
          refine lv_iload_n hx hb dX6_number_146 rfl (lv_at hl 3 rfl) ?_
          exact r_iretS hx hb hr hlk hQ M_21 ⟨congrArg iv hnn.1, pM_eq (pM_u (pM_v (pM_u (pM_c (pM_self M).symm eM_4) k0) eM_15) eM_21) (by rw [hnn.2.2]; first | (rw [if_pos (by omega)]; done) | (rw [if_neg (by omega)]; done)) (by rw [hnn.2.1]; first | (rw [if_pos (by omega)]; done) | (rw [if_neg (by omega)]; done)), hIM_21⟩ (fun t ht _ => ⟨by rw [ht]; exact hP, hD⟩) hS dX6_number_147
        refine r_iconst hx hb dX6_number_119 ?_
        refine lv_goto (tgt := 124) hx hb dX6_number_120 (by decide) ?_
        refine mp_12 hx hb hts hown hK hP hD hS (by decide) dX6_number_124 (fun M_23 eM_23 H locs hP hD hS => ?_)
        have hIM_23 : InvM M_23 := iMs_12 hIMw eM_23 (by omega)
        refine lv_aload_n hx hb dX6_number_127 rfl (lv_at hl 0 rfl) ?_
        refine lv_aload_n hx hb dX6_number_128 rfl (lv_at hl 0 rfl) ?_
        refine mg_12 hx hb hts hown hK hP dX6_number_129 ?_
        refine r_top (show M_23 12 0 = 1 from (by rw [eM_23]; exact upd2_e)) ?_
        refine r_if_eq (tgt := 139) hx hb dX6_number_132 (by decide) (by omega) (fun c_26 => ?_) (fun c_26 => ?_)
        rotate_left
        · refine lv_iload_n hx hb dX6_number_135 rfl (lv_at hl 2 rfl) ?_
          refine lv_goto (tgt := 143) hx hb dX6_number_136 (by decide) ?_
          refine mp_11 hx hb hts hown hK hP hD hS dX6_number_143 (fun M_30 eM_30 H locs hP hD hS => ?_)
          have hIM_30 : InvM M_30 := iMs_11 hIM_23 eM_30 (by omega)
          refine lv_iload_n hx hb dX6_number_146 rfl (lv_at hl 3 rfl) ?_
          exact r_iretS hx hb hr hlk hQ M_30 ⟨congrArg iv hnn.1, pM_eq (pM_u (pM_v (pM_u (pM_c (pM_self M).symm eM_4) k0) eM_23) eM_30) (by rw [hnn.2.2]; first | (rw [if_pos (by omega)]; done) | (rw [if_neg (by omega)]; done)) (by rw [hnn.2.1]; first | (rw [if_pos (by omega)]; done) | (rw [if_neg (by omega)]; done)), hIM_30⟩ (fun t ht _ => ⟨by rw [ht]; exact hP, hD⟩) hS dX6_number_147
        refine lv_aload_n hx hb dX6_number_139 rfl (lv_at hl 0 rfl) ?_
        refine mg_11 hx hb hts hown hK hP dX6_number_140 ?_
        refine r_top (congrFun ((show M_23 11 = Mw 11 from by rw [eM_23]; exact upd2_k (by decide))) 0) ?_
        have b_28 := iM_11 (M := Mw) hIMw (0)
        refine mp_11 hx hb hts hown hK hP hD hS dX6_number_143 (fun M_29 eM_29 H locs hP hD hS => ?_)
        have hIM_29 : InvM M_29 := iMs_11 hIM_23 eM_29 (by omega)
        refine lv_iload_n hx hb dX6_number_146 rfl (lv_at hl 3 rfl) ?_
        exact r_iretS hx hb hr hlk hQ M_29 ⟨congrArg iv hnn.1, pM_eq (pM_u (pM_v (pM_u (pM_c (pM_self M).symm eM_4) k0) eM_23) eM_29) (by rw [hnn.2.2]; first | (rw [if_pos (by omega)]; done) | (rw [if_neg (by omega)]; done)) (by rw [hnn.2.1]; first | (rw [if_pos (by omega)]; done) | (rw [if_neg (by omega)]; done)), hIM_29⟩ (fun t ht _ => ⟨by rw [ht]; exact hP, hD⟩) hS dX6_number_147
      refine lv_aload_n hx hb dX6_number_49 rfl (lv_at hl 0 rfl) ?_
      refine mg_9 hx hb hts hown hK hP dX6_number_50 ?_
      refine lv_aload_n hx hb dX6_number_53 rfl (lv_at hl 0 rfl) ?_
      refine mg_11 hx hb hts hown hK hP dX6_number_54 ?_
      have b_31 := iM_11 (M := Mw) hIMw (0)
      refine m_ald hx hb hK hP 9 (n := 100) rfl (by decide) (by omega) dX6_number_57 ?_
      refine r_top (congrFun (((show Mw 9 = M_4 9 from by rw [k0]; exact upd2_k (by decide))).trans (show M_4 9 = M 9 from pM_x eM_4 9 (by decide))) _) ?_
      have b_32 := iM_9 (M := M) hI (Mw 11 0)
      refine r_i2l hx hb (by omega) dX6_number_58 ?_
      refine r_ldc2 hx hb (48) (by decide) hown (hts _ q1196) dX6_number_59 ?_
      refine r_ldc2 hx hb (57) (by decide) hown (hts _ q1197) dX6_number_62 ?_
      refine s_cR ⟨hx, hb, hml, hown, hts⟩ (m_in (v := M 9 (Mw 11 0)) (low := 48) (high := 57) (by omega) (by decide) (by decide)) (va_cwS 3 hts (lw_S q1111 q1112 q60 q1113) rfl rfl rfl hdS_X6_in ⟨Nat.le_of_ble_eq_true rfl, Nat.le_of_ble_eq_true rfl⟩) rfl hl.1 rfl (Nat.le_of_ble_eq_true rfl) ⟨Nat.le_of_ble_eq_true rfl, Nat.le_of_ble_eq_true rfl⟩ dX6_number_65 ?_
      refine r_ifz_eq (tgt := 113) hx hb dX6_number_68 (by decide) (fun c_33 => ?_) (fun c_33 => ?_)
      rotate_left
      · refine lv_iload_n hx hb dX6_number_71 rfl (lv_at hl 3 rfl) ?_
        refine r_sipush hx hb (by decide) dX6_number_72 ?_
        refine r_icmp_le (tgt := 82) hx hb dX6_number_75 (by decide) (by omega) (by omega) (fun c_51 => ?_) (fun c_51 => ?_)
        rotate_left
        · refine lv_iload_n hx hb dX6_number_78 rfl (lv_at hl 3 rfl) ?_
          refine lv_goto (tgt := 99) hx hb dX6_number_79 (by decide) ?_
          refine lv_istore_n (lv' := [(3, .int (iv (v))), (0, .ref (B 0)), (1, .int (iv (high))), (2, .int (iv (skV (M 9) (M 10 0) (M 11 0))))]) hx hb dX6_number_99 rfl hl (by decide) rfl (fun ls hl => ?_)
          refine lv_aload_n hx hb dX6_number_100 rfl (lv_at hl 1 rfl) ?_
          refine lv_dup hx hb dX6_number_101 rfl ?_
          refine mg_11 hx hb hts hown hK hP dX6_number_102 ?_
          have b_56 := iM_11 (M := Mw) hIMw (0)
          refine r_iconst hx hb dX6_number_105 ?_
          refine r_iadd hx hb dX6_number_106 ?_
          refine mp_11 hx hb hts hown hK hP hD hS dX6_number_107 (fun M_57 eM_57 H locs hP hD hS => ?_)
          have hIM_57 : InvM M_57 := iMs_11 hIMw eM_57 (by omega)
          refine lv_goto (tgt := 38) hx hb dX6_number_110 (by decide) ?_
          exact ih_38 v M_57 H locs (by rw [eM_57, upd2_e]; omega) (by rw [eM_57, upd2_e, k0, upd2_2]) (by rw [eM_57, upd2_e]; omega) (fun j q1 q2 => (by rw [eM_57, upd2_e] at q2; rcases (show j < Mw 11 0 ∨ j = Mw 11 0 by omega) with q | q; exact k2 j q1 q; subst q; exact ⟨by omega, by omega, by omega⟩)) (by rw [eM_57, upd2_e, show Mw 11 0 + 1 - skV (M 9) (M 10 0) (M 11 0) = (Mw 11 0 - skV (M 9) (M 10 0) (M 11 0)) + 1 by omega, dvV_s _ _ (by omega), ← k3, show skV (M 9) (M 10 0) (M 11 0) + (Mw 11 0 - skV (M 9) (M 10 0) (M 11 0)) = Mw 11 0 by omega]; first | exact (if_pos (by omega)).symm | exact (if_neg (by omega)).symm) (by omega) hIM_57 hP hD hS ls (lv_sub hl [1, 2, 3, 0] rfl)
        refine r_bipush hx hb (by decide) dX6_number_82 ?_
        refine lv_iload_n hx hb dX6_number_84 rfl (lv_at hl 3 rfl) ?_
        refine r_imul hx hb dX6_number_85 ?_
        refine lv_aload_n hx hb dX6_number_86 rfl (lv_at hl 0 rfl) ?_
        refine mg_9 hx hb hts hown hK hP dX6_number_87 ?_
        refine lv_aload_n hx hb dX6_number_90 rfl (lv_at hl 0 rfl) ?_
        refine mg_11 hx hb hts hown hK hP dX6_number_91 ?_
        have b_52 := iM_11 (M := Mw) hIMw (0)
        refine m_ald hx hb hK hP 9 (n := 100) rfl (by decide) (by omega) dX6_number_94 ?_
        refine r_top (congrFun (((show Mw 9 = M_4 9 from by rw [k0]; exact upd2_k (by decide))).trans (show M_4 9 = M 9 from pM_x eM_4 9 (by decide))) _) ?_
        have b_53 := iM_9 (M := M) hI (Mw 11 0)
        refine r_iadd hx hb dX6_number_95 ?_
        refine r_bipush hx hb (by decide) dX6_number_96 ?_
        refine r_isub hx hb dX6_number_98 ?_
        refine lv_istore_n (lv' := [(3, .int (iv (((10 * v) + (M 9 (Mw 11 0))) - 48))), (0, .ref (B 0)), (1, .int (iv (high))), (2, .int (iv (skV (M 9) (M 10 0) (M 11 0))))]) hx hb dX6_number_99 rfl hl (by decide) rfl (fun ls hl => ?_)
        refine lv_aload_n hx hb dX6_number_100 rfl (lv_at hl 1 rfl) ?_
        refine lv_dup hx hb dX6_number_101 rfl ?_
        refine mg_11 hx hb hts hown hK hP dX6_number_102 ?_
        have b_54 := iM_11 (M := Mw) hIMw (0)
        refine r_iconst hx hb dX6_number_105 ?_
        refine r_iadd hx hb dX6_number_106 ?_
        refine mp_11 hx hb hts hown hK hP hD hS dX6_number_107 (fun M_55 eM_55 H locs hP hD hS => ?_)
        have hIM_55 : InvM M_55 := iMs_11 hIMw eM_55 (by omega)
        refine lv_goto (tgt := 38) hx hb dX6_number_110 (by decide) ?_
        exact ih_38 (((10 * v) + (M 9 (Mw 11 0))) - 48) M_55 H locs (by rw [eM_55, upd2_e]; omega) (by rw [eM_55, upd2_e, k0, upd2_2]) (by rw [eM_55, upd2_e]; omega) (fun j q1 q2 => (by rw [eM_55, upd2_e] at q2; rcases (show j < Mw 11 0 ∨ j = Mw 11 0 by omega) with q | q; exact k2 j q1 q; subst q; exact ⟨by omega, by omega, by omega⟩)) (by rw [eM_55, upd2_e, show Mw 11 0 + 1 - skV (M 9) (M 10 0) (M 11 0) = (Mw 11 0 - skV (M 9) (M 10 0) (M 11 0)) + 1 by omega, dvV_s _ _ (by omega), ← k3, show skV (M 9) (M 10 0) (M 11 0) + (Mw 11 0 - skV (M 9) (M 10 0) (M 11 0)) = Mw 11 0 by omega]; first | exact (if_pos (by omega)).symm | exact (if_neg (by omega)).symm) (by omega) hIM_55 hP hD hS ls (lv_sub hl [1, 2, 3, 0] rfl)
      have hnn := num_ok (T := M 9) (n := M 10 0) (a := M 11 0) (w := M 12 0) (hi := high) (show numOK (M 9) (M 10 0) (skV (M 9) (M 10 0) (M 11 0)) (M 12 0) from ⟨by omega, by omega, by omega⟩) ⟨k1, k2, by omega⟩ k3
      refine lv_aload_n hx hb dX6_number_113 rfl (lv_at hl 0 rfl) ?_
      refine lv_iload_n hx hb dX6_number_114 rfl (lv_at hl 3 rfl) ?_
      refine lv_iload_n hx hb dX6_number_115 rfl (lv_at hl 1 rfl) ?_
      refine r_icmp_le (tgt := 123) hx hb dX6_number_116 (by decide) (by omega) (by omega) (fun c_34 => ?_) (fun c_34 => ?_)
      · refine r_iconst hx hb dX6_number_123 ?_
        refine mp_12 hx hb hts hown hK hP hD hS (by decide) dX6_number_124 (fun M_35 eM_35 H locs hP hD hS => ?_)
        have hIM_35 : InvM M_35 := iMs_12 hIMw eM_35 (by omega)
        refine lv_aload_n hx hb dX6_number_127 rfl (lv_at hl 0 rfl) ?_
        refine lv_aload_n hx hb dX6_number_128 rfl (lv_at hl 0 rfl) ?_
        refine mg_12 hx hb hts hown hK hP dX6_number_129 ?_
        refine r_top (show M_35 12 0 = 0 from (by rw [eM_35]; exact upd2_e)) ?_
        refine r_if_eq (tgt := 139) hx hb dX6_number_132 (by decide) (by omega) (fun c_38 => ?_) (fun c_38 => ?_)
        rotate_left
        · refine lv_iload_n hx hb dX6_number_135 rfl (lv_at hl 2 rfl) ?_
          refine lv_goto (tgt := 143) hx hb dX6_number_136 (by decide) ?_
          refine mp_11 hx hb hts hown hK hP hD hS dX6_number_143 (fun M_42 eM_42 H locs hP hD hS => ?_)
          have hIM_42 : InvM M_42 := iMs_11 hIM_35 eM_42 (by omega)
          refine lv_iload_n hx hb dX6_number_146 rfl (lv_at hl 3 rfl) ?_
          exact r_iretS hx hb hr hlk hQ M_42 ⟨congrArg iv hnn.1, pM_eq (pM_u (pM_v (pM_u (pM_c (pM_self M).symm eM_4) k0) eM_35) eM_42) (by rw [hnn.2.2]; first | (rw [if_pos (by omega)]; done) | (rw [if_neg (by omega)]; done)) (by rw [hnn.2.1]; first | (rw [if_pos (by omega)]; done) | (rw [if_neg (by omega)]; done)), hIM_42⟩ (fun t ht _ => ⟨by rw [ht]; exact hP, hD⟩) hS dX6_number_147
        refine lv_aload_n hx hb dX6_number_139 rfl (lv_at hl 0 rfl) ?_
        refine mg_11 hx hb hts hown hK hP dX6_number_140 ?_
        refine r_top (congrFun ((show M_35 11 = Mw 11 from by rw [eM_35]; exact upd2_k (by decide))) 0) ?_
        have b_40 := iM_11 (M := Mw) hIMw (0)
        refine mp_11 hx hb hts hown hK hP hD hS dX6_number_143 (fun M_41 eM_41 H locs hP hD hS => ?_)
        have hIM_41 : InvM M_41 := iMs_11 hIM_35 eM_41 (by omega)
        refine lv_iload_n hx hb dX6_number_146 rfl (lv_at hl 3 rfl) ?_
        exact r_iretS hx hb hr hlk hQ M_41 ⟨congrArg iv hnn.1, pM_eq (pM_u (pM_v (pM_u (pM_c (pM_self M).symm eM_4) k0) eM_35) eM_41) (by rw [hnn.2.2]; first | (rw [if_pos (by omega)]; done) | (rw [if_neg (by omega)]; done)) (by rw [hnn.2.1]; first | (rw [if_pos (by omega)]; done) | (rw [if_neg (by omega)]; done)), hIM_41⟩ (fun t ht _ => ⟨by rw [ht]; exact hP, hD⟩) hS dX6_number_147
      refine r_iconst hx hb dX6_number_119 ?_
      refine lv_goto (tgt := 124) hx hb dX6_number_120 (by decide) ?_
      refine mp_12 hx hb hts hown hK hP hD hS (by decide) dX6_number_124 (fun M_43 eM_43 H locs hP hD hS => ?_)
      have hIM_43 : InvM M_43 := iMs_12 hIMw eM_43 (by omega)
      refine lv_aload_n hx hb dX6_number_127 rfl (lv_at hl 0 rfl) ?_
      refine lv_aload_n hx hb dX6_number_128 rfl (lv_at hl 0 rfl) ?_
      refine mg_12 hx hb hts hown hK hP dX6_number_129 ?_
      refine r_top (show M_43 12 0 = 1 from (by rw [eM_43]; exact upd2_e)) ?_
      refine r_if_eq (tgt := 139) hx hb dX6_number_132 (by decide) (by omega) (fun c_46 => ?_) (fun c_46 => ?_)
      rotate_left
      · refine lv_iload_n hx hb dX6_number_135 rfl (lv_at hl 2 rfl) ?_
        refine lv_goto (tgt := 143) hx hb dX6_number_136 (by decide) ?_
        refine mp_11 hx hb hts hown hK hP hD hS dX6_number_143 (fun M_50 eM_50 H locs hP hD hS => ?_)
        have hIM_50 : InvM M_50 := iMs_11 hIM_43 eM_50 (by omega)
        refine lv_iload_n hx hb dX6_number_146 rfl (lv_at hl 3 rfl) ?_
        exact r_iretS hx hb hr hlk hQ M_50 ⟨congrArg iv hnn.1, pM_eq (pM_u (pM_v (pM_u (pM_c (pM_self M).symm eM_4) k0) eM_43) eM_50) (by rw [hnn.2.2]; first | (rw [if_pos (by omega)]; done) | (rw [if_neg (by omega)]; done)) (by rw [hnn.2.1]; first | (rw [if_pos (by omega)]; done) | (rw [if_neg (by omega)]; done)), hIM_50⟩ (fun t ht _ => ⟨by rw [ht]; exact hP, hD⟩) hS dX6_number_147
      refine lv_aload_n hx hb dX6_number_139 rfl (lv_at hl 0 rfl) ?_
      refine mg_11 hx hb hts hown hK hP dX6_number_140 ?_
      refine r_top (congrFun ((show M_43 11 = Mw 11 from by rw [eM_43]; exact upd2_k (by decide))) 0) ?_
      have b_48 := iM_11 (M := Mw) hIMw (0)
      refine mp_11 hx hb hts hown hK hP hD hS dX6_number_143 (fun M_49 eM_49 H locs hP hD hS => ?_)
      have hIM_49 : InvM M_49 := iMs_11 hIM_43 eM_49 (by omega)
      refine lv_iload_n hx hb dX6_number_146 rfl (lv_at hl 3 rfl) ?_
      exact r_iretS hx hb hr hlk hQ M_49 ⟨congrArg iv hnn.1, pM_eq (pM_u (pM_v (pM_u (pM_c (pM_self M).symm eM_4) k0) eM_43) eM_49) (by rw [hnn.2.2]; first | (rw [if_pos (by omega)]; done) | (rw [if_neg (by omega)]; done)) (by rw [hnn.2.1]; first | (rw [if_pos (by omega)]; done) | (rw [if_neg (by omega)]; done)), hIM_49⟩ (fun t ht _ => ⟨by rw [ht]; exact hP, hD⟩) hS dX6_number_147
  exact lp_38 (101 - M_4 11 0 + 1 : Int).toNat 0 M_4 H locs (by omega) ((upd2_id M_4 11 0).symm) ((by have := pM_11 eM_4; omega)) (fun j q1 q2 => (by have := pM_11 eM_4; omega)) ((by rw [pM_11 eM_4, Int.sub_self]; exact dvV_0 _ _)) (by omega) hIM_4 hP hD hS ls (lv_sub hl [2, 3, 1, 0] rfl)
set_option maxHeartbeats 4000000 in
set_option maxRecDepth 100000 in
theorem m_digit {l : Launch} {D : va_G} {cI : ClassId} {B : Nat → Nat} {A : Nat → Prop} {M : St} (hI : InvM M) {low : Int} {high : Int} (g_low : 0 ≤ low ∧ low ≤ 9 ∧ low ≤ high) (g_high : 0 ≤ high ∧ high ≤ 9) : Met l yX6_digit (ws_ yX6_digit cX6_digit 4 (some .int)) (rmk 2 0 0) (va_Pc [.ref (B 0), .int (iv low), .int (iv high)] (mUS D cI A (mW cI B M))) (va_Qi (fun r M1 => r = iv (digV (M 9) (M 10 0) low high (M 11 0) (M 12 0)) ∧ M1 = pM M (digA (M 9) (M 10 0) low high (M 11 0) (M 12 0)) (digW (M 9) (M 10 0) low high (M 11 0) (M 12 0)) ∧ InvM M1) (mB D cI B A) A) 0 0 A := by
  refine r_met (by decide) _ rfl (Nat.le_of_ble_eq_true rfl) ?_
  intro p e s m args below meth c Q ls hx hb hr hlk hml hown hts hpre hQ hl
  obtain ⟨hP, hD, hK⟩ := hpre
  have hS : va_S A s.heap s.heap [] := va_S.rf
  have hown : s.vm.findClass RX6 = some m.cls := hown
  have hl : lv_has ls 4 [(0, .ref (B 0)), (1, .int (iv (low))), (2, .int (iv (high)))] := hl
  have fs := skV_r (M 9) (M 10 0) (M 11 0)
  have fk := skV_sk (M 9) (M 10 0) (M 11 0)
  have fc := congrArg (chV (M 9) (M 10 0)) fk
  have b10 := iM_10 hI 0
  have b11 := iM_11 hI 0
  have b12 := iM_12 hI 0
  have b9 := iM_9 hI (skV (M 9) (M 10 0) (M 11 0))
  have fd : chV (M 9) (M 10 0) (skV (M 9) (M 10 0) (M 11 0)) = if skV (M 9) (M 10 0) (M 11 0) < M 10 0 then M 9 (skV (M 9) (M 10 0) (M 11 0)) else 0 := rfl
  refine lv_aload_n hx hb dX6_digit_0 rfl (lv_at hl 0 rfl) ?_
  refine lv_aload_n hx hb dX6_digit_1 rfl (lv_at hl 0 rfl) ?_
  refine mg_12 hx hb hts hown hK hP dX6_digit_2 ?_
  have b_1 := iM_12 (M := M) hI (0)
  refine r_if_ne (tgt := 29) hx hb dX6_digit_5 (by decide) (by omega) (fun c_2 => ?_) (fun c_2 => ?_)
  · refine r_iconst hx hb dX6_digit_29 ?_
    refine lv_goto (tgt := 34) hx hb dX6_digit_30 (by decide) ?_
    refine mp_12 hx hb hts hown hK hP hD hS (by decide) dX6_digit_34 (fun M_3 eM_3 H locs hP hD hS => ?_)
    have hIM_3 : InvM M_3 := iMs_12 hI eM_3 (by omega)
    refine lv_aload_n hx hb dX6_digit_37 rfl (lv_at hl 0 rfl) ?_
    refine mg_12 hx hb hts hown hK hP dX6_digit_38 ?_
    refine r_top (show M_3 12 0 = 1 from (by rw [eM_3]; exact upd2_e)) ?_
    refine r_if_eq (tgt := 48) hx hb dX6_digit_41 (by decide) (by omega) (fun c_6 => ?_) (fun c_6 => ?_)
    rotate_left
    · refine r_iconst hx hb dX6_digit_44 ?_
      refine lv_goto (tgt := 55) hx hb dX6_digit_45 (by decide) ?_
      refine lv_istore_n (lv' := [(3, .int (iv (0))), (0, .ref (B 0)), (1, .int (iv (low))), (2, .int (iv (high)))]) hx hb dX6_digit_55 rfl hl (by decide) rfl (fun ls hl => ?_)
      refine lv_aload_n hx hb dX6_digit_56 rfl (lv_at hl 1 rfl) ?_
      refine lv_dup hx hb dX6_digit_57 rfl ?_
      refine mg_11 hx hb hts hown hK hP dX6_digit_58 ?_
      refine r_top (congrFun ((show M_3 11 = M 11 from by rw [eM_3]; exact upd2_k (by decide))) 0) ?_
      have b_16 := iM_11 (M := M) hI (0)
      refine lv_aload_n hx hb dX6_digit_61 rfl (lv_at hl 1 rfl) ?_
      refine mg_12 hx hb hts hown hK hP dX6_digit_62 ?_
      refine r_top (show M_3 12 0 = 1 from (by rw [eM_3]; exact upd2_e)) ?_
      refine r_if_eq (tgt := 72) hx hb dX6_digit_65 (by decide) (by omega) (fun c_19 => ?_) (fun c_19 => ?_)
      · refine r_iconst hx hb dX6_digit_72 ?_
        refine r_iadd hx hb dX6_digit_73 ?_
        refine mp_11 hx hb hts hown hK hP hD hS dX6_digit_74 (fun M_20 eM_20 H locs hP hD hS => ?_)
        have hIM_20 : InvM M_20 := iMs_11 hIM_3 eM_20 (by omega)
        refine lv_iload_n hx hb dX6_digit_77 rfl (lv_at hl 0 rfl) ?_
        exact r_iretS hx hb hr hlk hQ M_20 ⟨congrArg iv (by unfold digV; first | (rw [if_neg (by omega)]; done) | (rw [if_pos (by omega)] <;> omega)), pM_eq (pM_u (pM_v (pM_self M).symm eM_3) eM_20) (by unfold digA; first | (rw [if_neg (by omega)] <;> omega) | (rw [if_pos (by omega)]; first | (rw [if_neg (by omega)] <;> omega) | (rw [if_pos (by omega)] <;> omega))) (by unfold digW; first | (rw [if_neg (by omega)]; done) | (rw [if_pos (by omega)]; done)), hIM_20⟩ (fun t ht _ => ⟨by rw [ht]; exact hP, hD⟩) hS dX6_digit_78
      refine r_iconst hx hb dX6_digit_68 ?_
      refine lv_goto (tgt := 73) hx hb dX6_digit_69 (by decide) ?_
      refine r_iadd hx hb dX6_digit_73 ?_
      refine mp_11 hx hb hts hown hK hP hD hS dX6_digit_74 (fun M_21 eM_21 H locs hP hD hS => ?_)
      have hIM_21 : InvM M_21 := iMs_11 hIM_3 eM_21 (by omega)
      refine lv_iload_n hx hb dX6_digit_77 rfl (lv_at hl 0 rfl) ?_
      exact r_iretS hx hb hr hlk hQ M_21 ⟨congrArg iv (by unfold digV; first | (rw [if_neg (by omega)]; done) | (rw [if_pos (by omega)] <;> omega)), pM_eq (pM_u (pM_v (pM_self M).symm eM_3) eM_21) (by unfold digA; first | (rw [if_neg (by omega)] <;> omega) | (rw [if_pos (by omega)]; first | (rw [if_neg (by omega)] <;> omega) | (rw [if_pos (by omega)] <;> omega))) (by unfold digW; first | (rw [if_neg (by omega)]; done) | (rw [if_pos (by omega)]; done)), hIM_21⟩ (fun t ht _ => ⟨by rw [ht]; exact hP, hD⟩) hS dX6_digit_78
    refine lv_aload_n hx hb dX6_digit_48 rfl (lv_at hl 0 rfl) ?_
    refine m_cI ⟨hx, hb, hml, hown, hts⟩ (m_here hIM_3  ) (cwV 0 hts (lw_V q1192 q1194 qs34 q60 q1195) rfl rfl rfl hdV_X6_here ⟨Nat.le_of_ble_eq_true rfl, Nat.le_of_ble_eq_true rfl⟩) hK hP hD hS rfl hl.1 rfl (Nat.le_of_ble_eq_true rfl) ⟨Nat.le_of_ble_eq_true rfl, Nat.le_of_ble_eq_true rfl⟩ dX6_digit_49 (fun r_8 M_7 H locs hq hP hD hS => ?_)
    obtain ⟨er_8, eM_7, hIM_7⟩ := hq
    have q9 := (show M_3 9 = M 9 from by rw [eM_3]; exact upd2_k (by decide))
    have q10 := congrFun ((show M_3 10 = M 10 from by rw [eM_3]; exact upd2_k (by decide))) 0
    have q11 := (show M_3 11 0 = M 11 0 from by rw [eM_3]; exact congrFun (upd2_k (by decide)) 0)
    have q12 := (show M_3 12 0 = 1 from by rw [eM_3]; exact upd2_e)
    simp only [q9, q10, q11, q12] at er_8
    simp only [q9, q10, q11, q12] at eM_7
    subst er_8
    have f_9 := skV_r (M 9) (M 10 0) (M 11 0)
    have f_10 := iM_9 hI (skV (M 9) (M 10 0) (M 11 0))
    have f_11 := (show chV (M 9) (M 10 0) (skV (M 9) (M 10 0) (M 11 0)) = if skV (M 9) (M 10 0) (M 11 0) < M 10 0 then M 9 (skV (M 9) (M 10 0) (M 11 0)) else 0 from rfl)
    refine r_bipush hx hb (by decide) dX6_digit_52 ?_
    refine r_isub hx hb dX6_digit_54 ?_
    refine lv_istore_n (lv' := [(3, .int (iv ((chV (M 9) (M 10 0) (skV (M 9) (M 10 0) (M 11 0))) - 48))), (0, .ref (B 0)), (1, .int (iv (low))), (2, .int (iv (high)))]) hx hb dX6_digit_55 rfl hl (by decide) rfl (fun ls hl => ?_)
    refine lv_aload_n hx hb dX6_digit_56 rfl (lv_at hl 1 rfl) ?_
    refine lv_dup hx hb dX6_digit_57 rfl ?_
    refine mg_11 hx hb hts hown hK hP dX6_digit_58 ?_
    refine r_top (pM_11 eM_7) ?_
    refine lv_aload_n hx hb dX6_digit_61 rfl (lv_at hl 1 rfl) ?_
    refine mg_12 hx hb hts hown hK hP dX6_digit_62 ?_
    refine r_top (pM_12 eM_7) ?_
    refine r_if_eq (tgt := 72) hx hb dX6_digit_65 (by decide) (by omega) (fun c_12 => ?_) (fun c_12 => ?_)
    · refine r_iconst hx hb dX6_digit_72 ?_
      refine r_iadd hx hb dX6_digit_73 ?_
      refine mp_11 hx hb hts hown hK hP hD hS dX6_digit_74 (fun M_13 eM_13 H locs hP hD hS => ?_)
      have hIM_13 : InvM M_13 := iMs_11 hIM_7 eM_13 (by omega)
      refine lv_iload_n hx hb dX6_digit_77 rfl (lv_at hl 0 rfl) ?_
      exact r_iretS hx hb hr hlk hQ M_13 ⟨congrArg iv (by unfold digV; first | (rw [if_neg (by omega)]; done) | (rw [if_pos (by omega)] <;> omega)), pM_eq (pM_u (pM_c (pM_v (pM_self M).symm eM_3) eM_7) eM_13) (by unfold digA; first | (rw [if_neg (by omega)] <;> omega) | (rw [if_pos (by omega)]; first | (rw [if_neg (by omega)] <;> omega) | (rw [if_pos (by omega)] <;> omega))) (by unfold digW; first | (rw [if_neg (by omega)]; done) | (rw [if_pos (by omega)]; done)), hIM_13⟩ (fun t ht _ => ⟨by rw [ht]; exact hP, hD⟩) hS dX6_digit_78
    refine r_iconst hx hb dX6_digit_68 ?_
    refine lv_goto (tgt := 73) hx hb dX6_digit_69 (by decide) ?_
    refine r_iadd hx hb dX6_digit_73 ?_
    refine mp_11 hx hb hts hown hK hP hD hS dX6_digit_74 (fun M_14 eM_14 H locs hP hD hS => ?_)
    have hIM_14 : InvM M_14 := iMs_11 hIM_7 eM_14 (by omega)
    refine lv_iload_n hx hb dX6_digit_77 rfl (lv_at hl 0 rfl) ?_
    exact r_iretS hx hb hr hlk hQ M_14 ⟨congrArg iv (by unfold digV; first | (rw [if_neg (by omega)]; done) | (rw [if_pos (by omega)] <;> omega)), pM_eq (pM_u (pM_c (pM_v (pM_self M).symm eM_3) eM_7) eM_14) (by unfold digA; first | (rw [if_neg (by omega)] <;> omega) | (rw [if_pos (by omega)]; first | (rw [if_neg (by omega)] <;> omega) | (rw [if_pos (by omega)] <;> omega))) (by unfold digW; first | (rw [if_neg (by omega)]; done) | (rw [if_pos (by omega)]; done)), hIM_14⟩ (fun t ht _ => ⟨by rw [ht]; exact hP, hD⟩) hS dX6_digit_78
  refine lv_aload_n hx hb dX6_digit_8 rfl (lv_at hl 0 rfl) ?_
  refine m_cI ⟨hx, hb, hml, hown, hts⟩ (m_here hI  ) (cwV 0 hts (lw_V q1192 q1194 qs34 q60 q1195) rfl rfl rfl hdV_X6_here ⟨Nat.le_of_ble_eq_true rfl, Nat.le_of_ble_eq_true rfl⟩) hK hP hD hS rfl hl.1 rfl (Nat.le_of_ble_eq_true rfl) ⟨Nat.le_of_ble_eq_true rfl, Nat.le_of_ble_eq_true rfl⟩ dX6_digit_9 (fun r_23 M_22 H locs hq hP hD hS => ?_)
  obtain ⟨er_23, eM_22, hIM_22⟩ := hq
  subst er_23
  have f_24 := skV_r (M 9) (M 10 0) (M 11 0)
  have f_25 := iM_9 hI (skV (M 9) (M 10 0) (M 11 0))
  have f_26 := (show chV (M 9) (M 10 0) (skV (M 9) (M 10 0) (M 11 0)) = if skV (M 9) (M 10 0) (M 11 0) < M 10 0 then M 9 (skV (M 9) (M 10 0) (M 11 0)) else 0 from rfl)
  refine r_i2l hx hb (by omega) dX6_digit_12 ?_
  refine r_bipush hx hb (by decide) dX6_digit_13 ?_
  refine lv_iload_n hx hb dX6_digit_15 rfl (lv_at hl 1 rfl) ?_
  refine r_iadd hx hb dX6_digit_16 ?_
  refine r_i2l hx hb (by omega) dX6_digit_17 ?_
  refine r_bipush hx hb (by decide) dX6_digit_18 ?_
  refine lv_iload_n hx hb dX6_digit_20 rfl (lv_at hl 2 rfl) ?_
  refine r_iadd hx hb dX6_digit_21 ?_
  refine r_i2l hx hb (by omega) dX6_digit_22 ?_
  refine s_cR ⟨hx, hb, hml, hown, hts⟩ (m_in (v := chV (M 9) (M 10 0) (skV (M 9) (M 10 0) (M 11 0))) (low := 48 + low) (high := 48 + high) (by omega) (by omega) (by omega)) (va_cwS 3 hts (lw_S q1111 q1112 q60 q1113) rfl rfl rfl hdS_X6_in ⟨Nat.le_of_ble_eq_true rfl, Nat.le_of_ble_eq_true rfl⟩) rfl hl.1 rfl (Nat.le_of_ble_eq_true rfl) ⟨Nat.le_of_ble_eq_true rfl, Nat.le_of_ble_eq_true rfl⟩ dX6_digit_23 ?_
  refine r_ifz_ne (tgt := 33) hx hb dX6_digit_26 (by decide) (fun c_27 => ?_) (fun c_27 => ?_)
  · refine r_iconst hx hb dX6_digit_33 ?_
    refine mp_12 hx hb hts hown hK hP hD hS (by decide) dX6_digit_34 (fun M_28 eM_28 H locs hP hD hS => ?_)
    have hIM_28 : InvM M_28 := iMs_12 hIM_22 eM_28 (by omega)
    refine lv_aload_n hx hb dX6_digit_37 rfl (lv_at hl 0 rfl) ?_
    refine mg_12 hx hb hts hown hK hP dX6_digit_38 ?_
    refine r_top (show M_28 12 0 = 0 from (by rw [eM_28]; exact upd2_e)) ?_
    refine r_if_eq (tgt := 48) hx hb dX6_digit_41 (by decide) (by omega) (fun c_31 => ?_) (fun c_31 => ?_)
    rotate_left
    · refine r_iconst hx hb dX6_digit_44 ?_
      refine lv_goto (tgt := 55) hx hb dX6_digit_45 (by decide) ?_
      refine lv_istore_n (lv' := [(3, .int (iv (0))), (0, .ref (B 0)), (1, .int (iv (low))), (2, .int (iv (high)))]) hx hb dX6_digit_55 rfl hl (by decide) rfl (fun ls hl => ?_)
      refine lv_aload_n hx hb dX6_digit_56 rfl (lv_at hl 1 rfl) ?_
      refine lv_dup hx hb dX6_digit_57 rfl ?_
      refine mg_11 hx hb hts hown hK hP dX6_digit_58 ?_
      refine r_top ((show M_28 11 0 = M_22 11 0 from by rw [eM_28]; exact congrFun (upd2_k (by decide)) 0).trans (pM_11 eM_22)) ?_
      refine lv_aload_n hx hb dX6_digit_61 rfl (lv_at hl 1 rfl) ?_
      refine mg_12 hx hb hts hown hK hP dX6_digit_62 ?_
      refine r_top (show M_28 12 0 = 0 from (by rw [eM_28]; exact upd2_e)) ?_
      refine r_if_eq (tgt := 72) hx hb dX6_digit_65 (by decide) (by omega) (fun c_42 => ?_) (fun c_42 => ?_)
      · refine r_iconst hx hb dX6_digit_72 ?_
        refine r_iadd hx hb dX6_digit_73 ?_
        refine mp_11 hx hb hts hown hK hP hD hS dX6_digit_74 (fun M_43 eM_43 H locs hP hD hS => ?_)
        have hIM_43 : InvM M_43 := iMs_11 hIM_28 eM_43 (by omega)
        refine lv_iload_n hx hb dX6_digit_77 rfl (lv_at hl 0 rfl) ?_
        exact r_iretS hx hb hr hlk hQ M_43 ⟨congrArg iv (by unfold digV; first | (rw [if_neg (by omega)]; done) | (rw [if_pos (by omega)] <;> omega)), pM_eq (pM_u (pM_v (pM_c (pM_self M).symm eM_22) eM_28) eM_43) (by unfold digA; first | (rw [if_neg (by omega)] <;> omega) | (rw [if_pos (by omega)]; first | (rw [if_neg (by omega)] <;> omega) | (rw [if_pos (by omega)] <;> omega))) (by unfold digW; first | (rw [if_neg (by omega)]; done) | (rw [if_pos (by omega)]; done)), hIM_43⟩ (fun t ht _ => ⟨by rw [ht]; exact hP, hD⟩) hS dX6_digit_78
      refine r_iconst hx hb dX6_digit_68 ?_
      refine lv_goto (tgt := 73) hx hb dX6_digit_69 (by decide) ?_
      refine r_iadd hx hb dX6_digit_73 ?_
      refine mp_11 hx hb hts hown hK hP hD hS dX6_digit_74 (fun M_44 eM_44 H locs hP hD hS => ?_)
      have hIM_44 : InvM M_44 := iMs_11 hIM_28 eM_44 (by omega)
      refine lv_iload_n hx hb dX6_digit_77 rfl (lv_at hl 0 rfl) ?_
      exact r_iretS hx hb hr hlk hQ M_44 ⟨congrArg iv (by unfold digV; first | (rw [if_neg (by omega)]; done) | (rw [if_pos (by omega)] <;> omega)), pM_eq (pM_u (pM_v (pM_c (pM_self M).symm eM_22) eM_28) eM_44) (by unfold digA; first | (rw [if_neg (by omega)] <;> omega) | (rw [if_pos (by omega)]; first | (rw [if_neg (by omega)] <;> omega) | (rw [if_pos (by omega)] <;> omega))) (by unfold digW; first | (rw [if_neg (by omega)]; done) | (rw [if_pos (by omega)]; done)), hIM_44⟩ (fun t ht _ => ⟨by rw [ht]; exact hP, hD⟩) hS dX6_digit_78
    refine lv_aload_n hx hb dX6_digit_48 rfl (lv_at hl 0 rfl) ?_
    refine m_cI ⟨hx, hb, hml, hown, hts⟩ (m_here hIM_28  ) (cwV 0 hts (lw_V q1192 q1194 qs34 q60 q1195) rfl rfl rfl hdV_X6_here ⟨Nat.le_of_ble_eq_true rfl, Nat.le_of_ble_eq_true rfl⟩) hK hP hD hS rfl hl.1 rfl (Nat.le_of_ble_eq_true rfl) ⟨Nat.le_of_ble_eq_true rfl, Nat.le_of_ble_eq_true rfl⟩ dX6_digit_49 (fun r_33 M_32 H locs hq hP hD hS => ?_)
    obtain ⟨er_33, eM_32, hIM_32⟩ := hq
    have q9 := ((show M_28 9 = M_22 9 from by rw [eM_28]; exact upd2_k (by decide))).trans (show M_22 9 = M 9 from pM_x eM_22 9 (by decide))
    have q10 := congrFun (((show M_28 10 = M_22 10 from by rw [eM_28]; exact upd2_k (by decide))).trans (show M_22 10 = M 10 from pM_x eM_22 10 (by decide))) 0
    have q11 := ((show M_28 11 0 = M_22 11 0 from by rw [eM_28]; exact congrFun (upd2_k (by decide)) 0)).trans (pM_11 eM_22)
    have q12 := (show M_28 12 0 = 0 from by rw [eM_28]; exact upd2_e)
    simp only [q9, q10, q11, q12] at er_33
    simp only [q9, q10, q11, q12] at eM_32
    subst er_33
    have f_34 := skV_r (M 9) (M 10 0) (skV (M 9) (M 10 0) (M 11 0))
    have f_35 := iM_9 hI (skV (M 9) (M 10 0) (skV (M 9) (M 10 0) (M 11 0)))
    have f_36 := (show chV (M 9) (M 10 0) (skV (M 9) (M 10 0) (skV (M 9) (M 10 0) (M 11 0))) = if skV (M 9) (M 10 0) (skV (M 9) (M 10 0) (M 11 0)) < M 10 0 then M 9 (skV (M 9) (M 10 0) (skV (M 9) (M 10 0) (M 11 0))) else 0 from rfl)
    refine r_bipush hx hb (by decide) dX6_digit_52 ?_
    refine r_isub hx hb dX6_digit_54 ?_
    refine lv_istore_n (lv' := [(3, .int (iv ((chV (M 9) (M 10 0) (skV (M 9) (M 10 0) (skV (M 9) (M 10 0) (M 11 0)))) - 48))), (0, .ref (B 0)), (1, .int (iv (low))), (2, .int (iv (high)))]) hx hb dX6_digit_55 rfl hl (by decide) rfl (fun ls hl => ?_)
    refine lv_aload_n hx hb dX6_digit_56 rfl (lv_at hl 1 rfl) ?_
    refine lv_dup hx hb dX6_digit_57 rfl ?_
    refine mg_11 hx hb hts hown hK hP dX6_digit_58 ?_
    refine r_top (pM_11 eM_32) ?_
    refine lv_aload_n hx hb dX6_digit_61 rfl (lv_at hl 1 rfl) ?_
    refine mg_12 hx hb hts hown hK hP dX6_digit_62 ?_
    refine r_top (pM_12 eM_32) ?_
    refine r_if_eq (tgt := 72) hx hb dX6_digit_65 (by decide) (by omega) (fun c_37 => ?_) (fun c_37 => ?_)
    · refine r_iconst hx hb dX6_digit_72 ?_
      refine r_iadd hx hb dX6_digit_73 ?_
      refine mp_11 hx hb hts hown hK hP hD hS dX6_digit_74 (fun M_38 eM_38 H locs hP hD hS => ?_)
      have hIM_38 : InvM M_38 := iMs_11 hIM_32 eM_38 (by omega)
      refine lv_iload_n hx hb dX6_digit_77 rfl (lv_at hl 0 rfl) ?_
      exact r_iretS hx hb hr hlk hQ M_38 ⟨congrArg iv (by unfold digV; first | (rw [if_neg (by omega)]; done) | (rw [if_pos (by omega)] <;> omega)), pM_eq (pM_u (pM_c (pM_v (pM_c (pM_self M).symm eM_22) eM_28) eM_32) eM_38) (by unfold digA; first | (rw [if_neg (by omega)] <;> omega) | (rw [if_pos (by omega)]; first | (rw [if_neg (by omega)] <;> omega) | (rw [if_pos (by omega)] <;> omega))) (by unfold digW; first | (rw [if_neg (by omega)]; done) | (rw [if_pos (by omega)]; done)), hIM_38⟩ (fun t ht _ => ⟨by rw [ht]; exact hP, hD⟩) hS dX6_digit_78
    refine r_iconst hx hb dX6_digit_68 ?_
    refine lv_goto (tgt := 73) hx hb dX6_digit_69 (by decide) ?_
    refine r_iadd hx hb dX6_digit_73 ?_
    refine mp_11 hx hb hts hown hK hP hD hS dX6_digit_74 (fun M_39 eM_39 H locs hP hD hS => ?_)
    have hIM_39 : InvM M_39 := iMs_11 hIM_32 eM_39 (by omega)
    refine lv_iload_n hx hb dX6_digit_77 rfl (lv_at hl 0 rfl) ?_
    exact r_iretS hx hb hr hlk hQ M_39 ⟨congrArg iv (by unfold digV; first | (rw [if_neg (by omega)]; done) | (rw [if_pos (by omega)] <;> omega)), pM_eq (pM_u (pM_c (pM_v (pM_c (pM_self M).symm eM_22) eM_28) eM_32) eM_39) (by unfold digA; first | (rw [if_neg (by omega)] <;> omega) | (rw [if_pos (by omega)]; first | (rw [if_neg (by omega)] <;> omega) | (rw [if_pos (by omega)] <;> omega))) (by unfold digW; first | (rw [if_neg (by omega)]; done) | (rw [if_pos (by omega)]; done)), hIM_39⟩ (fun t ht _ => ⟨by rw [ht]; exact hP, hD⟩) hS dX6_digit_78
  refine r_iconst hx hb dX6_digit_29 ?_
  refine lv_goto (tgt := 34) hx hb dX6_digit_30 (by decide) ?_
  refine mp_12 hx hb hts hown hK hP hD hS (by decide) dX6_digit_34 (fun M_45 eM_45 H locs hP hD hS => ?_)
  have hIM_45 : InvM M_45 := iMs_12 hIM_22 eM_45 (by omega)
  refine lv_aload_n hx hb dX6_digit_37 rfl (lv_at hl 0 rfl) ?_
  refine mg_12 hx hb hts hown hK hP dX6_digit_38 ?_
  refine r_top (show M_45 12 0 = 1 from (by rw [eM_45]; exact upd2_e)) ?_
  refine r_if_eq (tgt := 48) hx hb dX6_digit_41 (by decide) (by omega) (fun c_48 => ?_) (fun c_48 => ?_)
  rotate_left
  · refine r_iconst hx hb dX6_digit_44 ?_
    refine lv_goto (tgt := 55) hx hb dX6_digit_45 (by decide) ?_
    refine lv_istore_n (lv' := [(3, .int (iv (0))), (0, .ref (B 0)), (1, .int (iv (low))), (2, .int (iv (high)))]) hx hb dX6_digit_55 rfl hl (by decide) rfl (fun ls hl => ?_)
    refine lv_aload_n hx hb dX6_digit_56 rfl (lv_at hl 1 rfl) ?_
    refine lv_dup hx hb dX6_digit_57 rfl ?_
    refine mg_11 hx hb hts hown hK hP dX6_digit_58 ?_
    refine r_top ((show M_45 11 0 = M_22 11 0 from by rw [eM_45]; exact congrFun (upd2_k (by decide)) 0).trans (pM_11 eM_22)) ?_
    refine lv_aload_n hx hb dX6_digit_61 rfl (lv_at hl 1 rfl) ?_
    refine mg_12 hx hb hts hown hK hP dX6_digit_62 ?_
    refine r_top (show M_45 12 0 = 1 from (by rw [eM_45]; exact upd2_e)) ?_
    refine r_if_eq (tgt := 72) hx hb dX6_digit_65 (by decide) (by omega) (fun c_59 => ?_) (fun c_59 => ?_)
    · refine r_iconst hx hb dX6_digit_72 ?_
      refine r_iadd hx hb dX6_digit_73 ?_
      refine mp_11 hx hb hts hown hK hP hD hS dX6_digit_74 (fun M_60 eM_60 H locs hP hD hS => ?_)
      have hIM_60 : InvM M_60 := iMs_11 hIM_45 eM_60 (by omega)
      refine lv_iload_n hx hb dX6_digit_77 rfl (lv_at hl 0 rfl) ?_
      exact r_iretS hx hb hr hlk hQ M_60 ⟨congrArg iv (by unfold digV; first | (rw [if_neg (by omega)]; done) | (rw [if_pos (by omega)] <;> omega)), pM_eq (pM_u (pM_v (pM_c (pM_self M).symm eM_22) eM_45) eM_60) (by unfold digA; first | (rw [if_neg (by omega)] <;> omega) | (rw [if_pos (by omega)]; first | (rw [if_neg (by omega)] <;> omega) | (rw [if_pos (by omega)] <;> omega))) (by unfold digW; first | (rw [if_neg (by omega)]; done) | (rw [if_pos (by omega)]; done)), hIM_60⟩ (fun t ht _ => ⟨by rw [ht]; exact hP, hD⟩) hS dX6_digit_78
    refine r_iconst hx hb dX6_digit_68 ?_
    refine lv_goto (tgt := 73) hx hb dX6_digit_69 (by decide) ?_
    refine r_iadd hx hb dX6_digit_73 ?_
    refine mp_11 hx hb hts hown hK hP hD hS dX6_digit_74 (fun M_61 eM_61 H locs hP hD hS => ?_)
    have hIM_61 : InvM M_61 := iMs_11 hIM_45 eM_61 (by omega)
    refine lv_iload_n hx hb dX6_digit_77 rfl (lv_at hl 0 rfl) ?_
    exact r_iretS hx hb hr hlk hQ M_61 ⟨congrArg iv (by unfold digV; first | (rw [if_neg (by omega)]; done) | (rw [if_pos (by omega)] <;> omega)), pM_eq (pM_u (pM_v (pM_c (pM_self M).symm eM_22) eM_45) eM_61) (by unfold digA; first | (rw [if_neg (by omega)] <;> omega) | (rw [if_pos (by omega)]; first | (rw [if_neg (by omega)] <;> omega) | (rw [if_pos (by omega)] <;> omega))) (by unfold digW; first | (rw [if_neg (by omega)]; done) | (rw [if_pos (by omega)]; done)), hIM_61⟩ (fun t ht _ => ⟨by rw [ht]; exact hP, hD⟩) hS dX6_digit_78
  refine lv_aload_n hx hb dX6_digit_48 rfl (lv_at hl 0 rfl) ?_
  refine m_cI ⟨hx, hb, hml, hown, hts⟩ (m_here hIM_45  ) (cwV 0 hts (lw_V q1192 q1194 qs34 q60 q1195) rfl rfl rfl hdV_X6_here ⟨Nat.le_of_ble_eq_true rfl, Nat.le_of_ble_eq_true rfl⟩) hK hP hD hS rfl hl.1 rfl (Nat.le_of_ble_eq_true rfl) ⟨Nat.le_of_ble_eq_true rfl, Nat.le_of_ble_eq_true rfl⟩ dX6_digit_49 (fun r_50 M_49 H locs hq hP hD hS => ?_)
  obtain ⟨er_50, eM_49, hIM_49⟩ := hq
  have q9 := ((show M_45 9 = M_22 9 from by rw [eM_45]; exact upd2_k (by decide))).trans (show M_22 9 = M 9 from pM_x eM_22 9 (by decide))
  have q10 := congrFun (((show M_45 10 = M_22 10 from by rw [eM_45]; exact upd2_k (by decide))).trans (show M_22 10 = M 10 from pM_x eM_22 10 (by decide))) 0
  have q11 := ((show M_45 11 0 = M_22 11 0 from by rw [eM_45]; exact congrFun (upd2_k (by decide)) 0)).trans (pM_11 eM_22)
  have q12 := (show M_45 12 0 = 1 from by rw [eM_45]; exact upd2_e)
  simp only [q9, q10, q11, q12] at er_50
  simp only [q9, q10, q11, q12] at eM_49
  subst er_50
  have f_51 := skV_r (M 9) (M 10 0) (skV (M 9) (M 10 0) (M 11 0))
  have f_52 := iM_9 hI (skV (M 9) (M 10 0) (skV (M 9) (M 10 0) (M 11 0)))
  have f_53 := (show chV (M 9) (M 10 0) (skV (M 9) (M 10 0) (skV (M 9) (M 10 0) (M 11 0))) = if skV (M 9) (M 10 0) (skV (M 9) (M 10 0) (M 11 0)) < M 10 0 then M 9 (skV (M 9) (M 10 0) (skV (M 9) (M 10 0) (M 11 0))) else 0 from rfl)
  refine r_bipush hx hb (by decide) dX6_digit_52 ?_
  refine r_isub hx hb dX6_digit_54 ?_
  refine lv_istore_n (lv' := [(3, .int (iv ((chV (M 9) (M 10 0) (skV (M 9) (M 10 0) (skV (M 9) (M 10 0) (M 11 0)))) - 48))), (0, .ref (B 0)), (1, .int (iv (low))), (2, .int (iv (high)))]) hx hb dX6_digit_55 rfl hl (by decide) rfl (fun ls hl => ?_)
  refine lv_aload_n hx hb dX6_digit_56 rfl (lv_at hl 1 rfl) ?_
  refine lv_dup hx hb dX6_digit_57 rfl ?_
  refine mg_11 hx hb hts hown hK hP dX6_digit_58 ?_
  refine r_top (pM_11 eM_49) ?_
  refine lv_aload_n hx hb dX6_digit_61 rfl (lv_at hl 1 rfl) ?_
  refine mg_12 hx hb hts hown hK hP dX6_digit_62 ?_
  refine r_top (pM_12 eM_49) ?_
  refine r_if_eq (tgt := 72) hx hb dX6_digit_65 (by decide) (by omega) (fun c_54 => ?_) (fun c_54 => ?_)
  · refine r_iconst hx hb dX6_digit_72 ?_
    refine r_iadd hx hb dX6_digit_73 ?_
    refine mp_11 hx hb hts hown hK hP hD hS dX6_digit_74 (fun M_55 eM_55 H locs hP hD hS => ?_)
    have hIM_55 : InvM M_55 := iMs_11 hIM_49 eM_55 (by omega)
    refine lv_iload_n hx hb dX6_digit_77 rfl (lv_at hl 0 rfl) ?_
    exact r_iretS hx hb hr hlk hQ M_55 ⟨congrArg iv (by unfold digV; first | (rw [if_neg (by omega)]; done) | (rw [if_pos (by omega)] <;> omega)), pM_eq (pM_u (pM_c (pM_v (pM_c (pM_self M).symm eM_22) eM_45) eM_49) eM_55) (by unfold digA; first | (rw [if_neg (by omega)] <;> omega) | (rw [if_pos (by omega)]; first | (rw [if_neg (by omega)] <;> omega) | (rw [if_pos (by omega)] <;> omega))) (by unfold digW; first | (rw [if_neg (by omega)]; done) | (rw [if_pos (by omega)]; done)), hIM_55⟩ (fun t ht _ => ⟨by rw [ht]; exact hP, hD⟩) hS dX6_digit_78
  refine r_iconst hx hb dX6_digit_68 ?_
  refine lv_goto (tgt := 73) hx hb dX6_digit_69 (by decide) ?_
  refine r_iadd hx hb dX6_digit_73 ?_
  refine mp_11 hx hb hts hown hK hP hD hS dX6_digit_74 (fun M_56 eM_56 H locs hP hD hS => ?_)
  have hIM_56 : InvM M_56 := iMs_11 hIM_49 eM_56 (by omega)
  refine lv_iload_n hx hb dX6_digit_77 rfl (lv_at hl 0 rfl) ?_
  exact r_iretS hx hb hr hlk hQ M_56 ⟨congrArg iv (by unfold digV; first | (rw [if_neg (by omega)]; done) | (rw [if_pos (by omega)] <;> omega)), pM_eq (pM_u (pM_c (pM_v (pM_c (pM_self M).symm eM_22) eM_45) eM_49) eM_56) (by unfold digA; first | (rw [if_neg (by omega)] <;> omega) | (rw [if_pos (by omega)]; first | (rw [if_neg (by omega)] <;> omega) | (rw [if_pos (by omega)] <;> omega))) (by unfold digW; first | (rw [if_neg (by omega)]; done) | (rw [if_pos (by omega)]; done)), hIM_56⟩ (fun t ht _ => ⟨by rw [ht]; exact hP, hD⟩) hS dX6_digit_78
set_option maxHeartbeats 4000000 in
set_option maxRecDepth 100000 in
theorem m_both {l : Launch} {D : va_G} {cI : ClassId} {B : Nat → Nat} {A : Nat → Prop} {M : St} (hI : InvM M)   : Met l yX6_both (ws_ yX6_both cX6_both 2 (some .int)) (rmk 3 0 0) (va_Pc [.ref (B 0)] (mUS D cI A (mW cI B M))) (va_Qi (fun r M1 => r = iv (bothV (M 9) (M 10 0) (M 11 0) (M 12 0)) ∧ M1 = pM M (bothA (M 9) (M 10 0) (M 11 0) (M 12 0)) (bothW (M 9) (M 10 0) (M 11 0) (M 12 0)) ∧ InvM M1) (mB D cI B A) A) 0 0 A := by
  refine r_met (by decide) _ rfl (Nat.le_of_ble_eq_true rfl) ?_
  intro p e s m args below meth c Q ls hx hb hr hlk hml hown hts hpre hQ hl
  obtain ⟨hP, hD, hK⟩ := hpre
  have hS : va_S A s.heap s.heap [] := va_S.rf
  have hown : s.vm.findClass RX6 = some m.cls := hown
  have hl : lv_has ls 2 [(0, .ref (B 0))] := hl
  refine lv_aload_n hx hb dX6_both_0 rfl (lv_at hl 0 rfl) ?_
  refine r_iconst hx hb dX6_both_1 ?_
  refine r_iconst hx hb dX6_both_2 ?_
  refine m_cI ⟨hx, hb, hml, hown, hts⟩ (m_digit hI (low := 0) (high := 3) (by decide) (by decide)) (cwV 2 hts (lw_V q1206 q1208 qs37 q60 q1209) rfl rfl rfl hdV_X6_digit ⟨Nat.le_of_ble_eq_true rfl, Nat.le_of_ble_eq_true rfl⟩) hK hP hD hS rfl hl.1 rfl (Nat.le_of_ble_eq_true rfl) ⟨Nat.le_of_ble_eq_true rfl, Nat.le_of_ble_eq_true rfl⟩ dX6_both_3 (fun r_2 M_1 H locs hq hP hD hS => ?_)
  obtain ⟨er_2, eM_1, hIM_1⟩ := hq
  subst er_2
  have f_3 := digW_01 (M 9) (M 10 0) (0 : Int) (3 : Int) (M 11 0) (M 12 0)
  have f_4 := digV_r (M 9) (M 10 0) (lo := (0 : Int)) (hi := (3 : Int)) (by omega) (M 11 0) (M 12 0)
  refine lv_istore_n (lv' := [(1, .int (iv (digV (M 9) (M 10 0) (0 : Int) (3 : Int) (M 11 0) (M 12 0)))), (0, .ref (B 0))]) hx hb dX6_both_6 rfl hl (by decide) rfl (fun ls hl => ?_)
  refine r_bipush hx hb (by decide) dX6_both_7 ?_
  refine lv_iload_n hx hb dX6_both_9 rfl (lv_at hl 0 rfl) ?_
  refine r_imul hx hb dX6_both_10 ?_
  refine lv_aload_n hx hb dX6_both_11 rfl (lv_at hl 1 rfl) ?_
  refine r_iconst hx hb dX6_both_12 ?_
  refine r_bipush hx hb (by decide) dX6_both_13 ?_
  refine m_cI ⟨hx, hb, hml, hown, hts⟩ (m_digit hIM_1 (low := 1) (high := 9) (by decide) (by decide)) (cwV 2 hts (lw_V q1206 q1208 qs37 q60 q1209) rfl rfl rfl hdV_X6_digit ⟨Nat.le_of_ble_eq_true rfl, Nat.le_of_ble_eq_true rfl⟩) hK hP hD hS rfl hl.1 rfl (Nat.le_of_ble_eq_true rfl) ⟨Nat.le_of_ble_eq_true rfl, Nat.le_of_ble_eq_true rfl⟩ dX6_both_15 (fun r_6 M_5 H locs hq hP hD hS => ?_)
  obtain ⟨er_6, eM_5, hIM_5⟩ := hq
  have q9 := (show M_1 9 = M 9 from pM_x eM_1 9 (by decide))
  have q10 := congrFun ((show M_1 10 = M 10 from pM_x eM_1 10 (by decide))) 0
  have q11 := (pM_11 eM_1)
  have q12 := (pM_12 eM_1)
  simp only [q9, q10, q11, q12] at er_6
  simp only [q9, q10, q11, q12] at eM_5
  subst er_6
  have f_7 := digW_01 (M 9) (M 10 0) (1 : Int) (9 : Int) (digA (M 9) (M 10 0) (0 : Int) (3 : Int) (M 11 0) (M 12 0)) (digW (M 9) (M 10 0) (0 : Int) (3 : Int) (M 11 0) (M 12 0))
  have f_8 := digV_r (M 9) (M 10 0) (lo := (1 : Int)) (hi := (9 : Int)) (by omega) (digA (M 9) (M 10 0) (0 : Int) (3 : Int) (M 11 0) (M 12 0)) (digW (M 9) (M 10 0) (0 : Int) (3 : Int) (M 11 0) (M 12 0))
  refine r_iadd hx hb dX6_both_18 ?_
  exact r_iretS hx hb hr hlk hQ M_5 ⟨congrArg iv (by rfl), pM_eq (pM_c (pM_c (pM_self M).symm eM_1) eM_5) (by rfl) (by rfl), hIM_5⟩ (fun t ht _ => ⟨by rw [ht]; exact hP, hD⟩) hS dX6_both_19
