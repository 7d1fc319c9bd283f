set_option maxRecDepth 100000
set_option maxHeartbeats 4000000 in
set_option maxRecDepth 100000 in
theorem m_count {l : Launch} {D : va_G} {cI : ClassId} {B : Nat → Nat} {M : St} (hI : InvM M) {what : Int} (g_what : -2147483648 ≤ what ∧ what ≤ 2147483647) : Met l yX6_count (ws_ yX6_count cX6_count 4 (some .int)) (rmk 2 0 0) (va_Pc [.ref (B 0), .int (iv what)] (mU D cI (mW cI B M))) (QcRead (iv (opCount (rv M) (M 7 0) (M 16 0) (M 19 0) what))) 0 0 (fun _ => False) := by
  refine r_met (by decide) _ rfl (Nat.le_of_ble_eq_true rfl) ?_
  intro p e s m args below meth c Q ls hx hb hr hlk hml hown hts hpre hQ hl
  obtain ⟨hP, hK⟩ := hpre
  have hown : s.vm.findClass RX6 = some m.cls := hown
  have hl : lv_has ls 4 [(0, .ref (B 0)), (1, .int (iv (what)))] := hl
  refine r_iconst hx hb dX6_count_0 ?_
  refine lv_istore_n (lv' := [(2, .int (iv (0))), (0, .ref (B 0)), (1, .int (iv (what)))]) hx hb dX6_count_1 rfl hl (by decide) rfl (fun ls hl => ?_)
  refine r_iconst hx hb dX6_count_2 ?_
  refine lv_istore_n (lv' := [(3, .int (iv (0))), (2, .int (iv (0))), (0, .ref (B 0)), (1, .int (iv (what)))]) hx hb dX6_count_3 rfl hl (by decide) rfl (fun ls hl => ?_)
  have lp_4 : ∀ (n_4 : Nat) (many : Int) (b : Int), 16 - b < (n_4 : Int) → (0 ≤ b) → (b ≤ 16) → (many = manyV (rv M) what b) → ∀ (ls : Array Slot), lv_has ls 4 [(0, .ref (B 0)), (1, .int (iv (what))), (2, .int (iv (many))), (3, .int (iv (b)))] → W p l e (rmk 2 0 0) s m args below meth c s.heap [] 0 0 Q (F0 m 4 ls []) := by
    intro n_4
    induction n_4 with
    | zero =>
      intro many b hn_4 h0 h1 h2 ls hl
      exfalso
      omega
    | succ n_4 ih_4 =>
      intro many b hn_4 h0 h1 h2 ls hl
      have a0 : rv M 0 b = M 0 b := rfl
      have a1 : rv M 1 b = M 1 b := rfl
      have a4 : rv M 4 b = M 4 b := rfl
      refine lv_iload_n hx hb dX6_count_4 rfl (lv_at hl 3 rfl) ?_
      refine r_bipush hx hb (by decide) dX6_count_5 ?_
      refine r_icmp_ge (tgt := 66) hx hb dX6_count_7 (by decide) (by omega) (by omega) (fun c_1 => ?_) (fun c_1 => ?_)
      · refine lv_iload_n hx hb dX6_count_66 rfl (lv_at hl 1 rfl) ?_
        refine r_i2l hx hb (by omega) dX6_count_67 ?_
        refine r_lconst hx hb 0 (by decide) dX6_count_68 ?_
        refine r_ldc2 hx hb (5) (by decide) hown (hts _ q1222) dX6_count_69 ?_
        refine s_cR ⟨hx, hb, hml, hown, hts⟩ (m_in (v := what) (low := 0) (high := 5) (by omega) (by decide) (by decide)) (va_cwS 3 hts (lw_S q1111 q1112 q60 q1113) rfl rfl rfl hdS_X6_in ⟨Nat.le_of_ble_eq_true rfl, Nat.le_of_ble_eq_true rfl⟩) rfl hl.1 rfl (Nat.le_of_ble_eq_true rfl) ⟨Nat.le_of_ble_eq_true rfl, Nat.le_of_ble_eq_true rfl⟩ dX6_count_72 ?_
        refine r_ifz_ne (tgt := 82) hx hb dX6_count_75 (by decide) (fun c_2 => ?_) (fun c_2 => ?_)
        rotate_left
        · refine r_iconst hx hb dX6_count_78 ?_
          refine lv_goto (tgt := 118) hx hb dX6_count_79 (by decide) ?_
          exact r_iretR hx hb hr hlk hQ (congrArg iv (by have e := h2; rw [show b = 16 by omega] at e; unfold opCount; first | exact (if_neg (by omega)).symm | (rw [if_pos (by omega)]; first | (rw [if_pos (by omega)]; done) | (rw [if_neg (by omega), if_pos (by omega)]; done) | (rw [if_neg (by omega), if_neg (by omega), if_pos (by omega)]; done) | (rw [if_neg (by omega), if_neg (by omega), if_neg (by omega)]; exact e)))) dX6_count_118
        refine lv_iload_n hx hb dX6_count_82 rfl (lv_at hl 1 rfl) ?_
        refine r_if_ne (tgt := 93) hx hb dX6_count_83 (by decide) (by omega) (fun c_3 => ?_) (fun c_3 => ?_)
        rotate_left
        · refine lv_aload_n hx hb dX6_count_86 rfl (lv_at hl 0 rfl) ?_
          refine mg_7 hx hb hts hown hK hP dX6_count_87 ?_
          have b_8 := iM_7 (M := M) hI (0)
          refine lv_goto (tgt := 118) hx hb dX6_count_90 (by decide) ?_
          exact r_iretR hx hb hr hlk hQ (congrArg iv (by have e := h2; rw [show b = 16 by omega] at e; unfold opCount; first | exact (if_neg (by omega)).symm | (rw [if_pos (by omega)]; first | (rw [if_pos (by omega)]; done) | (rw [if_neg (by omega), if_pos (by omega)]; done) | (rw [if_neg (by omega), if_neg (by omega), if_pos (by omega)]; done) | (rw [if_neg (by omega), if_neg (by omega), if_neg (by omega)]; exact e)))) dX6_count_118
        refine lv_iload_n hx hb dX6_count_93 rfl (lv_at hl 1 rfl) ?_
        refine r_iconst hx hb dX6_count_94 ?_
        refine r_icmp_ne (tgt := 105) hx hb dX6_count_95 (by decide) (by omega) (by omega) (fun c_4 => ?_) (fun c_4 => ?_)
        rotate_left
        · refine lv_aload_n hx hb dX6_count_98 rfl (lv_at hl 0 rfl) ?_
          refine mg_16 hx hb hts hown hK hP dX6_count_99 ?_
          have b_7 := iM_16 (M := M) hI (0)
          refine lv_goto (tgt := 118) hx hb dX6_count_102 (by decide) ?_
          exact r_iretR hx hb hr hlk hQ (congrArg iv (by have e := h2; rw [show b = 16 by omega] at e; unfold opCount; first | exact (if_neg (by omega)).symm | (rw [if_pos (by omega)]; first | (rw [if_pos (by omega)]; done) | (rw [if_neg (by omega), if_pos (by omega)]; done) | (rw [if_neg (by omega), if_neg (by omega), if_pos (by omega)]; done) | (rw [if_neg (by omega), if_neg (by omega), if_neg (by omega)]; exact e)))) dX6_count_118
        refine lv_iload_n hx hb dX6_count_105 rfl (lv_at hl 1 rfl) ?_
        refine r_iconst hx hb dX6_count_106 ?_
        refine r_icmp_ne (tgt := 117) hx hb dX6_count_107 (by decide) (by omega) (by omega) (fun c_5 => ?_) (fun c_5 => ?_)
        · refine lv_iload_n hx hb dX6_count_117 rfl (lv_at hl 2 rfl) ?_
          exact r_iretR hx hb hr hlk hQ (congrArg iv (by have e := h2; rw [show b = 16 by omega] at e; unfold opCount; first | exact (if_neg (by omega)).symm | (rw [if_pos (by omega)]; first | (rw [if_pos (by omega)]; done) | (rw [if_neg (by omega), if_pos (by omega)]; done) | (rw [if_neg (by omega), if_neg (by omega), if_pos (by omega)]; done) | (rw [if_neg (by omega), if_neg (by omega), if_neg (by omega)]; exact e)))) dX6_count_118
        refine lv_aload_n hx hb dX6_count_110 rfl (lv_at hl 0 rfl) ?_
        refine mg_19 hx hb hts hown hK hP dX6_count_111 ?_
        have b_6 := iM_19 (M := M) hI (0)
        refine lv_goto (tgt := 118) hx hb dX6_count_114 (by decide) ?_
        exact r_iretR hx hb hr hlk hQ (congrArg iv (by have e := h2; rw [show b = 16 by omega] at e; unfold opCount; first | exact (if_neg (by omega)).symm | (rw [if_pos (by omega)]; first | (rw [if_pos (by omega)]; done) | (rw [if_neg (by omega), if_pos (by omega)]; done) | (rw [if_neg (by omega), if_neg (by omega), if_pos (by omega)]; done) | (rw [if_neg (by omega), if_neg (by omega), if_neg (by omega)]; exact e)))) dX6_count_118
      refine lv_iload_n hx hb dX6_count_10 rfl (lv_at hl 2 rfl) ?_
      refine lv_iload_n hx hb dX6_count_11 rfl (lv_at hl 1 rfl) ?_
      refine r_iconst hx hb dX6_count_12 ?_
      have J_12 : ∀ (v_10 : Int) (ls : Array Slot), v_10 = (if what = 1 then if 0 < (M 1 b) then 1 else if what = 2 then if 0 < (M 0 b) then 1 else if what = 3 then if (M 4 b) ≤ 0 then 0 else 1 else 0 else if what = 3 then if (M 4 b) ≤ 0 then 0 else 1 else 0 else if what = 2 then if 0 < (M 0 b) then 1 else if what = 3 then if (M 4 b) ≤ 0 then 0 else 1 else 0 else if what = 3 then if (M 4 b) ≤ 0 then 0 else 1 else 0) → lv_has ls 4 [(0, .ref (B 0)), (1, .int (iv (what))), (2, .int (iv (many))), (3, .int (iv (b)))] → W p l e (rmk 2 0 0) s m args below meth c s.heap [] 0 0 Q (F0 m 58 ls [.int (iv (v_10)), .int (iv (many))]) := by
        intro v_10 ls ev_10 hl
        refine r_iadd hx hb dX6_count_58 ?_
        refine lv_istore_n (lv' := [(2, .int (iv (many + v_10))), (0, .ref (B 0)), (1, .int (iv (what))), (3, .int (iv (b)))]) hx hb dX6_count_59 rfl hl (by decide) rfl (fun ls hl => ?_)
        refine lv_iinc (v := iv (b + 1)) (lv' := [(3, .int (iv (b + 1))), (2, .int (iv (many + v_10))), (0, .ref (B 0)), (1, .int (iv (what)))]) hx hb dX6_count_60 hl (k := 3) rfl (iv_add _ _) (by decide) rfl (fun ls hl => ?_)
        refine lv_goto (tgt := 4) hx hb dX6_count_63 (by decide) ?_
        exact ih_4 (many + v_10) (b + 1) (by omega) (by omega) (by omega) (by rw [manyV_s _ _ h0, ← h2]; unfold cntV; rw [ev_10]; (repeat' split) <;> omega) ls (lv_sub hl [2, 3, 1, 0] rfl)
      refine r_icmp_ne (tgt := 25) hx hb dX6_count_13 (by decide) (by omega) (by omega) (fun c_9 => ?_) (fun c_9 => ?_)
      · refine lv_iload_n hx hb dX6_count_25 rfl (lv_at hl 1 rfl) ?_
        refine r_iconst hx hb dX6_count_26 ?_
        refine r_icmp_ne (tgt := 39) hx hb dX6_count_27 (by decide) (by omega) (by omega) (fun c_14 => ?_) (fun c_14 => ?_)
        · refine lv_iload_n hx hb dX6_count_39 rfl (lv_at hl 1 rfl) ?_
          refine r_iconst hx hb dX6_count_40 ?_
          refine r_icmp_ne (tgt := 57) hx hb dX6_count_41 (by decide) (by omega) (by omega) (fun c_15 => ?_) (fun c_15 => ?_)
          · refine r_iconst hx hb dX6_count_57 ?_
            exact J_12 0 ls (by rw [if_neg c_9]; rw [if_neg c_14]; rw [if_neg c_15]) (lv_sub hl [0, 1, 2, 3] rfl)
          refine lv_aload_n hx hb dX6_count_44 rfl (lv_at hl 0 rfl) ?_
          refine mg_4 hx hb hts hown hK hP dX6_count_45 ?_
          refine lv_iload_n hx hb dX6_count_48 rfl (lv_at hl 3 rfl) ?_
          refine m_ald hx hb hK hP 4 (n := 16) rfl (by decide) (by omega) dX6_count_49 ?_
          have b_16 := iM_4 (M := M) hI (b)
          refine r_if_le (tgt := 57) hx hb dX6_count_50 (by decide) (by omega) (fun c_17 => ?_) (fun c_17 => ?_)
          · refine r_iconst hx hb dX6_count_57 ?_
            exact J_12 0 ls (by rw [if_neg c_9]; rw [if_neg c_14]; rw [if_pos c_15]; rw [if_pos c_17]) (lv_sub hl [0, 1, 2, 3] rfl)
          refine r_iconst hx hb dX6_count_53 ?_
          refine lv_goto (tgt := 58) hx hb dX6_count_54 (by decide) ?_
          exact J_12 1 ls (by rw [if_neg c_9]; rw [if_neg c_14]; rw [if_pos c_15]; rw [if_neg c_17]) (lv_sub hl [0, 1, 2, 3] rfl)
        refine lv_aload_n hx hb dX6_count_30 rfl (lv_at hl 0 rfl) ?_
        refine mg_0 hx hb hts hown hK hP dX6_count_31 ?_
        refine lv_iload_n hx hb dX6_count_34 rfl (lv_at hl 3 rfl) ?_
        refine m_ald hx hb hK hP 0 (n := 16) rfl (by decide) (by omega) dX6_count_35 ?_
        have b_18 := iM_0 (M := M) hI (b)
        refine r_if_gt (tgt := 53) hx hb dX6_count_36 (by decide) (by omega) (fun c_19 => ?_) (fun c_19 => ?_)
        · refine r_iconst hx hb dX6_count_53 ?_
          refine lv_goto (tgt := 58) hx hb dX6_count_54 (by decide) ?_
          exact J_12 1 ls (by rw [if_neg c_9]; rw [if_pos c_14]; rw [if_pos c_19]) (lv_sub hl [0, 1, 2, 3] rfl)
        refine lv_iload_n hx hb dX6_count_39 rfl (lv_at hl 1 rfl) ?_
        refine r_iconst hx hb dX6_count_40 ?_
        refine r_icmp_ne (tgt := 57) hx hb dX6_count_41 (by decide) (by omega) (by omega) (fun c_20 => ?_) (fun c_20 => ?_)
        · refine r_iconst hx hb dX6_count_57 ?_
          exact J_12 0 ls (by rw [if_neg c_9]; rw [if_pos c_14]; rw [if_neg c_19]; rw [if_neg c_20]) (lv_sub hl [0, 1, 2, 3] rfl)
        refine lv_aload_n hx hb dX6_count_44 rfl (lv_at hl 0 rfl) ?_
        refine mg_4 hx hb hts hown hK hP dX6_count_45 ?_
        refine lv_iload_n hx hb dX6_count_48 rfl (lv_at hl 3 rfl) ?_
        refine m_ald hx hb hK hP 4 (n := 16) rfl (by decide) (by omega) dX6_count_49 ?_
        have b_21 := iM_4 (M := M) hI (b)
        refine r_if_le (tgt := 57) hx hb dX6_count_50 (by decide) (by omega) (fun c_22 => ?_) (fun c_22 => ?_)
        · refine r_iconst hx hb dX6_count_57 ?_
          exact J_12 0 ls (by rw [if_neg c_9]; rw [if_pos c_14]; rw [if_neg c_19]; rw [if_pos c_20]; rw [if_pos c_22]) (lv_sub hl [0, 1, 2, 3] rfl)
        refine r_iconst hx hb dX6_count_53 ?_
        refine lv_goto (tgt := 58) hx hb dX6_count_54 (by decide) ?_
        exact J_12 1 ls (by rw [if_neg c_9]; rw [if_pos c_14]; rw [if_neg c_19]; rw [if_pos c_20]; rw [if_neg c_22]) (lv_sub hl [0, 1, 2, 3] rfl)
      refine lv_aload_n hx hb dX6_count_16 rfl (lv_at hl 0 rfl) ?_
      refine mg_1 hx hb hts hown hK hP dX6_count_17 ?_
      refine lv_iload_n hx hb dX6_count_20 rfl (lv_at hl 3 rfl) ?_
      refine m_ald hx hb hK hP 1 (n := 16) rfl (by decide) (by omega) dX6_count_21 ?_
      have b_23 := iM_1 (M := M) hI (b)
      refine r_if_gt (tgt := 53) hx hb dX6_count_22 (by decide) (by omega) (fun c_24 => ?_) (fun c_24 => ?_)
      · refine r_iconst hx hb dX6_count_53 ?_
        refine lv_goto (tgt := 58) hx hb dX6_count_54 (by decide) ?_
        exact J_12 1 ls (by rw [if_pos c_9]; rw [if_pos c_24]) (lv_sub hl [0, 1, 2, 3] rfl)
      refine lv_iload_n hx hb dX6_count_25 rfl (lv_at hl 1 rfl) ?_
      refine r_iconst hx hb dX6_count_26 ?_
      refine r_icmp_ne (tgt := 39) hx hb dX6_count_27 (by decide) (by omega) (by omega) (fun c_25 => ?_) (fun c_25 => ?_)
      · refine lv_iload_n hx hb dX6_count_39 rfl (lv_at hl 1 rfl) ?_
        refine r_iconst hx hb dX6_count_40 ?_
        refine r_icmp_ne (tgt := 57) hx hb dX6_count_41 (by decide) (by omega) (by omega) (fun c_26 => ?_) (fun c_26 => ?_)
        · refine r_iconst hx hb dX6_count_57 ?_
          exact J_12 0 ls (by rw [if_pos c_9]; rw [if_neg c_24]; rw [if_neg c_25]; rw [if_neg c_26]) (lv_sub hl [0, 1, 2, 3] rfl)
        refine lv_aload_n hx hb dX6_count_44 rfl (lv_at hl 0 rfl) ?_
        refine mg_4 hx hb hts hown hK hP dX6_count_45 ?_
        refine lv_iload_n hx hb dX6_count_48 rfl (lv_at hl 3 rfl) ?_
        refine m_ald hx hb hK hP 4 (n := 16) rfl (by decide) (by omega) dX6_count_49 ?_
        have b_27 := iM_4 (M := M) hI (b)
        refine r_if_le (tgt := 57) hx hb dX6_count_50 (by decide) (by omega) (fun c_28 => ?_) (fun c_28 => ?_)
        · refine r_iconst hx hb dX6_count_57 ?_
          exact J_12 0 ls (by rw [if_pos c_9]; rw [if_neg c_24]; rw [if_neg c_25]; rw [if_pos c_26]; rw [if_pos c_28]) (lv_sub hl [0, 1, 2, 3] rfl)
        refine r_iconst hx hb dX6_count_53 ?_
        refine lv_goto (tgt := 58) hx hb dX6_count_54 (by decide) ?_
        exact J_12 1 ls (by rw [if_pos c_9]; rw [if_neg c_24]; rw [if_neg c_25]; rw [if_pos c_26]; rw [if_neg c_28]) (lv_sub hl [0, 1, 2, 3] rfl)
      refine lv_aload_n hx hb dX6_count_30 rfl (lv_at hl 0 rfl) ?_
      refine mg_0 hx hb hts hown hK hP dX6_count_31 ?_
      refine lv_iload_n hx hb dX6_count_34 rfl (lv_at hl 3 rfl) ?_
      refine m_ald hx hb hK hP 0 (n := 16) rfl (by decide) (by omega) dX6_count_35 ?_
      have b_29 := iM_0 (M := M) hI (b)
      refine r_if_gt (tgt := 53) hx hb dX6_count_36 (by decide) (by omega) (fun c_30 => ?_) (fun c_30 => ?_)
      · refine r_iconst hx hb dX6_count_53 ?_
        refine lv_goto (tgt := 58) hx hb dX6_count_54 (by decide) ?_
        exact J_12 1 ls (by rw [if_pos c_9]; rw [if_neg c_24]; rw [if_pos c_25]; rw [if_pos c_30]) (lv_sub hl [0, 1, 2, 3] rfl)
      refine lv_iload_n hx hb dX6_count_39 rfl (lv_at hl 1 rfl) ?_
      refine r_iconst hx hb dX6_count_40 ?_
      refine r_icmp_ne (tgt := 57) hx hb dX6_count_41 (by decide) (by omega) (by omega) (fun c_31 => ?_) (fun c_31 => ?_)
      · refine r_iconst hx hb dX6_count_57 ?_
        exact J_12 0 ls (by rw [if_pos c_9]; rw [if_neg c_24]; rw [if_pos c_25]; rw [if_neg c_30]; rw [if_neg c_31]) (lv_sub hl [0, 1, 2, 3] rfl)
      refine lv_aload_n hx hb dX6_count_44 rfl (lv_at hl 0 rfl) ?_
      refine mg_4 hx hb hts hown hK hP dX6_count_45 ?_
      refine lv_iload_n hx hb dX6_count_48 rfl (lv_at hl 3 rfl) ?_
      refine m_ald hx hb hK hP 4 (n := 16) rfl (by decide) (by omega) dX6_count_49 ?_
      have b_32 := iM_4 (M := M) hI (b)
      refine r_if_le (tgt := 57) hx hb dX6_count_50 (by decide) (by omega) (fun c_33 => ?_) (fun c_33 => ?_)
      · refine r_iconst hx hb dX6_count_57 ?_
        exact J_12 0 ls (by rw [if_pos c_9]; rw [if_neg c_24]; rw [if_pos c_25]; rw [if_neg c_30]; rw [if_pos c_31]; rw [if_pos c_33]) (lv_sub hl [0, 1, 2, 3] rfl)
      refine r_iconst hx hb dX6_count_53 ?_
      refine lv_goto (tgt := 58) hx hb dX6_count_54 (by decide) ?_
      exact J_12 1 ls (by rw [if_pos c_9]; rw [if_neg c_24]; rw [if_pos c_25]; rw [if_neg c_30]; rw [if_pos c_31]; rw [if_neg c_33]) (lv_sub hl [0, 1, 2, 3] rfl)
  exact lp_4 (16 - 0 + 1 : Int).toNat 0 0 (by omega) (by omega) (by omega) (manyV_0 _ _) ls (lv_sub hl [2, 3, 1, 0] rfl)
set_option maxHeartbeats 4000000 in
set_option maxRecDepth 100000 in
theorem m_stances {l : Launch} {D : va_G} {cI : ClassId} {B : Nat → Nat} {M : St} (hI : InvM M)   : Met l yX6_stances (ws_ yX6_stances cX6_stances 6 (some .int)) (rmk 2 0 0) (va_Pc [.ref (B 0)] (mU D cI (mW cI B M))) (QcRead (iv (stanV (rv M) (pw M) (M 7 0) 4))) 0 0 (fun _ => False) := by
  refine r_met (by decide) _ rfl (Nat.le_of_ble_eq_true rfl) ?_
  intro p e s m args below meth c Q ls hx hb hr hlk hml hown hts hpre hQ hl
  obtain ⟨hP, hK⟩ := hpre
  have hown : s.vm.findClass RX6 = some m.cls := hown
  have hl : lv_has ls 6 [(0, .ref (B 0))] := hl
  have b7 := iM_7 hI 0
  refine r_iconst hx hb dX6_stances_0 ?_
  refine lv_istore_n (lv' := [(1, .int (iv (0))), (0, .ref (B 0))]) hx hb dX6_stances_1 rfl hl (by decide) rfl (fun ls hl => ?_)
  refine r_iconst hx hb dX6_stances_2 ?_
  refine lv_istore_n (lv' := [(2, .int (iv (0))), (1, .int (iv (0))), (0, .ref (B 0))]) hx hb dX6_stances_3 rfl hl (by decide) rfl (fun ls hl => ?_)
  have lp_4 : ∀ (n_4 : Nat) (bits : Int) (column : Int), 4 - column < (n_4 : Int) → (0 ≤ column) → (column ≤ 4) → (bits = stanV (rv M) (pw M) (M 7 0) column) → (0 ≤ bits ∧ bits < p2 column) → ∀ (ls : Array Slot), lv_has ls 6 [(0, .ref (B 0)), (1, .int (iv (bits))), (2, .int (iv (column)))] → W p l e (rmk 2 0 0) s m args below meth c s.heap [] 0 0 Q (F0 m 4 ls []) := by
    intro n_4
    induction n_4 with
    | zero =>
      intro bits column hn_4 h0 h1 h2 h3 ls hl
      exfalso
      omega
    | succ n_4 ih_4 =>
      intro bits column hn_4 h0 h1 h2 h3 ls hl
      refine lv_iload_n hx hb dX6_stances_4 rfl (lv_at hl 2 rfl) ?_
      refine r_iconst hx hb dX6_stances_5 ?_
      refine r_icmp_ge (tgt := 112) hx hb dX6_stances_6 (by decide) (by omega) (by omega) (fun c_1 => ?_) (fun c_1 => ?_)
      · refine lv_iload_n hx hb dX6_stances_112 rfl (lv_at hl 1 rfl) ?_
        exact r_iretR hx hb hr hlk hQ (congrArg iv (by have e := h2; rw [show column = 4 by omega] at e; exact e)) dX6_stances_113
      refine r_iconst hx hb dX6_stances_9 ?_
      refine lv_istore_n (lv' := [(3, .int (iv (1))), (0, .ref (B 0)), (1, .int (iv (bits))), (2, .int (iv (column)))]) hx hb dX6_stances_10 rfl hl (by decide) rfl (fun ls hl => ?_)
      refine r_iconst hx hb dX6_stances_11 ?_
      refine lv_istore (lv' := [(4, .int (iv (0))), (3, .int (iv (1))), (0, .ref (B 0)), (1, .int (iv (bits))), (2, .int (iv (column)))]) hx hb dX6_stances_12 hl (by decide) rfl (fun ls hl => ?_)
      have lp_14 : ∀ (n_14 : Nat) (hid : Int) (b : Int), 16 - b < (n_14 : Int) → (0 ≤ b) → (b ≤ 16) → (hid = hidV (rv M) (pw M) (M 7 0) column b) → (hid = 0 ∨ hid = 1) → ∀ (ls : Array Slot), lv_has ls 6 [(0, .ref (B 0)), (1, .int (iv (bits))), (2, .int (iv (column))), (3, .int (iv (hid))), (4, .int (iv (b)))] → W p l e (rmk 2 0 0) s m args below meth c s.heap [] 0 0 Q (F0 m 14 ls []) := by
        intro n_14
        induction n_14 with
        | zero =>
          intro hid b hn_14 k0 k1 k2 k3 ls hl
          exfalso
          omega
        | succ n_14 ih_14 =>
          intro hid b hn_14 k0 k1 k2 k3 ls hl
          refine lv_iload hx hb dX6_stances_14 (lv_at hl 4 rfl) ?_
          refine r_bipush hx hb (by decide) dX6_stances_16 ?_
          refine r_icmp_ge (tgt := 92) hx hb dX6_stances_18 (by decide) (by omega) (by omega) (fun c_2 => ?_) (fun c_2 => ?_)
          · refine lv_iload_n hx hb dX6_stances_92 rfl (lv_at hl 1 rfl) ?_
            refine lv_iload_n hx hb dX6_stances_93 rfl (lv_at hl 3 rfl) ?_
            have J_6 : ∀ (v_4 : Int) (ls : Array Slot), v_4 = (if hid = 0 then 0 else p2 column) → lv_has ls 6 [(0, .ref (B 0)), (1, .int (iv (bits))), (2, .int (iv (column))), (3, .int (iv (hid))), (4, .int (iv (b)))] → W p l e (rmk 2 0 0) s m args below meth c s.heap [] 0 0 Q (F0 m 104 ls [.int (iv (v_4)), .int (iv (bits))]) := by
              intro v_4 ls ev_4 hl
              refine lv_ior hx hb dX6_stances_104 ?_
              refine r_topv (b := bits + v_4) (by rw [ev_4]; split; exact (or_0 _).trans (by rw [Int.add_zero]); exact or_iv (by omega) (by omega)) ?_
              refine lv_istore_n (lv' := [(1, .int (iv (bits + v_4))), (0, .ref (B 0)), (2, .int (iv (column))), (3, .int (iv (hid))), (4, .int (iv (b)))]) hx hb dX6_stances_105 rfl hl (by decide) rfl (fun ls hl => ?_)
              refine lv_iinc (v := iv (column + 1)) (lv' := [(2, .int (iv (column + 1))), (1, .int (iv (bits + v_4))), (0, .ref (B 0)), (3, .int (iv (hid))), (4, .int (iv (b)))]) hx hb dX6_stances_106 hl (k := 2) rfl (iv_add _ _) (by decide) rfl (fun ls hl => ?_)
              refine lv_goto (tgt := 4) hx hb dX6_stances_109 (by decide) ?_
              exact ih_4 (bits + v_4) (column + 1) (by omega) (by omega) (by omega) (by rw [stanV_s _ _ _ h0, ← h2]; have e := k2; rw [show b = 16 by omega] at e; rw [← e]; subst_vars; rfl) (by have := p2_s h0; have := p2_pos column; omega) ls (lv_sub hl [2, 1, 0] rfl)
            refine r_if_eq (tgt := 103) hx hb dX6_stances_94 (by decide) (by omega) (fun c_3 => ?_) (fun c_3 => ?_)
            · refine r_iconst hx hb dX6_stances_103 ?_
              exact J_6 0 ls (by rw [if_pos c_3]) (lv_sub hl [0, 1, 2, 3, 4] rfl)
            refine r_iconst hx hb dX6_stances_97 ?_
            refine lv_iload_n hx hb dX6_stances_98 rfl (lv_at hl 2 rfl) ?_
            refine lv_ishl hx hb dX6_stances_99 ?_
            refine r_topv (shl_iv (by omega)) ?_
            have f_8 := p2_pos column
            refine lv_goto (tgt := 104) hx hb dX6_stances_100 (by decide) ?_
            exact J_6 (p2 column) ls (by rw [if_neg c_3]) (lv_sub hl [0, 1, 2, 3, 4] rfl)
          refine r_iconst hx hb dX6_stances_21 ?_
          refine lv_istore (lv' := [(5, .int (iv (0))), (0, .ref (B 0)), (1, .int (iv (bits))), (2, .int (iv (column))), (3, .int (iv (hid))), (4, .int (iv (b)))]) hx hb dX6_stances_22 hl (by decide) rfl (fun ls hl => ?_)
          have lp_24 : ∀ (n_24 : Nat) (hi2 : Int) (w_ : Int), M 7 0 - w_ < (n_24 : Int) → (0 ≤ w_) → (w_ ≤ M 7 0) → (hi2 = hidW (rv M) (pw M) column b hid w_) → (hi2 = 0 ∨ hi2 = 1) → ∀ (ls : Array Slot), lv_has ls 6 [(0, .ref (B 0)), (1, .int (iv (bits))), (2, .int (iv (column))), (3, .int (iv (hi2))), (4, .int (iv (b))), (5, .int (iv (w_)))] → W p l e (rmk 2 0 0) s m args below meth c s.heap [] 0 0 Q (F0 m 24 ls []) := by
            intro n_24
            induction n_24 with
            | zero =>
              intro hi2 w_ hn_24 j0 j1 j2 j3 ls hl
              exfalso
              omega
            | succ n_24 ih_24 =>
              intro hi2 w_ hn_24 j0 j1 j2 j3 ls hl
              refine lv_iload hx hb dX6_stances_24 (lv_at hl 5 rfl) ?_
              refine lv_aload_n hx hb dX6_stances_26 rfl (lv_at hl 0 rfl) ?_
              refine mg_7 hx hb hts hown hK hP dX6_stances_27 ?_
              have b_9 := iM_7 (M := M) hI (0)
              refine r_icmp_ge (tgt := 86) hx hb dX6_stances_30 (by decide) (by omega) (by omega) (fun c_10 => ?_) (fun c_10 => ?_)
              · refine lv_iinc (v := iv (b + 1)) (lv' := [(4, .int (iv (b + 1))), (0, .ref (B 0)), (1, .int (iv (bits))), (2, .int (iv (column))), (3, .int (iv (hi2))), (5, .int (iv (w_)))]) hx hb dX6_stances_86 hl (k := 4) rfl (iv_add _ _) (by decide) rfl (fun ls hl => ?_)
                refine lv_goto (tgt := 14) hx hb dX6_stances_89 (by decide) ?_
                exact ih_14 hi2 (b + 1) (by omega) (by omega) (by omega) (by rw [hidV_s _ _ _ _ k0, ← k2]; have e := j2; rw [show w_ = M 7 0 by omega] at e; exact e) (j3) ls (lv_sub hl [1, 2, 3, 4, 0] rfl)
              refine lv_iload_n hx hb dX6_stances_33 rfl (lv_at hl 3 rfl) ?_
              have J_14 : ∀ (v_12 : Int) (ls : Array Slot), v_12 = (if hi2 = 0 then 0 else if (M 1 b) = 0 then 1 else if sightV (M 8 (3 * w_)) ((M 1 b) / 10) column then 0 else 1) → lv_has ls 6 [(0, .ref (B 0)), (1, .int (iv (bits))), (2, .int (iv (column))), (3, .int (iv (hi2))), (4, .int (iv (b))), (5, .int (iv (w_)))] → W p l e (rmk 2 0 0) s m args below meth c s.heap [] 0 0 Q (F0 m 79 ls [.int (iv (v_12))]) := by
                intro v_12 ls ev_12 hl
                refine lv_istore_n (lv' := [(3, .int (iv (v_12))), (0, .ref (B 0)), (1, .int (iv (bits))), (2, .int (iv (column))), (4, .int (iv (b))), (5, .int (iv (w_)))]) hx hb dX6_stances_79 rfl hl (by decide) rfl (fun ls hl => ?_)
                refine lv_iinc (v := iv (w_ + 1)) (lv' := [(5, .int (iv (w_ + 1))), (3, .int (iv (v_12))), (0, .ref (B 0)), (1, .int (iv (bits))), (2, .int (iv (column))), (4, .int (iv (b)))]) hx hb dX6_stances_80 hl (k := 5) rfl (iv_add _ _) (by decide) rfl (fun ls hl => ?_)
                refine lv_goto (tgt := 24) hx hb dX6_stances_83 (by decide) ?_
                exact ih_24 v_12 (w_ + 1) (by omega) (by omega) (by omega) (by rw [hidW_s _ _ _ _ _ j0, ← j2]; subst_vars; rfl) (by omega) ls (lv_sub hl [2, 3, 4, 1, 5, 0] rfl)
              refine r_if_eq (tgt := 78) hx hb dX6_stances_34 (by decide) (by omega) (fun c_11 => ?_) (fun c_11 => ?_)
              · refine r_iconst hx hb dX6_stances_78 ?_
                exact J_14 0 ls (by rw [if_pos c_11]) (lv_sub hl [0, 1, 2, 3, 4, 5] rfl)
              refine lv_aload_n hx hb dX6_stances_37 rfl (lv_at hl 0 rfl) ?_
              refine mg_1 hx hb hts hown hK hP dX6_stances_38 ?_
              refine lv_iload hx hb dX6_stances_41 (lv_at hl 4 rfl) ?_
              refine m_ald hx hb hK hP 1 (n := 16) rfl (by decide) (by omega) dX6_stances_43 ?_
              have b_16 := iM_1 (M := M) hI (b)
              refine r_if_eq (tgt := 74) hx hb dX6_stances_44 (by decide) (by omega) (fun c_17 => ?_) (fun c_17 => ?_)
              · refine r_iconst hx hb dX6_stances_74 ?_
                refine lv_goto (tgt := 79) hx hb dX6_stances_75 (by decide) ?_
                exact J_14 1 ls (by rw [if_neg c_11]; rw [if_pos c_17]) (lv_sub hl [0, 1, 2, 3, 4, 5] rfl)
              refine lv_aload_n hx hb dX6_stances_47 rfl (lv_at hl 0 rfl) ?_
              refine lv_aload_n hx hb dX6_stances_48 rfl (lv_at hl 0 rfl) ?_
              refine mg_8 hx hb hts hown hK hP dX6_stances_49 ?_
              refine r_iconst hx hb dX6_stances_52 ?_
              refine lv_iload hx hb dX6_stances_53 (lv_at hl 5 rfl) ?_
              refine r_imul hx hb dX6_stances_55 ?_
              refine m_ald hx hb hK hP 8 (n := 24) rfl (by decide) (by omega) dX6_stances_56 ?_
              have b_18 := iM_8 (M := M) hI (3 * w_)
              refine lv_aload_n hx hb dX6_stances_57 rfl (lv_at hl 0 rfl) ?_
              refine mg_1 hx hb hts hown hK hP dX6_stances_58 ?_
              refine lv_iload hx hb dX6_stances_61 (lv_at hl 4 rfl) ?_
              refine m_ald hx hb hK hP 1 (n := 16) rfl (by decide) (by omega) dX6_stances_63 ?_
              have b_19 := iM_1 (M := M) hI (b)
              refine r_bipush hx hb (by decide) dX6_stances_64 ?_
              refine r_idiv hx hb (by omega) (by omega) dX6_stances_66 ?_
              refine lv_iload_n hx hb dX6_stances_67 rfl (lv_at hl 2 rfl) ?_
              refine m_cR ⟨hx, hb, hml, hown, hts⟩ (m_sight hI (seat := M 8 (3 * w_)) (place := (M 1 b) / 10) (column := column) (by omega) (by omega) (by omega)) (cwV 3 hts (lw_V q1239 q1241 qs40 q60 q1242) rfl rfl rfl hdV_X6_sight ⟨Nat.le_of_ble_eq_true rfl, Nat.le_of_ble_eq_true rfl⟩) hK hP rfl hl.1 rfl (Nat.le_of_ble_eq_true rfl) ⟨Nat.le_of_ble_eq_true rfl, Nat.le_of_ble_eq_true rfl⟩ dX6_stances_68 ?_
              refine r_ifz_ne (tgt := 78) hx hb dX6_stances_71 (by decide) (fun c_20 => ?_) (fun c_20 => ?_)
              · refine r_iconst hx hb dX6_stances_78 ?_
                exact J_14 0 ls (by rw [if_neg c_11]; rw [if_neg c_17]; rw [if_pos c_20]) (lv_sub hl [0, 1, 2, 3, 4, 5] rfl)
              refine r_iconst hx hb dX6_stances_74 ?_
              refine lv_goto (tgt := 79) hx hb dX6_stances_75 (by decide) ?_
              exact J_14 1 ls (by rw [if_neg c_11]; rw [if_neg c_17]; rw [if_neg c_20]) (lv_sub hl [0, 1, 2, 3, 4, 5] rfl)
          exact lp_24 (M 7 0 - 0 + 1 : Int).toNat hid 0 (by omega) (by omega) (by omega) (hidW_0 _ _ _ _ _) (k3) ls (lv_sub hl [1, 2, 3, 4, 5, 0] rfl)
      exact lp_14 (16 - 0 + 1 : Int).toNat 1 0 (by omega) (by omega) (by omega) (hidV_0 _ _ _ _) (by omega) ls (lv_sub hl [2, 3, 4, 1, 0] rfl)
  exact lp_4 (4 - 0 + 1 : Int).toNat 0 0 (by omega) (by omega) (by omega) (stanV_0 _ _ _) (by have := p2_0; omega) ls (lv_sub hl [2, 1, 0] rfl)
set_option maxHeartbeats 4000000 in
set_option maxRecDepth 100000 in
theorem m_often {l : Launch} {D : va_G} {cI : ClassId} {B : Nat → Nat} {A : Nat → Prop} {M : St} (hI : InvM M) {most : Int} (g_most : -2147483648 ≤ most ∧ most ≤ 2147483647) : Met l yX6_often (ws_ yX6_often cX6_often 3 (some .int)) (rmk 5 0 0) (va_Pc [.ref (B 0), .int (iv most)] (mUS D cI A (mW cI B M))) (va_Qi (fun r M1 => r = iv (opOften (rv M) (pw M) (M 7 0) most) ∧ eqx [14, 15] M M1 ∧ InvM M1) (mB D cI B A) A) 0 0 A := by
  refine r_met (by decide) _ rfl (Nat.le_of_ble_eq_true rfl) ?_
  intro p e s m args below meth c Q ls hx hb hr hlk hml hown hts hpre hQ hl
  obtain ⟨hP, hD, hK⟩ := hpre
  have hS : va_S A s.heap s.heap [] := va_S.rf
  have hown : s.vm.findClass RX6 = some m.cls := hown
  have hl : lv_has ls 3 [(0, .ref (B 0)), (1, .int (iv (most)))] := hl
  refine lv_iload_n hx hb dX6_often_0 rfl (lv_at hl 1 rfl) ?_
  refine r_i2l hx hb (by omega) dX6_often_1 ?_
  refine r_lconst hx hb 0 (by decide) dX6_often_2 ?_
  refine r_ldc2 hx hb (99999) (by decide) hown (hts _ q1296) dX6_often_3 ?_
  refine s_cR ⟨hx, hb, hml, hown, hts⟩ (m_in (v := most) (low := 0) (high := 99999) (by omega) (by decide) (by decide)) (va_cwS 3 hts (lw_S q1111 q1112 q60 q1113) rfl rfl rfl hdS_X6_in ⟨Nat.le_of_ble_eq_true rfl, Nat.le_of_ble_eq_true rfl⟩) rfl hl.1 rfl (Nat.le_of_ble_eq_true rfl) ⟨Nat.le_of_ble_eq_true rfl, Nat.le_of_ble_eq_true rfl⟩ dX6_often_6 ?_
  refine r_ifz_ne (tgt := 14) hx hb dX6_often_9 (by decide) (fun c_1 => ?_) (fun c_1 => ?_)
  rotate_left
  · refine r_iconst hx hb dX6_often_12 ?_
    exact r_iretS hx hb hr hlk hQ M ⟨congrArg iv (by first | (refine Eq.trans ?_ ((if_neg (by first | assumption | omega))).symm; first | rfl | omega) | (refine Eq.trans ?_ ((if_pos (by first | assumption | omega))).symm; first | rfl | omega)), eqx.rf _ _, hI⟩ (fun t ht _ => ⟨by rw [ht]; exact hP, hD⟩) hS dX6_often_13
  refine r_bipush hx hb (by decide) dX6_often_14 ?_
  refine lv_istore_n (lv' := [(2, .int (iv (9))), (0, .ref (B 0)), (1, .int (iv (most)))]) hx hb dX6_often_16 rfl hl (by decide) rfl (fun ls hl => ?_)
  have lp_17 : ∀ (n_17 : Nat) (k : Int) (Mw : St) (H : Heap) (locs : List Loc), k < (n_17 : Int) → (0 ≤ k) → (k ≤ 9) → (∀ j, k < j → j ≤ 9 → most < seesAllV (rv M) (pw M) (M 7 0) j 16) → (eqx [14, 15] M Mw) → InvM Mw → wP D vwCl (mW cI B Mw) H → wD A (mW cI B Mw) → va_S A s.heap H locs → ∀ (ls : Array Slot), lv_has ls 3 [(0, .ref (B 0)), (1, .int (iv (most))), (2, .int (iv (k)))] → W p l e (rmk 5 0 0) s m args below meth c H locs 0 0 Q (F0 m 17 ls []) := by
    intro n_17
    induction n_17 with
    | zero =>
      intro k Mw H locs hn_17 h0 h1 h2 h3 hIMw hP hD hS ls hl
      exfalso
      omega
    | succ n_17 ih_17 =>
      intro k Mw H locs hn_17 h0 h1 h2 h3 hIMw hP hD hS ls hl
      have er : rv Mw = rv M := rv_eqx h3 (fun f h q => by simp only [List.mem_cons, List.not_mem_nil, or_false] at q; omega)
      have ep : pw Mw = pw M := pw_x (h3 8 (by decide))
      have e7 : Mw 7 0 = M 7 0 := congrFun (h3 7 (by decide)) 0
      have b7 := iM_7 hI 0
      refine lv_iload_n hx hb dX6_often_17 rfl (lv_at hl 2 rfl) ?_
      refine r_if_le (tgt := 36) hx hb dX6_often_18 (by decide) (by omega) (fun c_2 => ?_) (fun c_2 => ?_)
      · refine lv_iload_n hx hb dX6_often_36 rfl (lv_at hl 2 rfl) ?_
        exact r_iretS hx hb hr hlk hQ Mw ⟨congrArg iv (by unfold opOften; rw [if_pos (by omega)]; exact oftenV_of (by omega) (by omega) h2), h3, hIMw⟩ (fun t ht _ => ⟨by rw [ht]; exact hP, hD⟩) hS dX6_often_37
      refine lv_aload_n hx hb dX6_often_21 rfl (lv_at hl 0 rfl) ?_
      refine lv_iload_n hx hb dX6_often_22 rfl (lv_at hl 2 rfl) ?_
      refine m_cI ⟨hx, hb, hml, hown, hts⟩ (m_seesAll hIMw (k := k) (by omega)) (cwV 1 hts (lw_V q1256 q1258 qs42 q60 q1259) rfl rfl rfl hdV_X6_seesAll ⟨Nat.le_of_ble_eq_true rfl, Nat.le_of_ble_eq_true rfl⟩) hK hP hD hS rfl hl.1 rfl (Nat.le_of_ble_eq_true rfl) ⟨Nat.le_of_ble_eq_true rfl, Nat.le_of_ble_eq_true rfl⟩ dX6_often_23 (fun r_4 M_3 H locs hq hP hD hS => ?_)
      obtain ⟨er_4, xM_3, hIM_3⟩ := hq
      subst er_4
      have nx_5 : eqx [14, 15] M Mw := ((eqx.rf [14, 15] M).tr (eqx.mono (js := [14, 15]) h3 (by decide)))
      have nx_5r : rv Mw = rv M := rv_eqx nx_5 (by intro f hf q; simp only [List.mem_cons, List.not_mem_nil, or_false] at q; omega)
      have nx_5p : pw Mw = pw M := pw_x (nx_5 8 (by decide))
      have nx_5_7 : Mw 7 = M 7 := nx_5 7 (by decide)
      rw [nx_5r, nx_5p, nx_5_7]
      have f_6 := seesAllV_r (RB_rv hI) (VB_pw hI) (k := k) (n := M 7 0) (b := 16) (by omega) (iM_7 hI 0) (by decide)
      refine lv_iload_n hx hb dX6_often_26 rfl (lv_at hl 1 rfl) ?_
      refine r_icmp_le (tgt := 36) hx hb dX6_often_27 (by decide) (by omega) (by omega) (fun c_7 => ?_) (fun c_7 => ?_)
      · refine lv_iload_n hx hb dX6_often_36 rfl (lv_at hl 2 rfl) ?_
        exact r_iretS hx hb hr hlk hQ M_3 ⟨congrArg iv (by unfold opOften; rw [if_pos (by omega)]; exact oftenV_of (by omega) (by omega) h2), h3.tr xM_3, hIM_3⟩ (fun t ht _ => ⟨by rw [ht]; exact hP, hD⟩) hS dX6_often_37
      refine lv_iinc (v := iv (k + (-1))) (lv' := [(2, .int (iv (k + (-1)))), (0, .ref (B 0)), (1, .int (iv (most)))]) hx hb dX6_often_30 hl (k := 2) rfl (iv_add _ _) (by decide) rfl (fun ls hl => ?_)
      refine lv_goto (tgt := 17) hx hb dX6_often_33 (by decide) ?_
      exact ih_17 (k + (-1)) M_3 H locs (by omega) (by omega) (by omega) (fun j q1 q2 => (by rcases (show j = k ∨ k < j by omega) with q | q; subst q; omega; exact h2 j q q2)) (h3.tr xM_3) hIM_3 hP hD hS ls (lv_sub hl [1, 2, 0] rfl)
  exact lp_17 (9 + 1 : Int).toNat 9 M s.heap [] (by omega) (by omega) (by omega) (fun j q1 q2 => by omega) (eqx.rf _ _) hI hP hD hS ls (lv_sub hl [1, 2, 0] rfl)
set_option maxHeartbeats 4000000 in
set_option maxRecDepth 100000 in
theorem m_shownAt {l : Launch} {D : va_G} {cI : ClassId} {B : Nat → Nat} {A : Nat → Prop} {M : St} (hI : InvM M) {beat : Int} (g_beat : 0 ≤ beat ∧ beat ≤ 15) : Met l yX6_shownAt (ws_ yX6_shownAt cX6_shownAt 5 (some .int)) (rmk 4 0 0) (va_Pc [.ref (B 0), .int (iv beat)] (mUS D cI A (mW cI B M))) (va_Qi (fun r M1 => r = iv (shownAtV (rv M) (pw M) (M 7 0) beat beat) ∧ eqx [14, 15] M M1 ∧ InvM M1) (mB D cI B A) A) 0 0 A := by
  refine r_met (by decide) _ rfl (Nat.le_of_ble_eq_true rfl) ?_
  intro p e s m args below meth c Q ls hx hb hr hlk hml hown hts hpre hQ hl
  obtain ⟨hP, hD, hK⟩ := hpre
  have hS : va_S A s.heap s.heap [] := va_S.rf
  have hown : s.vm.findClass RX6 = some m.cls := hown
  have hl : lv_has ls 5 [(0, .ref (B 0)), (1, .int (iv (beat)))] := hl
  refine r_iconst hx hb dX6_shownAt_0 ?_
  refine lv_istore_n (lv' := [(2, .int (iv (0))), (0, .ref (B 0)), (1, .int (iv (beat)))]) hx hb dX6_shownAt_1 rfl hl (by decide) rfl (fun ls hl => ?_)
  refine r_iconst hx hb dX6_shownAt_2 ?_
  refine lv_istore_n (lv' := [(3, .int (iv (0))), (2, .int (iv (0))), (0, .ref (B 0)), (1, .int (iv (beat)))]) hx hb dX6_shownAt_3 rfl hl (by decide) rfl (fun ls hl => ?_)
  have lp_4 : ∀ (n_4 : Nat) (sum : Int) (b : Int) (Mw : St) (H : Heap) (locs : List Loc), beat - b < (n_4 : Int) → (0 ≤ b) → (b ≤ beat) → (eqx [14, 15] M Mw) → (sum = shownAtV (rv M) (pw M) (M 7 0) beat b) → InvM Mw → wP D vwCl (mW cI B Mw) H → wD A (mW cI B Mw) → va_S A s.heap H locs → ∀ (ls : Array Slot), lv_has ls 5 [(0, .ref (B 0)), (1, .int (iv (beat))), (2, .int (iv (sum))), (3, .int (iv (b)))] → W p l e (rmk 4 0 0) s m args below meth c H locs 0 0 Q (F0 m 4 ls []) := by
    intro n_4
    induction n_4 with
    | zero =>
      intro sum b Mw H locs hn_4 h0 h1 h2 h3 hIMw hP hD hS ls hl
      exfalso
      omega
    | succ n_4 ih_4 =>
      intro sum b Mw H locs hn_4 h0 h1 h2 h3 hIMw hP hD hS ls hl
      have er : rv Mw = rv M := rv_eqx h2 (fun f h q => by simp only [List.mem_cons, List.not_mem_nil, or_false] at q; omega)
      have ep : pw Mw = pw M := pw_x (h2 8 (by decide))
      have e7 : Mw 7 0 = M 7 0 := congrFun (h2 7 (by decide)) 0
      have b7 := iM_7 hI 0
      have hmul := mul_r (iM_6 hI 4) (b := beat - b) (y := 15) (by omega)
      refine lv_iload_n hx hb dX6_shownAt_4 rfl (lv_at hl 3 rfl) ?_
      refine lv_iload_n hx hb dX6_shownAt_5 rfl (lv_at hl 1 rfl) ?_
      refine r_icmp_ge (tgt := 54) hx hb dX6_shownAt_6 (by decide) (by omega) (by omega) (fun c_1 => ?_) (fun c_1 => ?_)
      · refine lv_iload_n hx hb dX6_shownAt_54 rfl (lv_at hl 2 rfl) ?_
        exact r_iretS hx hb hr hlk hQ Mw ⟨congrArg iv (by have e := h3; rw [show b = beat by omega] at e; exact e), h2, hIMw⟩ (fun t ht _ => ⟨by rw [ht]; exact hP, hD⟩) hS dX6_shownAt_55
      refine r_bipush hx hb (by decide) dX6_shownAt_9 ?_
      refine lv_aload_n hx hb dX6_shownAt_11 rfl (lv_at hl 0 rfl) ?_
      refine mg_6 hx hb hts hown hK hP dX6_shownAt_12 ?_
      refine r_iconst hx hb dX6_shownAt_15 ?_
      refine m_ald hx hb hK hP 6 (n := 5) rfl (by decide) (by omega) dX6_shownAt_16 ?_
      refine r_top (congrFun ((show Mw 6 = M 6 from h2 6 (by decide))) _) ?_
      have b_2 := iM_6 (M := M) hI (4)
      refine lv_iload_n hx hb dX6_shownAt_17 rfl (lv_at hl 1 rfl) ?_
      refine lv_iload_n hx hb dX6_shownAt_18 rfl (lv_at hl 3 rfl) ?_
      refine r_isub hx hb dX6_shownAt_19 ?_
      refine r_imul hx hb dX6_shownAt_20 ?_
      refine r_isub hx hb dX6_shownAt_21 ?_
      refine lv_istore (lv' := [(4, .int (iv (10 - ((M 6 4) * (beat - b))))), (0, .ref (B 0)), (1, .int (iv (beat))), (2, .int (iv (sum))), (3, .int (iv (b)))]) hx hb dX6_shownAt_22 hl (by decide) rfl (fun ls hl => ?_)
      refine lv_iload_n hx hb dX6_shownAt_24 rfl (lv_at hl 3 rfl) ?_
      refine lv_iload hx hb dX6_shownAt_25 (lv_at hl 0 rfl) ?_
      refine r_if_le (tgt := 45) hx hb dX6_shownAt_27 (by decide) (by omega) (fun c_3 => ?_) (fun c_3 => ?_)
      · refine r_iconst hx hb dX6_shownAt_45 ?_
        refine r_iadd hx hb dX6_shownAt_46 ?_
        refine lv_istore_n (lv' := [(2, .int (iv (sum + 0))), (4, .int (iv (10 - ((M 6 4) * (beat - b))))), (0, .ref (B 0)), (1, .int (iv (beat))), (3, .int (iv (b)))]) hx hb dX6_shownAt_47 rfl hl (by decide) rfl (fun ls hl => ?_)
        refine lv_iinc (v := iv (b + 1)) (lv' := [(3, .int (iv (b + 1))), (2, .int (iv (sum + 0))), (4, .int (iv (10 - ((M 6 4) * (beat - b))))), (0, .ref (B 0)), (1, .int (iv (beat)))]) hx hb dX6_shownAt_48 hl (k := 4) rfl (iv_add _ _) (by decide) rfl (fun ls hl => ?_)
        refine lv_goto (tgt := 4) hx hb dX6_shownAt_51 (by decide) ?_
        exact ih_4 (sum + 0) (b + 1) Mw H locs (by omega) (by omega) (by omega) (h2) (by rw [shownAtV_s _ _ _ _ h0, ← h3]; unfold leftV; exact congrArg (sum + ·) (if_neg (show ¬ 0 < 10 - M 6 4 * (beat - b) by omega)).symm) hIMw hP hD hS ls (lv_sub hl [3, 4, 1, 0] rfl)
      refine lv_aload_n hx hb dX6_shownAt_30 rfl (lv_at hl 1 rfl) ?_
      refine lv_iload_n hx hb dX6_shownAt_31 rfl (lv_at hl 4 rfl) ?_
      refine r_iconst hx hb dX6_shownAt_32 ?_
      refine m_cI ⟨hx, hb, hml, hown, hts⟩ (m_seesAt hIMw (beat := b) (k := 1) (by omega) (by decide)) (cwV 2 hts (lw_V q1260 q1262 qs43 q60 q1263) rfl rfl rfl hdV_X6_seesAt ⟨Nat.le_of_ble_eq_true rfl, Nat.le_of_ble_eq_true rfl⟩) hK hP hD hS rfl hl.1 rfl (Nat.le_of_ble_eq_true rfl) ⟨Nat.le_of_ble_eq_true rfl, Nat.le_of_ble_eq_true rfl⟩ dX6_shownAt_33 (fun r_5 M_4 H locs hq hP hD hS => ?_)
      obtain ⟨er_5, xM_4, hIM_4⟩ := hq
      subst er_5
      have f_6 := seesAtV_r (RB_rv hIMw) (VB_pw hIMw) (beat := b) (k := (1 : Int)) (n := Mw 7 0) (by omega) (iM_7 hIMw 0)
      refine lv_iload hx hb dX6_shownAt_36 (lv_at hl 0 rfl) ?_
      refine r_imul hx hb dX6_shownAt_38 ?_
      have hms := mul_r (seesAtV_r (RB_rv hIMw) (VB_pw hIMw) (beat := b) (k := 1) (n := Mw 7 0) (by decide) (iM_7 hIMw 0)) (b := 10 - M 6 4 * (beat - b)) (y := 10) (by omega)
      refine r_bipush hx hb (by decide) dX6_shownAt_39 ?_
      refine r_idiv hx hb (by omega) (by omega) dX6_shownAt_41 ?_
      refine lv_goto (tgt := 46) hx hb dX6_shownAt_42 (by decide) ?_
      refine r_iadd hx hb dX6_shownAt_46 ?_
      refine lv_istore_n (lv' := [(2, .int (iv (sum + (((seesAtV (rv Mw) (pw Mw) (Mw 7 0) b (1 : Int)) * (10 - ((M 6 4) * (beat - b)))) / 10)))), (4, .int (iv (10 - ((M 6 4) * (beat - b))))), (0, .ref (B 0)), (1, .int (iv (beat))), (3, .int (iv (b)))]) hx hb dX6_shownAt_47 rfl hl (by decide) rfl (fun ls hl => ?_)
      refine lv_iinc (v := iv (b + 1)) (lv' := [(3, .int (iv (b + 1))), (2, .int (iv (sum + (((seesAtV (rv Mw) (pw Mw) (Mw 7 0) b (1 : Int)) * (10 - ((M 6 4) * (beat - b)))) / 10)))), (4, .int (iv (10 - ((M 6 4) * (beat - b))))), (0, .ref (B 0)), (1, .int (iv (beat)))]) hx hb dX6_shownAt_48 hl (k := 4) rfl (iv_add _ _) (by decide) rfl (fun ls hl => ?_)
      refine lv_goto (tgt := 4) hx hb dX6_shownAt_51 (by decide) ?_
      exact ih_4 (sum + (((seesAtV (rv Mw) (pw Mw) (Mw 7 0) b (1 : Int)) * (10 - ((M 6 4) * (beat - b)))) / 10)) (b + 1) M_4 H locs (by omega) (by omega) (by omega) (h2.tr xM_4) (by rw [shownAtV_s _ _ _ _ h0, ← h3, er, ep, e7]; unfold leftV; exact congrArg (sum + ·) (if_pos (show 0 < 10 - M 6 4 * (beat - b) by omega)).symm) hIM_4 hP hD hS ls (lv_sub hl [3, 4, 1, 0] rfl)
  exact lp_4 (beat - 0 + 1 : Int).toNat 0 0 M s.heap [] (by omega) (by omega) (by omega) (eqx.rf _ _) (shownAtV_0 _ _ _ _) hI hP hD hS ls (lv_sub hl [2, 3, 1, 0] rfl)
set_option maxHeartbeats 4000000 in
set_option maxRecDepth 100000 in
theorem m_leave {l : Launch} {D : va_G} {cI : ClassId} {B : Nat → Nat} {A : Nat → Prop} {M : St} (hI : InvM M) {watcher : Int} (g_watcher : -2147483648 ≤ watcher ∧ watcher ≤ 2147483647) : Met l yX6_leave (ws_ yX6_leave cX6_leave 3 (some .int)) (rmk 3 0 0) (va_Pc [.ref (B 0), .int (iv watcher)] (mUS D cI A (mW cI B M))) (va_Qi (fun r M1 => r = iv (leaveR (M 7 0) watcher) ∧ M1 = leaveM M watcher ∧ InvM M1) (mB D cI B A) A) 0 0 A := by
  refine r_met (by decide) _ rfl (Nat.le_of_ble_eq_true rfl) ?_
  intro p e s m args below meth c Q ls hx hb hr hlk hml hown hts hpre hQ hl
  obtain ⟨hP, hD, hK⟩ := hpre
  have hS : va_S A s.heap s.heap [] := va_S.rf
  have hown : s.vm.findClass RX6 = some m.cls := hown
  have hl : lv_has ls 3 [(0, .ref (B 0)), (1, .int (iv (watcher)))] := hl
  refine lv_aload_n hx hb dX6_leave_0 rfl (lv_at hl 0 rfl) ?_
  refine lv_iload_n hx hb dX6_leave_1 rfl (lv_at hl 1 rfl) ?_
  refine m_cR ⟨hx, hb, hml, hown, hts⟩ (m_isOne hI (w := watcher) (by omega)) (cwV 1 hts (lw_V q1152 q1154 qs29 q60 q1155) rfl rfl rfl hdV_X6_isOne ⟨Nat.le_of_ble_eq_true rfl, Nat.le_of_ble_eq_true rfl⟩) hK hP rfl hl.1 rfl (Nat.le_of_ble_eq_true rfl) ⟨Nat.le_of_ble_eq_true rfl, Nat.le_of_ble_eq_true rfl⟩ dX6_leave_2 ?_
  have f_1 := iM_7 hI 0
  refine r_ifz_ne (tgt := 10) hx hb dX6_leave_5 (by decide) (fun c_2 => ?_) (fun c_2 => ?_)
  rotate_left
  · refine r_iconst hx hb dX6_leave_8 ?_
    exact r_iretS hx hb hr hlk hQ M ⟨congrArg iv (by subst_vars; first | (refine Eq.trans ?_ ((if_neg (by first | assumption | omega))).symm; first | rfl | omega) | (refine Eq.trans ?_ ((if_pos (by first | assumption | omega))).symm; first | rfl | omega) | (refine Eq.trans ?_ (((if_neg (by first | assumption | omega))).trans (if_neg (by first | assumption | omega))).symm; first | rfl | omega) | (refine Eq.trans ?_ (((if_neg (by first | assumption | omega))).trans (if_pos (by first | assumption | omega))).symm; first | rfl | omega) | (refine Eq.trans ?_ (((if_pos (by first | assumption | omega))).trans (if_neg (by first | assumption | omega))).symm; first | rfl | omega) | (refine Eq.trans ?_ (((if_pos (by first | assumption | omega))).trans (if_pos (by first | assumption | omega))).symm; first | rfl | omega)), (by subst_vars; first | (refine Eq.trans ?_ ((if_neg (by first | assumption | omega))).symm; first | rfl | omega) | (refine Eq.trans ?_ ((if_pos (by first | assumption | omega))).symm; first | rfl | omega) | (refine Eq.trans ?_ (((if_neg (by first | assumption | omega))).trans (if_neg (by first | assumption | omega))).symm; first | rfl | omega) | (refine Eq.trans ?_ (((if_neg (by first | assumption | omega))).trans (if_pos (by first | assumption | omega))).symm; first | rfl | omega) | (refine Eq.trans ?_ (((if_pos (by first | assumption | omega))).trans (if_neg (by first | assumption | omega))).symm; first | rfl | omega) | (refine Eq.trans ?_ (((if_pos (by first | assumption | omega))).trans (if_pos (by first | assumption | omega))).symm; first | rfl | omega)), hI⟩ (fun t ht _ => ⟨by rw [ht]; exact hP, hD⟩) hS dX6_leave_9
  refine lv_aload_n hx hb dX6_leave_10 rfl (lv_at hl 0 rfl) ?_
  refine lv_dup hx hb dX6_leave_11 rfl ?_
  refine mg_7 hx hb hts hown hK hP dX6_leave_12 ?_
  have b_3 := iM_7 (M := M) hI (0)
  refine r_iconst hx hb dX6_leave_15 ?_
  refine r_isub hx hb dX6_leave_16 ?_
  refine mp_7 hx hb hts hown hK hP hD hS dX6_leave_17 (fun M_4 eM_4 H locs hP hD hS => ?_)
  have hIM_4 : InvM M_4 := iMs_7 hI eM_4 (by omega)
  refine r_iconst hx hb dX6_leave_20 ?_
  refine lv_iload_n hx hb dX6_leave_21 rfl (lv_at hl 1 rfl) ?_
  refine r_imul hx hb dX6_leave_22 ?_
  refine lv_istore_n (lv' := [(2, .int (iv (3 * watcher))), (0, .ref (B 0)), (1, .int (iv (watcher)))]) hx hb dX6_leave_23 rfl hl (by decide) rfl (fun ls hl => ?_)
  have lp_24 : ∀ (n_24 : Nat) (k : Int) (Mw : St) (H : Heap) (locs : List Loc), 3 * (M 7 0 - 1) - k < (n_24 : Int) → (3 * watcher ≤ k) → (k ≤ 3 * (M 7 0 - 1)) → (Mw = shiftM M_4 watcher k) → InvM Mw → wP D vwCl (mW cI B Mw) H → wD A (mW cI B Mw) → va_S A s.heap H locs → ∀ (ls : Array Slot), lv_has ls 3 [(0, .ref (B 0)), (1, .int (iv (watcher))), (2, .int (iv (k)))] → W p l e (rmk 3 0 0) s m args below meth c H locs 0 0 Q (F0 m 24 ls []) := by
    intro n_24
    induction n_24 with
    | zero =>
      intro k Mw H locs hn_24 h0 h1 h2 hIMw hP hD hS ls hl
      exfalso
      omega
    | succ n_24 ih_24 =>
      intro k Mw H locs hn_24 h0 h1 h2 hIMw hP hD hS ls hl
      refine lv_iload_n hx hb dX6_leave_24 rfl (lv_at hl 2 rfl) ?_
      refine r_iconst hx hb dX6_leave_25 ?_
      refine lv_aload_n hx hb dX6_leave_26 rfl (lv_at hl 0 rfl) ?_
      refine mg_7 hx hb hts hown hK hP dX6_leave_27 ?_
      refine r_top (congrFun ((show Mw 7 = M_4 7 from (show eqx [8] M_4 Mw by rw [h2]; exact shiftM_x _ _ _) 7 (by decide))) 0) ?_
      have b_6 := iM_7 (M := M_4) hIM_4 (0)
      have w_7 : M_4 7 0 = (M 7 0) - 1 := by rw [eM_4]; exact upd2_e
      refine r_imul hx hb dX6_leave_30 ?_
      refine r_icmp_ge (tgt := 54) hx hb dX6_leave_31 (by decide) (by omega) (by omega) (fun c_8 => ?_) (fun c_8 => ?_)
      · refine lv_aload_n hx hb dX6_leave_54 rfl (lv_at hl 0 rfl) ?_
        refine mg_7 hx hb hts hown hK hP dX6_leave_55 ?_
        refine r_top (congrFun ((show Mw 7 = M_4 7 from (show eqx [8] M_4 Mw by rw [h2]; exact shiftM_x _ _ _) 7 (by decide))) 0) ?_
        have b_10 := iM_7 (M := M_4) hIM_4 (0)
        have w_11 : M_4 7 0 = (M 7 0) - 1 := by rw [eM_4]; exact upd2_e
        exact r_iretS hx hb hr hlk hQ Mw ⟨congrArg iv (by subst_vars; first | (refine Eq.trans ?_ ((if_neg (by first | assumption | omega))).symm; first | rfl | omega) | (refine Eq.trans ?_ ((if_pos (by first | assumption | omega))).symm; first | rfl | omega) | (refine Eq.trans ?_ (((if_neg (by first | assumption | omega))).trans (if_neg (by first | assumption | omega))).symm; first | rfl | omega) | (refine Eq.trans ?_ (((if_neg (by first | assumption | omega))).trans (if_pos (by first | assumption | omega))).symm; first | rfl | omega) | (refine Eq.trans ?_ (((if_pos (by first | assumption | omega))).trans (if_neg (by first | assumption | omega))).symm; first | rfl | omega) | (refine Eq.trans ?_ (((if_pos (by first | assumption | omega))).trans (if_pos (by first | assumption | omega))).symm; first | rfl | omega)), (by have e := h2; rw [show k = 3 * (M 7 0 - 1) by omega] at e; rw [e]; subst_vars; exact (if_pos (by omega)).symm), hIMw⟩ (fun t ht _ => ⟨by rw [ht]; exact hP, hD⟩) hS dX6_leave_58
      refine lv_aload_n hx hb dX6_leave_34 rfl (lv_at hl 0 rfl) ?_
      refine mg_8 hx hb hts hown hK hP dX6_leave_35 ?_
      refine lv_iload_n hx hb dX6_leave_38 rfl (lv_at hl 2 rfl) ?_
      refine lv_aload_n hx hb dX6_leave_39 rfl (lv_at hl 0 rfl) ?_
      refine mg_8 hx hb hts hown hK hP dX6_leave_40 ?_
      refine lv_iload_n hx hb dX6_leave_43 rfl (lv_at hl 2 rfl) ?_
      refine r_iconst hx hb dX6_leave_44 ?_
      refine r_iadd hx hb dX6_leave_45 ?_
      refine m_ald hx hb hK hP 8 (n := 24) rfl (by decide) (by omega) dX6_leave_46 ?_
      have b_12 := iM_8 (M := Mw) hIMw (k + 3)
      refine m_ast hx hb hK hP hD hS 8 (n := 24) rfl (by decide) (by omega) dX6_leave_47 (fun M_13 eM_13 H locs hP hD hS => ?_)
      have hIM_13 : InvM M_13 := iMs_8 hIMw eM_13 (by omega)
      refine lv_iinc (v := iv (k + 1)) (lv' := [(2, .int (iv (k + 1))), (0, .ref (B 0)), (1, .int (iv (watcher)))]) hx hb dX6_leave_48 hl (k := 2) rfl (iv_add _ _) (by decide) rfl (fun ls hl => ?_)
      refine lv_goto (tgt := 24) hx hb dX6_leave_51 (by decide) ?_
      exact ih_24 (k + 1) M_13 H locs (by omega) (by omega) (by omega) (by rw [eM_13, h2]; exact shiftM_s _ h0) hIM_13 hP hD hS ls (lv_sub hl [1, 2, 0] rfl)
  exact lp_24 (3 * (M 7 0 - 1) - (3 * watcher) + 1 : Int).toNat (3 * watcher) M_4 H locs (by omega) (by omega) (by omega) (shiftM_0 _ _) hIM_4 hP hD hS ls (lv_sub hl [1, 2, 0] rfl)
set_option maxHeartbeats 4000000 in
set_option maxRecDepth 100000 in
theorem m_shown {l : Launch} {D : va_G} {cI : ClassId} {B : Nat → Nat} {A : Nat → Prop} {M : St} (hI : InvM M) {beat : Int} (g_beat : -2147483648 ≤ beat ∧ beat ≤ 2147483647) : Met l yX6_shown (ws_ yX6_shown cX6_shown 8 (some .int)) (rmk 5 0 0) (va_Pc [.ref (B 0), .int (iv beat)] (mUS D cI A (mW cI B M))) (va_Qi (fun r M1 => r = iv (opShown (rv M) (pw M) (M 7 0) beat) ∧ eqx [14, 15] M M1 ∧ InvM M1) (mB D cI B A) A) 0 0 A := by
  refine r_met (by decide) _ rfl (Nat.le_of_ble_eq_true rfl) ?_
  intro p e s m args below meth c Q ls hx hb hr hlk hml hown hts hpre hQ hl
  obtain ⟨hP, hD, hK⟩ := hpre
  have hS : va_S A s.heap s.heap [] := va_S.rf
  have hown : s.vm.findClass RX6 = some m.cls := hown
  have hl : lv_has ls 8 [(0, .ref (B 0)), (1, .int (iv (beat)))] := hl
  refine lv_iload_n hx hb dX6_shown_0 rfl (lv_at hl 1 rfl) ?_
  refine r_i2l hx hb (by omega) dX6_shown_1 ?_
  refine r_ldc2 hx hb (-1) (by decide) hown (hts _ q1124) dX6_shown_2 ?_
  refine r_ldc2 hx hb (15) (by decide) hown (hts _ q1110) dX6_shown_5 ?_
  refine s_cR ⟨hx, hb, hml, hown, hts⟩ (m_in (v := beat) (low := -1) (high := 15) (by omega) (by decide) (by decide)) (va_cwS 3 hts (lw_S q1111 q1112 q60 q1113) rfl rfl rfl hdS_X6_in ⟨Nat.le_of_ble_eq_true rfl, Nat.le_of_ble_eq_true rfl⟩) rfl hl.1 rfl (Nat.le_of_ble_eq_true rfl) ⟨Nat.le_of_ble_eq_true rfl, Nat.le_of_ble_eq_true rfl⟩ dX6_shown_8 ?_
  refine r_ifz_ne (tgt := 16) hx hb dX6_shown_11 (by decide) (fun c_1 => ?_) (fun c_1 => ?_)
  rotate_left
  · refine r_iconst hx hb dX6_shown_14 ?_
    exact r_iretS hx hb hr hlk hQ M ⟨congrArg iv (by first | (refine Eq.trans ?_ ((if_neg (by first | assumption | omega))).symm; first | rfl | omega) | (refine Eq.trans ?_ ((if_pos (by first | assumption | omega))).symm; first | rfl | omega) | (refine Eq.trans ?_ (((if_neg (by first | assumption | omega))).trans (if_neg (by first | assumption | omega))).symm; first | rfl | omega) | (refine Eq.trans ?_ (((if_neg (by first | assumption | omega))).trans (if_pos (by first | assumption | omega))).symm; first | rfl | omega) | (refine Eq.trans ?_ (((if_pos (by first | assumption | omega))).trans (if_neg (by first | assumption | omega))).symm; first | rfl | omega) | (refine Eq.trans ?_ (((if_pos (by first | assumption | omega))).trans (if_pos (by first | assumption | omega))).symm; first | rfl | omega)), eqx.rf _ _, hI⟩ (fun t ht _ => ⟨by rw [ht]; exact hP, hD⟩) hS dX6_shown_15
  refine lv_iload_n hx hb dX6_shown_16 rfl (lv_at hl 1 rfl) ?_
  refine r_if_lt (tgt := 26) hx hb dX6_shown_17 (by decide) (by omega) (fun c_2 => ?_) (fun c_2 => ?_)
  rotate_left
  · refine lv_aload_n hx hb dX6_shown_20 rfl (lv_at hl 0 rfl) ?_
    refine lv_iload_n hx hb dX6_shown_21 rfl (lv_at hl 1 rfl) ?_
    refine m_cI ⟨hx, hb, hml, hown, hts⟩ (m_shownAt hI (beat := beat) (by omega)) (cwV 1 hts (lw_V q1305 q1307 qs45 q60 q1308) rfl rfl rfl hdV_X6_shownAt ⟨Nat.le_of_ble_eq_true rfl, Nat.le_of_ble_eq_true rfl⟩) hK hP hD hS rfl hl.1 rfl (Nat.le_of_ble_eq_true rfl) ⟨Nat.le_of_ble_eq_true rfl, Nat.le_of_ble_eq_true rfl⟩ dX6_shown_22 (fun r_33 M_32 H locs hq hP hD hS => ?_)
    obtain ⟨er_33, xM_32, hIM_32⟩ := hq
    subst er_33
    have f_34 := shownAtV_r (RB_rv hI) (VB_pw hI) (beat := beat) (b := beat) (n := M 7 0) (by omega) (iM_7 hI 0)
    exact r_iretS hx hb hr hlk hQ M_32 ⟨congrArg iv (by first | (refine Eq.trans ?_ ((if_neg (by first | assumption | omega))).symm; first | rfl | omega) | (refine Eq.trans ?_ ((if_pos (by first | assumption | omega))).symm; first | rfl | omega) | (refine Eq.trans ?_ (((if_neg (by first | assumption | omega))).trans (if_neg (by first | assumption | omega))).symm; first | rfl | omega) | (refine Eq.trans ?_ (((if_neg (by first | assumption | omega))).trans (if_pos (by first | assumption | omega))).symm; first | rfl | omega) | (refine Eq.trans ?_ (((if_pos (by first | assumption | omega))).trans (if_neg (by first | assumption | omega))).symm; first | rfl | omega) | (refine Eq.trans ?_ (((if_pos (by first | assumption | omega))).trans (if_pos (by first | assumption | omega))).symm; first | rfl | omega)), xM_32, hIM_32⟩ (fun t ht _ => ⟨by rw [ht]; exact hP, hD⟩) hS dX6_shown_25
  refine r_bipush hx hb (by decide) dX6_shown_26 ?_
  refine lv_istore_n (lv' := [(2, .int (iv (-4))), (0, .ref (B 0)), (1, .int (iv (beat)))]) hx hb dX6_shown_28 rfl hl (by decide) rfl (fun ls hl => ?_)
  refine r_iconst hx hb dX6_shown_29 ?_
  refine lv_istore_n (lv' := [(3, .int (iv (0))), (2, .int (iv (-4))), (0, .ref (B 0)), (1, .int (iv (beat)))]) hx hb dX6_shown_30 rfl hl (by decide) rfl (fun ls hl => ?_)
  have lp_31 : ∀ (n_31 : Nat) (last : Int) (b : Int), 16 - b < (n_31 : Int) → (0 ≤ b) → (b ≤ 16) → (last = lastV (rv M) (-4) b) → (-4 ≤ last ∧ last < 16 ∧ last < b ∨ last = -4) → ∀ (ls : Array Slot), lv_has ls 8 [(0, .ref (B 0)), (1, .int (iv (beat))), (2, .int (iv (last))), (3, .int (iv (b)))] → W p l e (rmk 5 0 0) s m args below meth c s.heap [] 0 0 Q (F0 m 31 ls []) := by
    intro n_31
    induction n_31 with
    | zero =>
      intro last b hn_31 h0 h1 h2 h3 ls hl
      exfalso
      omega
    | succ n_31 ih_31 =>
      intro last b hn_31 h0 h1 h2 h3 ls hl
      refine lv_iload_n hx hb dX6_shown_31 rfl (lv_at hl 3 rfl) ?_
      refine r_bipush hx hb (by decide) dX6_shown_32 ?_
      refine r_icmp_ge (tgt := 58) hx hb dX6_shown_34 (by decide) (by omega) (by omega) (fun c_3 => ?_) (fun c_3 => ?_)
      rotate_left
      · refine lv_aload_n hx hb dX6_shown_37 rfl (lv_at hl 0 rfl) ?_
        refine mg_1 hx hb hts hown hK hP dX6_shown_38 ?_
        refine lv_iload_n hx hb dX6_shown_41 rfl (lv_at hl 3 rfl) ?_
        refine m_ald hx hb hK hP 1 (n := 16) rfl (by decide) (by omega) dX6_shown_42 ?_
        have b_26 := iM_1 (M := M) hI (b)
        have J_30 : ∀ (v_28 : Int) (ls : Array Slot), v_28 = (if (M 1 b) ≤ 0 then last else b) → lv_has ls 8 [(0, .ref (B 0)), (1, .int (iv (beat))), (2, .int (iv (last))), (3, .int (iv (b)))] → W p l e (rmk 5 0 0) s m args below meth c s.heap [] 0 0 Q (F0 m 51 ls [.int (iv (v_28))]) := by
          intro v_28 ls ev_28 hl
          refine lv_istore_n (lv' := [(2, .int (iv (v_28))), (0, .ref (B 0)), (1, .int (iv (beat))), (3, .int (iv (b)))]) hx hb dX6_shown_51 rfl hl (by decide) rfl (fun ls hl => ?_)
          refine lv_iinc (v := iv (b + 1)) (lv' := [(3, .int (iv (b + 1))), (2, .int (iv (v_28))), (0, .ref (B 0)), (1, .int (iv (beat)))]) hx hb dX6_shown_52 hl (k := 3) rfl (iv_add _ _) (by decide) rfl (fun ls hl => ?_)
          refine lv_goto (tgt := 31) hx hb dX6_shown_55 (by decide) ?_
          exact ih_31 v_28 (b + 1) (by omega) (by omega) (by omega) (by rw [lastV_s _ _ h0, ← h2]; subst_vars; rfl) (by omega) ls (lv_sub hl [2, 3, 1, 0] rfl)
        refine r_if_le (tgt := 50) hx hb dX6_shown_43 (by decide) (by omega) (fun c_27 => ?_) (fun c_27 => ?_)
        · refine lv_iload_n hx hb dX6_shown_50 rfl (lv_at hl 2 rfl) ?_
          exact J_30 last ls (by rw [if_pos c_27]) (lv_sub hl [0, 1, 2, 3] rfl)
        refine lv_iload_n hx hb dX6_shown_46 rfl (lv_at hl 3 rfl) ?_
        refine lv_goto (tgt := 51) hx hb dX6_shown_47 (by decide) ?_
        exact J_30 b ls (by rw [if_neg c_27]) (lv_sub hl [0, 1, 2, 3] rfl)
      refine r_bipush hx hb (by decide) dX6_shown_58 ?_
      refine lv_istore_n (lv' := [(3, .int (iv (-4))), (0, .ref (B 0)), (1, .int (iv (beat))), (2, .int (iv (last)))]) hx hb dX6_shown_60 rfl hl (by decide) rfl (fun ls hl => ?_)
      refine r_iconst hx hb dX6_shown_61 ?_
      refine lv_istore (lv' := [(4, .int (iv (0))), (3, .int (iv (-4))), (0, .ref (B 0)), (1, .int (iv (beat))), (2, .int (iv (last)))]) hx hb dX6_shown_62 hl (by decide) rfl (fun ls hl => ?_)
      refine lv_iload_n hx hb dX6_shown_64 rfl (lv_at hl 4 rfl) ?_
      refine r_iconst hx hb dX6_shown_65 ?_
      refine r_iadd hx hb dX6_shown_66 ?_
      refine lv_istore (lv' := [(5, .int (iv (last + 1))), (4, .int (iv (0))), (3, .int (iv (-4))), (0, .ref (B 0)), (1, .int (iv (beat))), (2, .int (iv (last)))]) hx hb dX6_shown_67 hl (by decide) rfl (fun ls hl => ?_)
      have lp_69 : ∀ (n_69 : Nat) (best : Int) (least : Int) (i : Int) (Mw : St) (H : Heap) (locs : List Loc), 16 - i < (n_69 : Int) → (last + 1 ≤ i) → (i ≤ 16 ∧ (0 ≤ last ∨ i = last + 1)) → (eqx [14, 15] M Mw) → ((best, least) = shownW (rv M) (pw M) (M 7 0) (last + 1) (i - (last + 1))) → (-4 ≤ best ∧ best ≤ 15) → (0 ≤ least ∧ least ≤ 1000000) → InvM Mw → wP D vwCl (mW cI B Mw) H → wD A (mW cI B Mw) → va_S A s.heap H locs → ∀ (ls : Array Slot), lv_has ls 8 [(0, .ref (B 0)), (1, .int (iv (beat))), (2, .int (iv (last))), (3, .int (iv (best))), (4, .int (iv (least))), (5, .int (iv (i)))] → W p l e (rmk 5 0 0) s m args below meth c H locs 0 0 Q (F0 m 69 ls []) := by
        intro n_69
        induction n_69 with
        | zero =>
          intro best least i Mw H locs hn_69 k0 k1 k2 k3 k4 k5 hIMw hP hD hS ls hl
          exfalso
          omega
        | succ n_69 ih_69 =>
          intro best least i Mw H locs hn_69 k0 k1 k2 k3 k4 k5 hIMw hP hD hS ls hl
          have er : rv Mw = rv M := rv_eqx k2 (fun f h q => by simp only [List.mem_cons, List.not_mem_nil, or_false] at q; omega)
          have ep : pw Mw = pw M := pw_x (k2 8 (by decide))
          have e7 : Mw 7 0 = M 7 0 := congrFun (k2 7 (by decide)) 0
          have b7 := iM_7 hI 0
          refine lv_iload hx hb dX6_shown_69 (lv_at hl 5 rfl) ?_
          refine r_bipush hx hb (by decide) dX6_shown_71 ?_
          refine r_icmp_ge (tgt := 138) hx hb dX6_shown_73 (by decide) (by omega) (by omega) (fun c_4 => ?_) (fun c_4 => ?_)
          · refine lv_iload_n hx hb dX6_shown_138 rfl (lv_at hl 3 rfl) ?_
            exact r_iretS hx hb hr hlk hQ Mw ⟨congrArg iv (by unfold opShown; rw [if_pos (by omega), if_pos (by omega)]; have el := h2; rw [show b = 16 by omega] at el; subst el; first | (rw [if_pos (by omega)]; have e := congrArg Prod.fst k3; rw [show i - (lastV (rv M) (-4) 16 + 1) = 0 by omega, ← shownW_0] at e; exact e) | (rw [if_neg (by omega)]; have e := congrArg Prod.fst k3; rw [show i - (lastV (rv M) (-4) 16 + 1) = 15 - lastV (rv M) (-4) 16 by omega] at e; exact e)), k2, hIMw⟩ (fun t ht _ => ⟨by rw [ht]; exact hP, hD⟩) hS dX6_shown_139
          refine lv_iload_n hx hb dX6_shown_76 rfl (lv_at hl 2 rfl) ?_
          refine r_if_lt (tgt := 138) hx hb dX6_shown_77 (by decide) (by omega) (fun c_5 => ?_) (fun c_5 => ?_)
          · refine lv_iload_n hx hb dX6_shown_138 rfl (lv_at hl 3 rfl) ?_
            exact r_iretS hx hb hr hlk hQ Mw ⟨congrArg iv (by unfold opShown; rw [if_pos (by omega), if_pos (by omega)]; have el := h2; rw [show b = 16 by omega] at el; subst el; first | (rw [if_pos (by omega)]; have e := congrArg Prod.fst k3; rw [show i - (lastV (rv M) (-4) 16 + 1) = 0 by omega, ← shownW_0] at e; exact e) | (rw [if_neg (by omega)]; have e := congrArg Prod.fst k3; rw [show i - (lastV (rv M) (-4) 16 + 1) = 15 - lastV (rv M) (-4) 16 by omega] at e; exact e)), k2, hIMw⟩ (fun t ht _ => ⟨by rw [ht]; exact hP, hD⟩) hS dX6_shown_139
          refine lv_aload_n hx hb dX6_shown_80 rfl (lv_at hl 0 rfl) ?_
          refine lv_iload hx hb dX6_shown_81 (lv_at hl 5 rfl) ?_
          refine m_cI ⟨hx, hb, hml, hown, hts⟩ (m_shownAt hIMw (beat := i) (by omega)) (cwV 1 hts (lw_V q1305 q1307 qs45 q60 q1308) rfl rfl rfl hdV_X6_shownAt ⟨Nat.le_of_ble_eq_true rfl, Nat.le_of_ble_eq_true rfl⟩) hK hP hD hS rfl hl.1 rfl (Nat.le_of_ble_eq_true rfl) ⟨Nat.le_of_ble_eq_true rfl, Nat.le_of_ble_eq_true rfl⟩ dX6_shown_83 (fun r_7 M_6 H locs hq hP hD hS => ?_)
          obtain ⟨er_7, xM_6, hIM_6⟩ := hq
          subst er_7
          have nx_8 : eqx [14, 15] M Mw := ((eqx.rf [14, 15] M).tr (eqx.mono (js := [14, 15]) k2 (by decide)))
          have nx_8r : rv Mw = rv M := rv_eqx nx_8 (by intro f hf q; simp only [List.mem_cons, List.not_mem_nil, or_false] at q; omega)
          have nx_8p : pw Mw = pw M := pw_x (nx_8 8 (by decide))
          have nx_8_7 : Mw 7 = M 7 := nx_8 7 (by decide)
          rw [nx_8r, nx_8p, nx_8_7]
          have f_9 := shownAtV_r (RB_rv hI) (VB_pw hI) (beat := i) (b := i) (n := M 7 0) (by omega) (iM_7 hI 0)
          refine lv_istore (lv' := [(6, .int (iv (shownAtV (rv M) (pw M) (M 7 0) i i))), (0, .ref (B 0)), (1, .int (iv (beat))), (2, .int (iv (last))), (3, .int (iv (best))), (4, .int (iv (least))), (5, .int (iv (i)))]) hx hb dX6_shown_86 hl (by decide) rfl (fun ls hl => ?_)
          refine lv_iload_n hx hb dX6_shown_88 rfl (lv_at hl 4 rfl) ?_
          have J_13 : ∀ (v_11 : Int) (ls : Array Slot), v_11 = (if best < 0 then 1 else if least ≤ (shownAtV (rv M) (pw M) (M 7 0) i i) then 0 else 1) → lv_has ls 8 [(0, .ref (B 0)), (1, .int (iv (beat))), (2, .int (iv (last))), (3, .int (iv (best))), (4, .int (iv (least))), (5, .int (iv (i))), (6, .int (iv (shownAtV (rv M) (pw M) (M 7 0) i i)))] → W p l e (rmk 5 0 0) s m args below meth c H locs 0 0 Q (F0 m 104 ls [.int (iv (v_11))]) := by
            intro v_11 ls ev_11 hl
            refine lv_istore (lv' := [(7, .int (iv (v_11))), (0, .ref (B 0)), (1, .int (iv (beat))), (2, .int (iv (last))), (3, .int (iv (best))), (4, .int (iv (least))), (5, .int (iv (i))), (6, .int (iv (shownAtV (rv M) (pw M) (M 7 0) i i)))]) hx hb dX6_shown_104 hl (by decide) rfl (fun ls hl => ?_)
            refine lv_iload hx hb dX6_shown_106 (lv_at hl 0 rfl) ?_
            have J_17 : ∀ (v_15 : Int) (ls : Array Slot), v_15 = (if v_11 = 0 then best else i) → lv_has ls 8 [(0, .ref (B 0)), (1, .int (iv (beat))), (2, .int (iv (last))), (3, .int (iv (best))), (4, .int (iv (least))), (5, .int (iv (i))), (6, .int (iv (shownAtV (rv M) (pw M) (M 7 0) i i))), (7, .int (iv (v_11)))] → W p l e (rmk 5 0 0) s m args below meth c H locs 0 0 Q (F0 m 117 ls [.int (iv (v_15))]) := by
              intro v_15 ls ev_15 hl
              refine lv_istore_n (lv' := [(3, .int (iv (v_15))), (0, .ref (B 0)), (1, .int (iv (beat))), (2, .int (iv (last))), (4, .int (iv (least))), (5, .int (iv (i))), (6, .int (iv (shownAtV (rv M) (pw M) (M 7 0) i i))), (7, .int (iv (v_11)))]) hx hb dX6_shown_117 rfl hl (by decide) rfl (fun ls hl => ?_)
              refine lv_iload hx hb dX6_shown_118 (lv_at hl 7 rfl) ?_
              have J_21 : ∀ (v_19 : Int) (ls : Array Slot), v_19 = (if v_11 = 0 then least else shownAtV (rv M) (pw M) (M 7 0) i i) → lv_has ls 8 [(0, .ref (B 0)), (1, .int (iv (beat))), (2, .int (iv (last))), (3, .int (iv (v_15))), (4, .int (iv (least))), (5, .int (iv (i))), (6, .int (iv (shownAtV (rv M) (pw M) (M 7 0) i i))), (7, .int (iv (v_11)))] → W p l e (rmk 5 0 0) s m args below meth c H locs 0 0 Q (F0 m 130 ls [.int (iv (v_19))]) := by
                intro v_19 ls ev_19 hl
                refine lv_istore (lv' := [(4, .int (iv (v_19))), (0, .ref (B 0)), (1, .int (iv (beat))), (2, .int (iv (last))), (3, .int (iv (v_15))), (5, .int (iv (i))), (6, .int (iv (shownAtV (rv M) (pw M) (M 7 0) i i))), (7, .int (iv (v_11)))]) hx hb dX6_shown_130 hl (by decide) rfl (fun ls hl => ?_)
                refine lv_iinc (v := iv (i + 1)) (lv' := [(5, .int (iv (i + 1))), (4, .int (iv (v_19))), (0, .ref (B 0)), (1, .int (iv (beat))), (2, .int (iv (last))), (3, .int (iv (v_15))), (6, .int (iv (shownAtV (rv M) (pw M) (M 7 0) i i))), (7, .int (iv (v_11)))]) hx hb dX6_shown_132 hl (k := 5) rfl (iv_add _ _) (by decide) rfl (fun ls hl => ?_)
                refine lv_goto (tgt := 69) hx hb dX6_shown_135 (by decide) ?_
                exact ih_69 v_15 v_19 (i + 1) M_6 H locs (by omega) (by omega) (by omega) (k2.tr xM_6) (by rw [show i + 1 - (last + 1) = (i - (last + 1)) + 1 by omega, shownW_s _ _ _ _ (by omega), show last + 1 + (i - (last + 1)) = i by omega]; exact bstep_eq (f := fun b => shownAtV (rv M) (pw M) (M 7 0) b b) k3 ev_11 ev_15 ev_19) (by omega) (by omega) hIM_6 hP hD hS ls (lv_sub hl [2, 3, 4, 5, 1, 0] rfl)
              refine r_if_eq (tgt := 128) hx hb dX6_shown_120 (by decide) (by omega) (fun c_18 => ?_) (fun c_18 => ?_)
              · refine lv_iload hx hb dX6_shown_128 (lv_at hl 4 rfl) ?_
                exact J_21 least ls (by rw [if_pos c_18]) (lv_sub hl [1, 2, 3, 0, 4, 5, 6, 7] rfl)
              refine lv_iload hx hb dX6_shown_123 (lv_at hl 6 rfl) ?_
              refine lv_goto (tgt := 130) hx hb dX6_shown_125 (by decide) ?_
              exact J_21 (shownAtV (rv M) (pw M) (M 7 0) i i) ls (by rw [if_neg c_18]) (lv_sub hl [1, 2, 3, 0, 4, 5, 6, 7] rfl)
            refine r_if_eq (tgt := 116) hx hb dX6_shown_108 (by decide) (by omega) (fun c_14 => ?_) (fun c_14 => ?_)
            · refine lv_iload_n hx hb dX6_shown_116 rfl (lv_at hl 4 rfl) ?_
              exact J_17 best ls (by rw [if_pos c_14]) (lv_sub hl [1, 2, 3, 4, 5, 6, 7, 0] rfl)
            refine lv_iload hx hb dX6_shown_111 (lv_at hl 6 rfl) ?_
            refine lv_goto (tgt := 117) hx hb dX6_shown_113 (by decide) ?_
            exact J_17 i ls (by rw [if_neg c_14]) (lv_sub hl [1, 2, 3, 4, 5, 6, 7, 0] rfl)
          refine r_if_lt (tgt := 99) hx hb dX6_shown_89 (by decide) (by omega) (fun c_10 => ?_) (fun c_10 => ?_)
          · refine r_iconst hx hb dX6_shown_99 ?_
            refine lv_goto (tgt := 104) hx hb dX6_shown_100 (by decide) ?_
            exact J_13 1 ls (by rw [if_pos c_10]) (lv_sub hl [1, 2, 3, 4, 5, 6, 0] rfl)
          refine lv_iload hx hb dX6_shown_92 (lv_at hl 0 rfl) ?_
          refine lv_iload hx hb dX6_shown_94 (lv_at hl 5 rfl) ?_
          refine r_icmp_ge (tgt := 103) hx hb dX6_shown_96 (by decide) (by omega) (by omega) (fun c_25 => ?_) (fun c_25 => ?_)
          · refine r_iconst hx hb dX6_shown_103 ?_
            exact J_13 0 ls (by rw [if_neg c_10]; rw [if_pos c_25]) (lv_sub hl [1, 2, 3, 4, 5, 6, 0] rfl)
          refine r_iconst hx hb dX6_shown_99 ?_
          refine lv_goto (tgt := 104) hx hb dX6_shown_100 (by decide) ?_
          exact J_13 1 ls (by rw [if_neg c_10]; rw [if_neg c_25]) (lv_sub hl [1, 2, 3, 4, 5, 6, 0] rfl)
      exact lp_69 (16 - (last + 1) + 1 : Int).toNat (-4) 0 (last + 1) M s.heap [] (by omega) (by omega) (by omega) (eqx.rf _ _) (by rw [show last + 1 - (last + 1) = 0 by omega]; exact shownW_0 _ _ _ _) (by omega) (by omega) hI hP hD hS ls (lv_sub hl [3, 4, 5, 2, 1, 0] rfl)
  exact lp_31 (16 - 0 + 1 : Int).toNat (-4) 0 (by omega) (by omega) (by omega) (lastV_0 _ _) (by omega) ls (lv_sub hl [2, 3, 1, 0] rfl)
set_option maxHeartbeats 4000000 in
set_option maxRecDepth 100000 in
theorem m_quiet {l : Launch} {D : va_G} {cI : ClassId} {B : Nat → Nat} {A : Nat → Prop} {M : St} (hI : InvM M) {beat : Int} {what : Int} (g_beat : -2147483648 ≤ beat ∧ beat ≤ 2147483647) (g_what : -2147483648 ≤ what ∧ what ≤ 2147483647) : Met l yX6_quiet (ws_ yX6_quiet cX6_quiet 9 (some .int)) (rmk 4 0 0) (va_Pc [.ref (B 0), .int (iv beat), .int (iv what)] (mUS D cI A (mW cI B M))) (va_Qi (fun r M1 => r = iv (opQuiet (rv M) (pw M) (M 7 0) beat what) ∧ eqx [14, 15] M M1 ∧ InvM M1) (mB D cI B A) A) 0 0 A := by
  refine r_met (by decide) _ rfl (Nat.le_of_ble_eq_true rfl) ?_
  intro p e s m args below meth c Q ls hx hb hr hlk hml hown hts hpre hQ hl
  obtain ⟨hP, hD, hK⟩ := hpre
  have hS : va_S A s.heap s.heap [] := va_S.rf
  have hown : s.vm.findClass RX6 = some m.cls := hown
  have hl : lv_has ls 9 [(0, .ref (B 0)), (1, .int (iv (beat))), (2, .int (iv (what)))] := hl
  have er1 : rv M 1 beat = M 1 beat := rfl
  refine lv_iload_n hx hb dX6_quiet_0 rfl (lv_at hl 1 rfl) ?_
  refine s_cR ⟨hx, hb, hml, hown, hts⟩ (m_isBeat (b := beat) (by omega)) (va_cwS 1 hts (lw_S q1107 q1108 q60 q1109) rfl rfl rfl hdS_X6_isBeat ⟨Nat.le_of_ble_eq_true rfl, Nat.le_of_ble_eq_true rfl⟩) rfl hl.1 rfl (Nat.le_of_ble_eq_true rfl) ⟨Nat.le_of_ble_eq_true rfl, Nat.le_of_ble_eq_true rfl⟩ dX6_quiet_1 ?_
  refine r_ifz_eq (tgt := 17) hx hb dX6_quiet_4 (by decide) (fun c_1 => ?_) (fun c_1 => ?_)
  · refine r_iconst hx hb dX6_quiet_17 ?_
    exact r_iretS hx hb hr hlk hQ M ⟨congrArg iv (by subst_vars; first | (refine Eq.trans ?_ ((if_neg (by first | assumption | omega))).symm; first | rfl | omega) | (refine Eq.trans ?_ ((if_pos (by first | assumption | omega))).symm; first | rfl | omega) | (refine Eq.trans ?_ (((if_neg (by first | assumption | omega))).trans (if_neg (by first | assumption | omega))).symm; first | rfl | omega) | (refine Eq.trans ?_ (((if_neg (by first | assumption | omega))).trans (if_pos (by first | assumption | omega))).symm; first | rfl | omega) | (refine Eq.trans ?_ (((if_pos (by first | assumption | omega))).trans (if_neg (by first | assumption | omega))).symm; first | rfl | omega) | (refine Eq.trans ?_ (((if_pos (by first | assumption | omega))).trans (if_pos (by first | assumption | omega))).symm; first | rfl | omega)), eqx.rf _ _, hI⟩ (fun t ht _ => ⟨by rw [ht]; exact hP, hD⟩) hS dX6_quiet_18
  refine lv_iload_n hx hb dX6_quiet_7 rfl (lv_at hl 2 rfl) ?_
  refine r_i2l hx hb (by omega) dX6_quiet_8 ?_
  refine r_lconst hx hb 0 (by decide) dX6_quiet_9 ?_
  refine r_lconst hx hb 1 (by decide) dX6_quiet_10 ?_
  refine s_cR ⟨hx, hb, hml, hown, hts⟩ (m_in (v := what) (low := 0) (high := 1) (by omega) (by decide) (by decide)) (va_cwS 3 hts (lw_S q1111 q1112 q60 q1113) rfl rfl rfl hdS_X6_in ⟨Nat.le_of_ble_eq_true rfl, Nat.le_of_ble_eq_true rfl⟩) rfl hl.1 rfl (Nat.le_of_ble_eq_true rfl) ⟨Nat.le_of_ble_eq_true rfl, Nat.le_of_ble_eq_true rfl⟩ dX6_quiet_11 ?_
  refine r_ifz_ne (tgt := 19) hx hb dX6_quiet_14 (by decide) (fun c_2 => ?_) (fun c_2 => ?_)
  rotate_left
  · refine r_iconst hx hb dX6_quiet_17 ?_
    exact r_iretS hx hb hr hlk hQ M ⟨congrArg iv (by subst_vars; first | (refine Eq.trans ?_ ((if_neg (by first | assumption | omega))).symm; first | rfl | omega) | (refine Eq.trans ?_ ((if_pos (by first | assumption | omega))).symm; first | rfl | omega) | (refine Eq.trans ?_ (((if_neg (by first | assumption | omega))).trans (if_neg (by first | assumption | omega))).symm; first | rfl | omega) | (refine Eq.trans ?_ (((if_neg (by first | assumption | omega))).trans (if_pos (by first | assumption | omega))).symm; first | rfl | omega) | (refine Eq.trans ?_ (((if_pos (by first | assumption | omega))).trans (if_neg (by first | assumption | omega))).symm; first | rfl | omega) | (refine Eq.trans ?_ (((if_pos (by first | assumption | omega))).trans (if_pos (by first | assumption | omega))).symm; first | rfl | omega)), eqx.rf _ _, hI⟩ (fun t ht _ => ⟨by rw [ht]; exact hP, hD⟩) hS dX6_quiet_18
  refine lv_aload_n hx hb dX6_quiet_19 rfl (lv_at hl 0 rfl) ?_
  refine mg_1 hx hb hts hown hK hP dX6_quiet_20 ?_
  refine lv_iload_n hx hb dX6_quiet_23 rfl (lv_at hl 1 rfl) ?_
  refine m_ald hx hb hK hP 1 (n := 16) rfl (by decide) (by omega) dX6_quiet_24 ?_
  have b_3 := iM_1 (M := M) hI (beat)
  refine lv_istore_n (lv' := [(3, .int (iv (M 1 beat))), (0, .ref (B 0)), (1, .int (iv (beat))), (2, .int (iv (what)))]) hx hb dX6_quiet_25 rfl hl (by decide) rfl (fun ls hl => ?_)
  refine lv_iload_n hx hb dX6_quiet_26 rfl (lv_at hl 0 rfl) ?_
  refine r_if_ne (tgt := 33) hx hb dX6_quiet_27 (by decide) (by omega) (fun c_4 => ?_) (fun c_4 => ?_)
  rotate_left
  · refine r_bipush hx hb (by decide) dX6_quiet_30 ?_
    exact r_iretS hx hb hr hlk hQ M ⟨congrArg iv (by subst_vars; first | (refine Eq.trans ?_ ((if_neg (by first | assumption | omega))).symm; first | rfl | omega) | (refine Eq.trans ?_ ((if_pos (by first | assumption | omega))).symm; first | rfl | omega) | (refine Eq.trans ?_ (((if_neg (by first | assumption | omega))).trans (if_neg (by first | assumption | omega))).symm; first | rfl | omega) | (refine Eq.trans ?_ (((if_neg (by first | assumption | omega))).trans (if_pos (by first | assumption | omega))).symm; first | rfl | omega) | (refine Eq.trans ?_ (((if_pos (by first | assumption | omega))).trans (if_neg (by first | assumption | omega))).symm; first | rfl | omega) | (refine Eq.trans ?_ (((if_pos (by first | assumption | omega))).trans (if_pos (by first | assumption | omega))).symm; first | rfl | omega)), eqx.rf _ _, hI⟩ (fun t ht _ => ⟨by rw [ht]; exact hP, hD⟩) hS dX6_quiet_32
  refine r_bipush hx hb (by decide) dX6_quiet_33 ?_
  refine lv_istore (lv' := [(4, .int (iv (-4))), (3, .int (iv (M 1 beat))), (0, .ref (B 0)), (1, .int (iv (beat))), (2, .int (iv (what)))]) hx hb dX6_quiet_35 hl (by decide) rfl (fun ls hl => ?_)
  refine r_iconst hx hb dX6_quiet_37 ?_
  refine lv_istore (lv' := [(5, .int (iv (0))), (4, .int (iv (-4))), (3, .int (iv (M 1 beat))), (0, .ref (B 0)), (1, .int (iv (beat))), (2, .int (iv (what)))]) hx hb dX6_quiet_38 hl (by decide) rfl (fun ls hl => ?_)
  refine lv_aload_n hx hb dX6_quiet_40 rfl (lv_at hl 3 rfl) ?_
  refine mg_1 hx hb hts hown hK hP dX6_quiet_41 ?_
  refine lv_iload_n hx hb dX6_quiet_44 rfl (lv_at hl 4 rfl) ?_
  refine r_iconst hx hb dX6_quiet_45 ?_
  refine m_ast hx hb hK hP hD hS 1 (n := 16) rfl (by decide) (by omega) dX6_quiet_46 (fun M_5 eM_5 H locs hP hD hS => ?_)
  have hIM_5 : InvM M_5 := iMs_1 hI eM_5 (by omega)
  refine r_iconst hx hb dX6_quiet_47 ?_
  refine lv_istore (lv' := [(6, .int (iv (0))), (5, .int (iv (0))), (4, .int (iv (-4))), (3, .int (iv (M 1 beat))), (0, .ref (B 0)), (1, .int (iv (beat))), (2, .int (iv (what)))]) hx hb dX6_quiet_48 hl (by decide) rfl (fun ls hl => ?_)
  have lp_50 : ∀ (n_50 : Nat) (best : Int) (least : Int) (b : Int) (Mw : St) (H : Heap) (locs : List Loc), 16 - b < (n_50 : Int) → (0 ≤ b) → (b ≤ 16) → (eqx [14, 15] M_5 Mw) → ((best, least) = quietW (rv M) (pw M) (M 7 0) beat b) → (-4 ≤ best ∧ best ≤ 15) → (0 ≤ least ∧ least ≤ 8000) → InvM Mw → wP D vwCl (mW cI B Mw) H → wD A (mW cI B Mw) → va_S A s.heap H locs → ∀ (ls : Array Slot), lv_has ls 9 [(0, .ref (B 0)), (1, .int (iv (beat))), (2, .int (iv (what))), (3, .int (iv (M 1 beat))), (4, .int (iv (best))), (5, .int (iv (least))), (6, .int (iv (b)))] → W p l e (rmk 4 0 0) s m args below meth c H locs 0 0 Q (F0 m 50 ls []) := by
    intro n_50
    induction n_50 with
    | zero =>
      intro best least b Mw H locs hn_50 h0 h1 h2 h3 h4 h5 hIMw hP hD hS ls hl
      exfalso
      omega
    | succ n_50 ih_50 =>
      intro best least b Mw H locs hn_50 h0 h1 h2 h3 h4 h5 hIMw hP hD hS ls hl
      refine lv_iload hx hb dX6_quiet_50 (lv_at hl 6 rfl) ?_
      refine r_bipush hx hb (by decide) dX6_quiet_52 ?_
      refine r_icmp_ge (tgt := 145) hx hb dX6_quiet_54 (by decide) (by omega) (by omega) (fun c_6 => ?_) (fun c_6 => ?_)
      · refine lv_aload_n hx hb dX6_quiet_145 rfl (lv_at hl 0 rfl) ?_
        refine mg_1 hx hb hts hown hK hP dX6_quiet_146 ?_
        refine lv_iload_n hx hb dX6_quiet_149 rfl (lv_at hl 1 rfl) ?_
        refine lv_iload_n hx hb dX6_quiet_150 rfl (lv_at hl 3 rfl) ?_
        refine m_ast hx hb hK hP hD hS 1 (n := 16) rfl (by decide) (by omega) dX6_quiet_151 (fun M_7 eM_7 H locs hP hD hS => ?_)
        have hIM_7 : InvM M_7 := iMs_1 hIMw eM_7 (by omega)
        refine lv_iload_n hx hb dX6_quiet_152 rfl (lv_at hl 2 rfl) ?_
        refine r_if_ne (tgt := 161) hx hb dX6_quiet_153 (by decide) (by omega) (fun c_8 => ?_) (fun c_8 => ?_)
        · refine lv_iload hx hb dX6_quiet_161 (lv_at hl 5 rfl) ?_
          exact r_iretS hx hb hr hlk hQ M_7 ⟨congrArg iv (by unfold opQuiet; rw [if_pos (by omega), if_neg (show ¬ rv M 1 beat = 0 by rw [er1]; omega)]; have e := h3; rw [show b = 16 by omega] at e; first | (rw [if_pos (by omega)]; exact congrArg Prod.fst e) | (rw [if_neg (by omega)]; exact congrArg Prod.snd e)), eqx_end (by have h := h2; rw [eM_5] at h; exact h) eM_7, hIM_7⟩ (fun t ht _ => ⟨by rw [ht]; exact hP, hD⟩) hS dX6_quiet_163
        refine lv_iload hx hb dX6_quiet_156 (lv_at hl 4 rfl) ?_
        refine lv_goto (tgt := 163) hx hb dX6_quiet_158 (by decide) ?_
        exact r_iretS hx hb hr hlk hQ M_7 ⟨congrArg iv (by unfold opQuiet; rw [if_pos (by omega), if_neg (show ¬ rv M 1 beat = 0 by rw [er1]; omega)]; have e := h3; rw [show b = 16 by omega] at e; first | (rw [if_pos (by omega)]; exact congrArg Prod.fst e) | (rw [if_neg (by omega)]; exact congrArg Prod.snd e)), eqx_end (by have h := h2; rw [eM_5] at h; exact h) eM_7, hIM_7⟩ (fun t ht _ => ⟨by rw [ht]; exact hP, hD⟩) hS dX6_quiet_163
      refine lv_aload_n hx hb dX6_quiet_57 rfl (lv_at hl 0 rfl) ?_
      refine mg_1 hx hb hts hown hK hP dX6_quiet_58 ?_
      refine lv_iload hx hb dX6_quiet_61 (lv_at hl 6 rfl) ?_
      refine m_ald hx hb hK hP 1 (n := 16) rfl (by decide) (by omega) dX6_quiet_63 ?_
      refine r_top (congrFun ((show Mw 1 = M_5 1 from h2 1 (by decide))) _) ?_
      have b_9 := iM_1 (M := M_5) hIM_5 (b)
      have w_10 : M_5 1 (b) = if (b) = (beat) then (0) else M 1 (b) := by rw [eM_5]; exact upd2_s
      refine r_if_ne (tgt := 139) hx hb dX6_quiet_64 (by decide) (by omega) (fun c_11 => ?_) (fun c_11 => ?_)
      · refine lv_iinc (v := iv (b + 1)) (lv' := [(6, .int (iv (b + 1))), (0, .ref (B 0)), (1, .int (iv (beat))), (2, .int (iv (what))), (3, .int (iv (M 1 beat))), (4, .int (iv (best))), (5, .int (iv (least)))]) hx hb dX6_quiet_139 hl (k := 6) rfl (iv_add _ _) (by decide) rfl (fun ls hl => ?_)
        refine lv_goto (tgt := 50) hx hb dX6_quiet_142 (by decide) ?_
        exact ih_50 best least (b + 1) Mw H locs (by omega) (by omega) (by omega) (h2) (by rw [quietW_s _ _ _ _ h0, if_neg (show ¬ (upd2 (rv M) 1 beat 0) 1 b = 0 from (show ¬ (upd2 M 1 beat 0) 1 b = 0 by rw [← eM_5]; assumption))]; exact h3) (by omega) (by omega) hIMw hP hD hS ls (lv_sub hl [1, 2, 3, 4, 5, 6, 0] rfl)
      refine lv_aload_n hx hb dX6_quiet_67 rfl (lv_at hl 0 rfl) ?_
      refine mg_1 hx hb hts hown hK hP dX6_quiet_68 ?_
      refine lv_iload hx hb dX6_quiet_71 (lv_at hl 6 rfl) ?_
      refine lv_iload_n hx hb dX6_quiet_73 rfl (lv_at hl 3 rfl) ?_
      refine m_ast hx hb hK hP hD hS 1 (n := 16) rfl (by decide) (by omega) dX6_quiet_74 (fun M_12 eM_12 H locs hP hD hS => ?_)
      have hIM_12 : InvM M_12 := iMs_1 hIMw eM_12 (by omega)
      refine lv_aload_n hx hb dX6_quiet_75 rfl (lv_at hl 0 rfl) ?_
      refine lv_iload hx hb dX6_quiet_76 (lv_at hl 6 rfl) ?_
      refine r_iconst hx hb dX6_quiet_78 ?_
      refine m_cI ⟨hx, hb, hml, hown, hts⟩ (m_seesAt hIM_12 (beat := b) (k := 1) (by omega) (by decide)) (cwV 2 hts (lw_V q1260 q1262 qs43 q60 q1263) rfl rfl rfl hdV_X6_seesAt ⟨Nat.le_of_ble_eq_true rfl, Nat.le_of_ble_eq_true rfl⟩) hK hP hD hS rfl hl.1 rfl (Nat.le_of_ble_eq_true rfl) ⟨Nat.le_of_ble_eq_true rfl, Nat.le_of_ble_eq_true rfl⟩ dX6_quiet_79 (fun r_14 M_13 H locs hq hP hD hS => ?_)
      obtain ⟨er_14, xM_13, hIM_13⟩ := hq
      subst er_14
      have f_15 := seesAtV_r (RB_rv hIM_12) (VB_pw hIM_12) (beat := b) (k := (1 : Int)) (n := M_12 7 0) (by omega) (iM_7 hIM_12 0)
      have er : rv M_12 = movedR (rv M) beat b := by rw [eM_12, rv_upd _ (by decide), rv_eqx h2 (fun f h q => by simp only [List.mem_cons, List.not_mem_nil, or_false] at q; omega), eM_5, rv_upd _ (by decide)]; rfl
      have fz := seesAtV_r (RB_rv hIM_12) (VB_pw hI) (beat := b) (k := 1) (n := M 7 0) (by decide) (iM_7 hI 0)
      rw [er] at fz
      rw [er, pw_x ((((show M_12 8 = Mw 8 from by rw [eM_12]; exact upd2_k (by decide))).trans (show Mw 8 = M_5 8 from h2 8 (by decide))).trans (show M_5 8 = M 8 from by rw [eM_5]; exact upd2_k (by decide))), congrFun ((((show M_12 7 = Mw 7 from by rw [eM_12]; exact upd2_k (by decide))).trans (show Mw 7 = M_5 7 from h2 7 (by decide))).trans (show M_5 7 = M 7 from by rw [eM_5]; exact upd2_k (by decide))) 0]
      refine lv_istore (lv' := [(7, .int (iv (seesAtV (movedR (rv M) beat b) (pw M) (M 7 0) b 1))), (0, .ref (B 0)), (1, .int (iv (beat))), (2, .int (iv (what))), (3, .int (iv (M 1 beat))), (4, .int (iv (best))), (5, .int (iv (least))), (6, .int (iv (b)))]) hx hb dX6_quiet_82 hl (by decide) rfl (fun ls hl => ?_)
      refine lv_aload_n hx hb dX6_quiet_84 rfl (lv_at hl 1 rfl) ?_
      refine mg_1 hx hb hts hown hK hP dX6_quiet_85 ?_
      refine lv_iload hx hb dX6_quiet_88 (lv_at hl 7 rfl) ?_
      refine r_iconst hx hb dX6_quiet_90 ?_
      refine m_ast hx hb hK hP hD hS 1 (n := 16) rfl (by decide) (by omega) dX6_quiet_91 (fun M_16 eM_16 H locs hP hD hS => ?_)
      have hIM_16 : InvM M_16 := iMs_1 hIM_13 eM_16 (by omega)
      refine lv_iload hx hb dX6_quiet_92 (lv_at hl 5 rfl) ?_
      have J_20 : ∀ (v_18 : Int) (ls : Array Slot), v_18 = (if best < 0 then 1 else if least ≤ (seesAtV (movedR (rv M) beat b) (pw M) (M 7 0) b 1) then 0 else 1) → lv_has ls 9 [(0, .ref (B 0)), (1, .int (iv (beat))), (2, .int (iv (what))), (3, .int (iv (M 1 beat))), (4, .int (iv (best))), (5, .int (iv (least))), (6, .int (iv (b))), (7, .int (iv (seesAtV (movedR (rv M) beat b) (pw M) (M 7 0) b 1)))] → W p l e (rmk 4 0 0) s m args below meth c H locs 0 0 Q (F0 m 109 ls [.int (iv (v_18))]) := by
        intro v_18 ls ev_18 hl
        refine lv_istore (lv' := [(8, .int (iv (v_18))), (0, .ref (B 0)), (1, .int (iv (beat))), (2, .int (iv (what))), (3, .int (iv (M 1 beat))), (4, .int (iv (best))), (5, .int (iv (least))), (6, .int (iv (b))), (7, .int (iv (seesAtV (movedR (rv M) beat b) (pw M) (M 7 0) b 1)))]) hx hb dX6_quiet_109 hl (by decide) rfl (fun ls hl => ?_)
        refine lv_iload hx hb dX6_quiet_111 (lv_at hl 0 rfl) ?_
        have J_24 : ∀ (v_22 : Int) (ls : Array Slot), v_22 = (if v_18 = 0 then best else b) → lv_has ls 9 [(0, .ref (B 0)), (1, .int (iv (beat))), (2, .int (iv (what))), (3, .int (iv (M 1 beat))), (4, .int (iv (best))), (5, .int (iv (least))), (6, .int (iv (b))), (7, .int (iv (seesAtV (movedR (rv M) beat b) (pw M) (M 7 0) b 1))), (8, .int (iv (v_18)))] → W p l e (rmk 4 0 0) s m args below meth c H locs 0 0 Q (F0 m 123 ls [.int (iv (v_22))]) := by
          intro v_22 ls ev_22 hl
          refine lv_istore (lv' := [(4, .int (iv (v_22))), (0, .ref (B 0)), (1, .int (iv (beat))), (2, .int (iv (what))), (3, .int (iv (M 1 beat))), (5, .int (iv (least))), (6, .int (iv (b))), (7, .int (iv (seesAtV (movedR (rv M) beat b) (pw M) (M 7 0) b 1))), (8, .int (iv (v_18)))]) hx hb dX6_quiet_123 hl (by decide) rfl (fun ls hl => ?_)
          refine lv_iload hx hb dX6_quiet_125 (lv_at hl 8 rfl) ?_
          have J_28 : ∀ (v_26 : Int) (ls : Array Slot), v_26 = (if v_18 = 0 then least else seesAtV (movedR (rv M) beat b) (pw M) (M 7 0) b 1) → lv_has ls 9 [(0, .ref (B 0)), (1, .int (iv (beat))), (2, .int (iv (what))), (3, .int (iv (M 1 beat))), (4, .int (iv (v_22))), (5, .int (iv (least))), (6, .int (iv (b))), (7, .int (iv (seesAtV (movedR (rv M) beat b) (pw M) (M 7 0) b 1))), (8, .int (iv (v_18)))] → W p l e (rmk 4 0 0) s m args below meth c H locs 0 0 Q (F0 m 137 ls [.int (iv (v_26))]) := by
            intro v_26 ls ev_26 hl
            refine lv_istore (lv' := [(5, .int (iv (v_26))), (0, .ref (B 0)), (1, .int (iv (beat))), (2, .int (iv (what))), (3, .int (iv (M 1 beat))), (4, .int (iv (v_22))), (6, .int (iv (b))), (7, .int (iv (seesAtV (movedR (rv M) beat b) (pw M) (M 7 0) b 1))), (8, .int (iv (v_18)))]) hx hb dX6_quiet_137 hl (by decide) rfl (fun ls hl => ?_)
            refine lv_iinc (v := iv (b + 1)) (lv' := [(6, .int (iv (b + 1))), (5, .int (iv (v_26))), (0, .ref (B 0)), (1, .int (iv (beat))), (2, .int (iv (what))), (3, .int (iv (M 1 beat))), (4, .int (iv (v_22))), (7, .int (iv (seesAtV (movedR (rv M) beat b) (pw M) (M 7 0) b 1))), (8, .int (iv (v_18)))]) hx hb dX6_quiet_139 hl (k := 6) rfl (iv_add _ _) (by decide) rfl (fun ls hl => ?_)
            refine lv_goto (tgt := 50) hx hb dX6_quiet_142 (by decide) ?_
            exact ih_50 v_22 v_26 (b + 1) M_16 H locs (by omega) (by omega) (by omega) (eqx_back h2 eM_12 xM_13 eM_16 (by assumption)) (by rw [quietW_s _ _ _ _ h0, if_pos (show (upd2 (rv M) 1 beat 0) 1 b = 0 from (show (upd2 M 1 beat 0) 1 b = 0 by rw [← eM_5]; assumption))]; exact bstep_eq (f := fun b => seesAtV (movedR (rv M) beat b) (pw M) (M 7 0) b 1) h3 ev_18 ev_22 ev_26) (by omega) (by omega) hIM_16 hP hD hS ls (lv_sub hl [2, 3, 4, 5, 6, 1, 0] rfl)
          refine r_if_eq (tgt := 135) hx hb dX6_quiet_127 (by decide) (by omega) (fun c_25 => ?_) (fun c_25 => ?_)
          · refine lv_iload hx hb dX6_quiet_135 (lv_at hl 5 rfl) ?_
            exact J_28 least ls (by rw [if_pos c_25]) (lv_sub hl [1, 2, 3, 4, 0, 5, 6, 7, 8] rfl)
          refine lv_iload hx hb dX6_quiet_130 (lv_at hl 7 rfl) ?_
          refine lv_goto (tgt := 137) hx hb dX6_quiet_132 (by decide) ?_
          exact J_28 (seesAtV (movedR (rv M) beat b) (pw M) (M 7 0) b 1) ls (by rw [if_neg c_25]) (lv_sub hl [1, 2, 3, 4, 0, 5, 6, 7, 8] rfl)
        refine r_if_eq (tgt := 121) hx hb dX6_quiet_113 (by decide) (by omega) (fun c_21 => ?_) (fun c_21 => ?_)
        · refine lv_iload hx hb dX6_quiet_121 (lv_at hl 5 rfl) ?_
          exact J_24 best ls (by rw [if_pos c_21]) (lv_sub hl [1, 2, 3, 4, 5, 6, 7, 8, 0] rfl)
        refine lv_iload hx hb dX6_quiet_116 (lv_at hl 7 rfl) ?_
        refine lv_goto (tgt := 123) hx hb dX6_quiet_118 (by decide) ?_
        exact J_24 b ls (by rw [if_neg c_21]) (lv_sub hl [1, 2, 3, 4, 5, 6, 7, 8, 0] rfl)
      refine r_if_lt (tgt := 104) hx hb dX6_quiet_94 (by decide) (by omega) (fun c_17 => ?_) (fun c_17 => ?_)
      · refine r_iconst hx hb dX6_quiet_104 ?_
        refine lv_goto (tgt := 109) hx hb dX6_quiet_105 (by decide) ?_
        exact J_20 1 ls (by rw [if_pos c_17]) (lv_sub hl [1, 2, 3, 4, 5, 6, 7, 0] rfl)
      refine lv_iload hx hb dX6_quiet_97 (lv_at hl 0 rfl) ?_
      refine lv_iload hx hb dX6_quiet_99 (lv_at hl 6 rfl) ?_
      refine r_icmp_ge (tgt := 108) hx hb dX6_quiet_101 (by decide) (by omega) (by omega) (fun c_32 => ?_) (fun c_32 => ?_)
      · refine r_iconst hx hb dX6_quiet_108 ?_
        exact J_20 0 ls (by rw [if_neg c_17]; rw [if_pos c_32]) (lv_sub hl [1, 2, 3, 4, 5, 6, 7, 0] rfl)
      refine r_iconst hx hb dX6_quiet_104 ?_
      refine lv_goto (tgt := 109) hx hb dX6_quiet_105 (by decide) ?_
      exact J_20 1 ls (by rw [if_neg c_17]; rw [if_neg c_32]) (lv_sub hl [1, 2, 3, 4, 5, 6, 7, 0] rfl)
  exact lp_50 (16 - 0 + 1 : Int).toNat (-4) 0 0 M_5 H locs (by omega) (by omega) (by omega) (eqx.rf _ _) (quietW_0 _ _ _ _) (by omega) (by omega) hIM_5 hP hD hS ls (lv_sub hl [4, 5, 6, 3, 2, 1, 0] rfl)
set_option maxHeartbeats 4000000 in
set_option maxRecDepth 100000 in
theorem m_fits {l : Launch} {D : va_G} {cI : ClassId} {B : Nat → Nat} {A : Nat → Prop} {M : St} (hI : InvM M) {what : Int} (g_what : -2147483648 ≤ what ∧ what ≤ 2147483647) : Met l yX6_fits (ws_ yX6_fits cX6_fits 11 (some .int)) (rmk 2 0 0) (va_Pc [.ref (B 0), .int (iv what)] (mUS D cI A (mW cI B M))) (va_Qi (fun r M1 => r = iv (opFits (rv M) (M 20) (M 21) (M 19 0) what) ∧ M1 = M ∧ InvM M1) (mB D cI B A) A) 0 0 A := by
  refine r_met (by decide) _ rfl (Nat.le_of_ble_eq_true rfl) ?_
  intro p e s m args below meth c Q ls hx hb hr hlk hml hown hts hpre hQ hl
  obtain ⟨hP, hD, hK⟩ := hpre
  have hS : va_S A s.heap s.heap [] := va_S.rf
  have hown : s.vm.findClass RX6 = some m.cls := hown
  have hl : lv_has ls 11 [(0, .ref (B 0)), (1, .int (iv (what)))] := hl
  refine lv_iload_n hx hb dX6_fits_0 rfl (lv_at hl 1 rfl) ?_
  refine r_i2l hx hb (by omega) dX6_fits_1 ?_
  refine r_lconst hx hb 0 (by decide) dX6_fits_2 ?_
  refine r_lconst hx hb 1 (by decide) dX6_fits_3 ?_
  refine s_cR ⟨hx, hb, hml, hown, hts⟩ (m_in (v := what) (low := 0) (high := 1) (by omega) (by decide) (by decide)) (va_cwS 3 hts (lw_S q1111 q1112 q60 q1113) rfl rfl rfl hdS_X6_in ⟨Nat.le_of_ble_eq_true rfl, Nat.le_of_ble_eq_true rfl⟩) rfl hl.1 rfl (Nat.le_of_ble_eq_true rfl) ⟨Nat.le_of_ble_eq_true rfl, Nat.le_of_ble_eq_true rfl⟩ dX6_fits_4 ?_
  refine r_ifz_ne (tgt := 12) hx hb dX6_fits_7 (by decide) (fun c_1 => ?_) (fun c_1 => ?_)
  rotate_left
  · refine r_iconst hx hb dX6_fits_10 ?_
    exact r_iretS hx hb hr hlk hQ M ⟨congrArg iv (by subst_vars; first | (unfold opFits; rw [if_pos (by omega), if_neg (by omega)]; have e := h3; rw [show v = 10 by omega] at e; first | (rw [if_pos (by omega)]; exact congrArg Prod.fst e) | (rw [if_neg (by omega)]; exact congrArg Prod.snd e)) | (refine Eq.trans ?_ ((if_neg (by first | assumption | omega))).symm; first | rfl | omega) | (refine Eq.trans ?_ ((if_pos (by first | assumption | omega))).symm; first | rfl | omega) | (refine Eq.trans ?_ (((if_neg (by first | assumption | omega))).trans (if_neg (by first | assumption | omega))).symm; first | rfl | omega) | (refine Eq.trans ?_ (((if_neg (by first | assumption | omega))).trans (if_pos (by first | assumption | omega))).symm; first | rfl | omega) | (refine Eq.trans ?_ (((if_pos (by first | assumption | omega))).trans (if_neg (by first | assumption | omega))).symm; first | rfl | omega) | (refine Eq.trans ?_ (((if_pos (by first | assumption | omega))).trans (if_pos (by first | assumption | omega))).symm; first | rfl | omega)), (by first | rfl | (rw []; exact h2)), hI⟩ (fun t ht _ => ⟨by rw [ht]; exact hP, hD⟩) hS dX6_fits_11
  refine lv_aload_n hx hb dX6_fits_12 rfl (lv_at hl 0 rfl) ?_
  refine mg_19 hx hb hts hown hK hP dX6_fits_13 ?_
  have b_2 := iM_19 (M := M) hI (0)
  refine r_if_ne (tgt := 22) hx hb dX6_fits_16 (by decide) (by omega) (fun c_3 => ?_) (fun c_3 => ?_)
  rotate_left
  · refine r_bipush hx hb (by decide) dX6_fits_19 ?_
    exact r_iretS hx hb hr hlk hQ M ⟨congrArg iv (by subst_vars; first | (unfold opFits; rw [if_pos (by omega), if_neg (by omega)]; have e := h3; rw [show v = 10 by omega] at e; first | (rw [if_pos (by omega)]; exact congrArg Prod.fst e) | (rw [if_neg (by omega)]; exact congrArg Prod.snd e)) | (refine Eq.trans ?_ ((if_neg (by first | assumption | omega))).symm; first | rfl | omega) | (refine Eq.trans ?_ ((if_pos (by first | assumption | omega))).symm; first | rfl | omega) | (refine Eq.trans ?_ (((if_neg (by first | assumption | omega))).trans (if_neg (by first | assumption | omega))).symm; first | rfl | omega) | (refine Eq.trans ?_ (((if_neg (by first | assumption | omega))).trans (if_pos (by first | assumption | omega))).symm; first | rfl | omega) | (refine Eq.trans ?_ (((if_pos (by first | assumption | omega))).trans (if_neg (by first | assumption | omega))).symm; first | rfl | omega) | (refine Eq.trans ?_ (((if_pos (by first | assumption | omega))).trans (if_pos (by first | assumption | omega))).symm; first | rfl | omega)), (by first | rfl | (rw []; exact h2)), hI⟩ (fun t ht _ => ⟨by rw [ht]; exact hP, hD⟩) hS dX6_fits_21
  refine lv_aload_n hx hb dX6_fits_22 rfl (lv_at hl 0 rfl) ?_
  refine mg_6 hx hb hts hown hK hP dX6_fits_23 ?_
  refine r_iconst hx hb dX6_fits_26 ?_
  refine m_ald hx hb hK hP 6 (n := 5) rfl (by decide) (by omega) dX6_fits_27 ?_
  have b_4 := iM_6 (M := M) hI (0)
  refine lv_istore_n (lv' := [(2, .int (iv (M 6 0))), (0, .ref (B 0)), (1, .int (iv (what)))]) hx hb dX6_fits_28 rfl hl (by decide) rfl (fun ls hl => ?_)
  refine r_iconst hx hb dX6_fits_29 ?_
  refine lv_istore_n (lv' := [(3, .int (iv (0))), (2, .int (iv (M 6 0))), (0, .ref (B 0)), (1, .int (iv (what)))]) hx hb dX6_fits_30 rfl hl (by decide) rfl (fun ls hl => ?_)
  refine r_iconst hx hb dX6_fits_31 ?_
  refine lv_istore (lv' := [(4, .int (iv (-1))), (3, .int (iv (0))), (2, .int (iv (M 6 0))), (0, .ref (B 0)), (1, .int (iv (what)))]) hx hb dX6_fits_32 hl (by decide) rfl (fun ls hl => ?_)
  refine r_iconst hx hb dX6_fits_34 ?_
  refine lv_istore (lv' := [(5, .int (iv (0))), (4, .int (iv (-1))), (3, .int (iv (0))), (2, .int (iv (M 6 0))), (0, .ref (B 0)), (1, .int (iv (what)))]) hx hb dX6_fits_35 hl (by decide) rfl (fun ls hl => ?_)
  have lp_37 : ∀ (n_37 : Nat) (best : Int) (most : Int) (v : Int) (Mw : St) (H : Heap) (locs : List Loc), 10 - v < (n_37 : Int) → (0 ≤ v) → (v ≤ 10) → (upd2 Mw 6 0 (M 6 0) = M) → ((best, most) = fitW (rv M) (M 20) (M 21) (M 19 0) v) → (0 ≤ best ∧ best ≤ 9) → (-1 ≤ most ∧ most ≤ 24) → InvM Mw → wP D vwCl (mW cI B Mw) H → wD A (mW cI B Mw) → va_S A s.heap H locs → ∀ (ls : Array Slot), lv_has ls 11 [(0, .ref (B 0)), (1, .int (iv (what))), (2, .int (iv (M 6 0))), (3, .int (iv (best))), (4, .int (iv (most))), (5, .int (iv (v)))] → W p l e (rmk 2 0 0) s m args below meth c H locs 0 0 Q (F0 m 37 ls []) := by
    intro n_37
    induction n_37 with
    | zero =>
      intro best most v Mw H locs hn_37 h0 h1 h2 h3 h4 h5 hIMw hP hD hS ls hl
      exfalso
      omega
    | succ n_37 ih_37 =>
      intro best most v Mw H locs hn_37 h0 h1 h2 h3 h4 h5 hIMw hP hD hS ls hl
      have b19 := iM_19 hI 0
      refine lv_iload hx hb dX6_fits_37 (lv_at hl 5 rfl) ?_
      refine r_bipush hx hb (by decide) dX6_fits_39 ?_
      refine r_icmp_ge (tgt := 198) hx hb dX6_fits_41 (by decide) (by omega) (by omega) (fun c_5 => ?_) (fun c_5 => ?_)
      · refine lv_aload_n hx hb dX6_fits_198 rfl (lv_at hl 0 rfl) ?_
        refine mg_6 hx hb hts hown hK hP dX6_fits_199 ?_
        refine r_iconst hx hb dX6_fits_202 ?_
        refine lv_iload_n hx hb dX6_fits_203 rfl (lv_at hl 2 rfl) ?_
        refine m_ast hx hb hK hP hD hS 6 (n := 5) rfl (by decide) (by omega) dX6_fits_204 (fun M_6 eM_6 H locs hP hD hS => ?_)
        have hIM_6 : InvM M_6 := iMs_6 hIMw eM_6 (by omega)
        refine lv_iload_n hx hb dX6_fits_205 rfl (lv_at hl 1 rfl) ?_
        refine r_if_ne (tgt := 213) hx hb dX6_fits_206 (by decide) (by omega) (fun c_7 => ?_) (fun c_7 => ?_)
        · refine lv_iload hx hb dX6_fits_213 (lv_at hl 4 rfl) ?_
          exact r_iretS hx hb hr hlk hQ M_6 ⟨congrArg iv (by subst_vars; first | (unfold opFits; rw [if_pos (by omega), if_neg (by omega)]; have e := h3; rw [show v = 10 by omega] at e; first | (rw [if_pos (by omega)]; exact congrArg Prod.fst e) | (rw [if_neg (by omega)]; exact congrArg Prod.snd e)) | (refine Eq.trans ?_ ((if_neg (by first | assumption | omega))).symm; first | rfl | omega) | (refine Eq.trans ?_ ((if_pos (by first | assumption | omega))).symm; first | rfl | omega) | (refine Eq.trans ?_ (((if_neg (by first | assumption | omega))).trans (if_neg (by first | assumption | omega))).symm; first | rfl | omega) | (refine Eq.trans ?_ (((if_neg (by first | assumption | omega))).trans (if_pos (by first | assumption | omega))).symm; first | rfl | omega) | (refine Eq.trans ?_ (((if_pos (by first | assumption | omega))).trans (if_neg (by first | assumption | omega))).symm; first | rfl | omega) | (refine Eq.trans ?_ (((if_pos (by first | assumption | omega))).trans (if_pos (by first | assumption | omega))).symm; first | rfl | omega)), (by first | rfl | (rw [eM_6]; exact h2)), hIM_6⟩ (fun t ht _ => ⟨by rw [ht]; exact hP, hD⟩) hS dX6_fits_215
        refine lv_iload_n hx hb dX6_fits_209 rfl (lv_at hl 3 rfl) ?_
        refine lv_goto (tgt := 215) hx hb dX6_fits_210 (by decide) ?_
        exact r_iretS hx hb hr hlk hQ M_6 ⟨congrArg iv (by subst_vars; first | (unfold opFits; rw [if_pos (by omega), if_neg (by omega)]; have e := h3; rw [show v = 10 by omega] at e; first | (rw [if_pos (by omega)]; exact congrArg Prod.fst e) | (rw [if_neg (by omega)]; exact congrArg Prod.snd e)) | (refine Eq.trans ?_ ((if_neg (by first | assumption | omega))).symm; first | rfl | omega) | (refine Eq.trans ?_ ((if_pos (by first | assumption | omega))).symm; first | rfl | omega) | (refine Eq.trans ?_ (((if_neg (by first | assumption | omega))).trans (if_neg (by first | assumption | omega))).symm; first | rfl | omega) | (refine Eq.trans ?_ (((if_neg (by first | assumption | omega))).trans (if_pos (by first | assumption | omega))).symm; first | rfl | omega) | (refine Eq.trans ?_ (((if_pos (by first | assumption | omega))).trans (if_neg (by first | assumption | omega))).symm; first | rfl | omega) | (refine Eq.trans ?_ (((if_pos (by first | assumption | omega))).trans (if_pos (by first | assumption | omega))).symm; first | rfl | omega)), (by first | rfl | (rw [eM_6]; exact h2)), hIM_6⟩ (fun t ht _ => ⟨by rw [ht]; exact hP, hD⟩) hS dX6_fits_215
      refine lv_aload_n hx hb dX6_fits_44 rfl (lv_at hl 0 rfl) ?_
      refine mg_6 hx hb hts hown hK hP dX6_fits_45 ?_
      refine r_iconst hx hb dX6_fits_48 ?_
      refine lv_iload hx hb dX6_fits_49 (lv_at hl 5 rfl) ?_
      refine m_ast hx hb hK hP hD hS 6 (n := 5) rfl (by decide) (by omega) dX6_fits_51 (fun M_8 eM_8 H locs hP hD hS => ?_)
      have hIM_8 : InvM M_8 := iMs_6 hIMw eM_8 (by omega)
      refine r_iconst hx hb dX6_fits_52 ?_
      refine lv_istore (lv' := [(6, .int (iv (0))), (0, .ref (B 0)), (1, .int (iv (what))), (2, .int (iv (M 6 0))), (3, .int (iv (best))), (4, .int (iv (most))), (5, .int (iv (v)))]) hx hb dX6_fits_53 hl (by decide) rfl (fun ls hl => ?_)
      refine r_iconst hx hb dX6_fits_55 ?_
      refine lv_istore (lv' := [(7, .int (iv (0))), (6, .int (iv (0))), (0, .ref (B 0)), (1, .int (iv (what))), (2, .int (iv (M 6 0))), (3, .int (iv (best))), (4, .int (iv (most))), (5, .int (iv (v)))]) hx hb dX6_fits_56 hl (by decide) rfl (fun ls hl => ?_)
      have lp_58 : ∀ (n_58 : Nat) (n : Int) (k : Int), M 19 0 - k < (n_58 : Int) → (0 ≤ k) → (k ≤ M 19 0) → (n = fitN (rv M_8) (M 20) (M 21) k) → (0 ≤ n ∧ n ≤ k) → ∀ (ls : Array Slot), lv_has ls 11 [(0, .ref (B 0)), (1, .int (iv (what))), (2, .int (iv (M 6 0))), (3, .int (iv (best))), (4, .int (iv (most))), (5, .int (iv (v))), (6, .int (iv (n))), (7, .int (iv (k)))] → W p l e (rmk 2 0 0) s m args below meth c H locs 0 0 Q (F0 m 58 ls []) := by
        intro n_58
        induction n_58 with
        | zero =>
          intro n k hn_58 j0 j1 j2 j3 ls hl
          exfalso
          omega
        | succ n_58 ih_58 =>
          intro n k hn_58 j0 j1 j2 j3 ls hl
          refine lv_iload hx hb dX6_fits_58 (lv_at hl 7 rfl) ?_
          refine lv_aload_n hx hb dX6_fits_60 rfl (lv_at hl 0 rfl) ?_
          refine mg_19 hx hb hts hown hK hP dX6_fits_61 ?_
          refine r_top (congrFun (((show M_8 19 = Mw 19 from by rw [eM_8]; exact upd2_k (by decide))).trans (show Mw 19 = M 19 from (ex6 h2) 19 (by decide))) 0) ?_
          have b_10 := iM_19 (M := M) hI (0)
          refine r_icmp_ge (tgt := 162) hx hb dX6_fits_64 (by decide) (by omega) (by omega) (fun c_11 => ?_) (fun c_11 => ?_)
          · refine lv_iload hx hb dX6_fits_162 (lv_at hl 6 rfl) ?_
            refine lv_iload hx hb dX6_fits_164 (lv_at hl 4 rfl) ?_
            have J_15 : ∀ (v_13 : Int) (ls : Array Slot), v_13 = (if n ≤ most then best else v) → lv_has ls 11 [(0, .ref (B 0)), (1, .int (iv (what))), (2, .int (iv (M 6 0))), (3, .int (iv (best))), (4, .int (iv (most))), (5, .int (iv (v))), (6, .int (iv (n))), (7, .int (iv (k)))] → W p l e (rmk 2 0 0) s m args below meth c H locs 0 0 Q (F0 m 175 ls [.int (iv (v_13))]) := by
              intro v_13 ls ev_13 hl
              refine lv_istore_n (lv' := [(3, .int (iv (v_13))), (0, .ref (B 0)), (1, .int (iv (what))), (2, .int (iv (M 6 0))), (4, .int (iv (most))), (5, .int (iv (v))), (6, .int (iv (n))), (7, .int (iv (k)))]) hx hb dX6_fits_175 rfl hl (by decide) rfl (fun ls hl => ?_)
              refine lv_iload hx hb dX6_fits_176 (lv_at hl 6 rfl) ?_
              refine lv_iload hx hb dX6_fits_178 (lv_at hl 4 rfl) ?_
              have J_19 : ∀ (v_17 : Int) (ls : Array Slot), v_17 = (if n ≤ most then most else n) → lv_has ls 11 [(0, .ref (B 0)), (1, .int (iv (what))), (2, .int (iv (M 6 0))), (3, .int (iv (v_13))), (4, .int (iv (most))), (5, .int (iv (v))), (6, .int (iv (n))), (7, .int (iv (k)))] → W p l e (rmk 2 0 0) s m args below meth c H locs 0 0 Q (F0 m 190 ls [.int (iv (v_17))]) := by
                intro v_17 ls ev_17 hl
                refine lv_istore (lv' := [(4, .int (iv (v_17))), (0, .ref (B 0)), (1, .int (iv (what))), (2, .int (iv (M 6 0))), (3, .int (iv (v_13))), (5, .int (iv (v))), (6, .int (iv (n))), (7, .int (iv (k)))]) hx hb dX6_fits_190 hl (by decide) rfl (fun ls hl => ?_)
                refine lv_iinc (v := iv (v + 1)) (lv' := [(5, .int (iv (v + 1))), (4, .int (iv (v_17))), (0, .ref (B 0)), (1, .int (iv (what))), (2, .int (iv (M 6 0))), (3, .int (iv (v_13))), (6, .int (iv (n))), (7, .int (iv (k)))]) hx hb dX6_fits_192 hl (k := 5) rfl (iv_add _ _) (by decide) rfl (fun ls hl => ?_)
                refine lv_goto (tgt := 37) hx hb dX6_fits_195 (by decide) ?_
                exact ih_37 v_13 v_17 (v + 1) M_8 H locs (by omega) (by omega) (by omega) (by rw [eM_8, upd2_2]; exact h2) (by rw [fitW_s _ _ _ _ h0, ← h3]; have e := j2; rw [show k = M 19 0 by omega, eM_8, ex6v h2, rv_upd _ (by decide)] at e; rw [← e]; dsimp only; rw [ev_13, ev_17]; split <;> rfl) (by omega) (by have hf := fitN_r (R := rv M_8) (pb := M 20) (pp := M 21) (k := k) j0; omega) hIM_8 hP hD hS ls (lv_sub hl [2, 3, 4, 5, 1, 0] rfl)
              refine r_icmp_le (tgt := 188) hx hb dX6_fits_180 (by decide) (by omega) (by omega) (fun c_16 => ?_) (fun c_16 => ?_)
              · refine lv_iload hx hb dX6_fits_188 (lv_at hl 4 rfl) ?_
                exact J_19 most ls (by rw [if_pos c_16]) (lv_sub hl [1, 2, 3, 0, 4, 5, 6, 7] rfl)
              refine lv_iload hx hb dX6_fits_183 (lv_at hl 6 rfl) ?_
              refine lv_goto (tgt := 190) hx hb dX6_fits_185 (by decide) ?_
              exact J_19 n ls (by rw [if_neg c_16]) (lv_sub hl [1, 2, 3, 0, 4, 5, 6, 7] rfl)
            refine r_icmp_le (tgt := 174) hx hb dX6_fits_166 (by decide) (by omega) (by omega) (fun c_12 => ?_) (fun c_12 => ?_)
            · refine lv_iload_n hx hb dX6_fits_174 rfl (lv_at hl 3 rfl) ?_
              exact J_15 best ls (by rw [if_pos c_12]) (lv_sub hl [0, 1, 2, 3, 4, 5, 6, 7] rfl)
            refine lv_iload hx hb dX6_fits_169 (lv_at hl 5 rfl) ?_
            refine lv_goto (tgt := 175) hx hb dX6_fits_171 (by decide) ?_
            exact J_15 v ls (by rw [if_neg c_12]) (lv_sub hl [0, 1, 2, 3, 4, 5, 6, 7] rfl)
          refine r_iconst hx hb dX6_fits_67 ?_
          refine lv_istore (lv' := [(8, .int (iv (1))), (0, .ref (B 0)), (1, .int (iv (what))), (2, .int (iv (M 6 0))), (3, .int (iv (best))), (4, .int (iv (most))), (5, .int (iv (v))), (6, .int (iv (n))), (7, .int (iv (k)))]) hx hb dX6_fits_68 hl (by decide) rfl (fun ls hl => ?_)
          refine lv_aload_n hx hb dX6_fits_70 rfl (lv_at hl 1 rfl) ?_
          refine r_iconst hx hb dX6_fits_71 ?_
          refine r_iconst hx hb dX6_fits_72 ?_
          refine lv_aload_n hx hb dX6_fits_73 rfl (lv_at hl 1 rfl) ?_
          refine mg_20 hx hb hts hown hK hP dX6_fits_74 ?_
          refine lv_iload hx hb dX6_fits_77 (lv_at hl 8 rfl) ?_
          refine m_ald hx hb hK hP 20 (n := 24) rfl (by decide) (by omega) dX6_fits_79 ?_
          refine r_top (congrFun (((show M_8 20 = Mw 20 from by rw [eM_8]; exact upd2_k (by decide))).trans (show Mw 20 = M 20 from (ex6 h2) 20 (by decide))) _) ?_
          have b_22 := iM_20 (M := M) hI (k)
          refine lv_aload_n hx hb dX6_fits_80 rfl (lv_at hl 1 rfl) ?_
          refine mg_21 hx hb hts hown hK hP dX6_fits_81 ?_
          refine lv_iload hx hb dX6_fits_84 (lv_at hl 8 rfl) ?_
          refine m_ald hx hb hK hP 21 (n := 24) rfl (by decide) (by omega) dX6_fits_86 ?_
          refine r_top (congrFun (((show M_8 21 = Mw 21 from by rw [eM_8]; exact upd2_k (by decide))).trans (show Mw 21 = M 21 from (ex6 h2) 21 (by decide))) _) ?_
          have b_23 := iM_21 (M := M) hI (k)
          refine r_iconst hx hb dX6_fits_87 ?_
          refine m_cR ⟨hx, hb, hml, hown, hts⟩ (m_pullOn hIM_8 (kind := 0) (doubt := 0) (beat := M 20 k) (place := M 21 k) (k := 1) (by decide) (by decide) (by omega) (by omega) (by decide)) (cwV 5 hts (lw_V q1227 q1229 qs39 q60 q1230) rfl rfl rfl hdV_X6_pullOn ⟨Nat.le_of_ble_eq_true rfl, Nat.le_of_ble_eq_true rfl⟩) hK hP rfl hl.1 rfl (Nat.le_of_ble_eq_true rfl) ⟨Nat.le_of_ble_eq_true rfl, Nat.le_of_ble_eq_true rfl⟩ dX6_fits_88 ?_
          have f_24 := @pullV_r (rv M_8) (RB_rv hIM_8) (0 : Int) (0 : Int) (M 20 k) (M 21 k) (1 : Int) (by omega) (by omega)
          refine lv_istore (lv' := [(9, .int (iv (pullV (rv M_8) (0 : Int) (0 : Int) (M 20 k) (M 21 k) (1 : Int)))), (8, .int (iv (1))), (0, .ref (B 0)), (1, .int (iv (what))), (2, .int (iv (M 6 0))), (3, .int (iv (best))), (4, .int (iv (most))), (5, .int (iv (v))), (6, .int (iv (n))), (7, .int (iv (k)))]) hx hb dX6_fits_91 hl (by decide) rfl (fun ls hl => ?_)
          refine r_iconst hx hb dX6_fits_93 ?_
          refine lv_istore (lv' := [(10, .int (iv (0))), (9, .int (iv (pullV (rv M_8) (0 : Int) (0 : Int) (M 20 k) (M 21 k) (1 : Int)))), (8, .int (iv (1))), (0, .ref (B 0)), (1, .int (iv (what))), (2, .int (iv (M 6 0))), (3, .int (iv (best))), (4, .int (iv (most))), (5, .int (iv (v))), (6, .int (iv (n))), (7, .int (iv (k)))]) hx hb dX6_fits_94 hl (by decide) rfl (fun ls hl => ?_)
          have lp_96 : ∀ (n_96 : Nat) (is : Int) (q : Int), 4 - q < (n_96 : Int) → (0 ≤ q) → (q ≤ 4) → (is = eyesV (rv M_8) (M 20 k) (M 21 k) q) → (is = 0 ∨ is = 1) → ∀ (ls : Array Slot), lv_has ls 11 [(0, .ref (B 0)), (1, .int (iv (what))), (2, .int (iv (M 6 0))), (3, .int (iv (best))), (4, .int (iv (most))), (5, .int (iv (v))), (6, .int (iv (n))), (7, .int (iv (k))), (8, .int (iv (is))), (9, .int (iv (pullV (rv M_8) (0 : Int) (0 : Int) (M 20 k) (M 21 k) (1 : Int)))), (10, .int (iv (q)))] → W p l e (rmk 2 0 0) s m args below meth c H locs 0 0 Q (F0 m 96 ls []) := by
            intro n_96
            induction n_96 with
            | zero =>
              intro is q hn_96 i0 i1 i2 i3 ls hl
              exfalso
              omega
            | succ n_96 ih_96 =>
              intro is q hn_96 i0 i1 i2 i3 ls hl
              refine lv_iload hx hb dX6_fits_96 (lv_at hl 10 rfl) ?_
              refine r_iconst hx hb dX6_fits_98 ?_
              refine r_icmp_ge (tgt := 141) hx hb dX6_fits_99 (by decide) (by omega) (by omega) (fun c_25 => ?_) (fun c_25 => ?_)
              · refine lv_iload hx hb dX6_fits_141 (lv_at hl 6 rfl) ?_
                refine lv_iload hx hb dX6_fits_143 (lv_at hl 8 rfl) ?_
                have J_29 : ∀ (v_27 : Int) (ls : Array Slot), v_27 = (if is = 0 then 0 else 1) → lv_has ls 11 [(0, .ref (B 0)), (1, .int (iv (what))), (2, .int (iv (M 6 0))), (3, .int (iv (best))), (4, .int (iv (most))), (5, .int (iv (v))), (6, .int (iv (n))), (7, .int (iv (k))), (8, .int (iv (is))), (9, .int (iv (pullV (rv M_8) (0 : Int) (0 : Int) (M 20 k) (M 21 k) (1 : Int)))), (10, .int (iv (q)))] → W p l e (rmk 2 0 0) s m args below meth c H locs 0 0 Q (F0 m 153 ls [.int (iv (v_27)), .int (iv (n))]) := by
                  intro v_27 ls ev_27 hl
                  refine r_iadd hx hb dX6_fits_153 ?_
                  refine lv_istore (lv' := [(6, .int (iv (n + v_27))), (0, .ref (B 0)), (1, .int (iv (what))), (2, .int (iv (M 6 0))), (3, .int (iv (best))), (4, .int (iv (most))), (5, .int (iv (v))), (7, .int (iv (k))), (8, .int (iv (is))), (9, .int (iv (pullV (rv M_8) (0 : Int) (0 : Int) (M 20 k) (M 21 k) (1 : Int)))), (10, .int (iv (q)))]) hx hb dX6_fits_154 hl (by decide) rfl (fun ls hl => ?_)
                  refine lv_iinc (v := iv (k + 1)) (lv' := [(7, .int (iv (k + 1))), (6, .int (iv (n + v_27))), (0, .ref (B 0)), (1, .int (iv (what))), (2, .int (iv (M 6 0))), (3, .int (iv (best))), (4, .int (iv (most))), (5, .int (iv (v))), (8, .int (iv (is))), (9, .int (iv (pullV (rv M_8) (0 : Int) (0 : Int) (M 20 k) (M 21 k) (1 : Int)))), (10, .int (iv (q)))]) hx hb dX6_fits_156 hl (k := 7) rfl (iv_add _ _) (by decide) rfl (fun ls hl => ?_)
                  refine lv_goto (tgt := 58) hx hb dX6_fits_159 (by decide) ?_
                  exact ih_58 (n + v_27) (k + 1) (by omega) (by omega) (by omega) (by rw [fitN_s _ _ _ j0, ← j2]; have e := i2; rw [show q = 4 by omega] at e; rw [← e]; subst_vars; rfl) (by omega) ls (lv_sub hl [2, 3, 4, 5, 6, 7, 1, 0] rfl)
                refine r_if_eq (tgt := 152) hx hb dX6_fits_145 (by decide) (by omega) (fun c_26 => ?_) (fun c_26 => ?_)
                · refine r_iconst hx hb dX6_fits_152 ?_
                  exact J_29 0 ls (by rw [if_pos c_26]) (lv_sub hl [0, 1, 2, 3, 4, 5, 6, 7, 8, 9, 10] rfl)
                refine r_iconst hx hb dX6_fits_148 ?_
                refine lv_goto (tgt := 153) hx hb dX6_fits_149 (by decide) ?_
                exact J_29 1 ls (by rw [if_neg c_26]) (lv_sub hl [0, 1, 2, 3, 4, 5, 6, 7, 8, 9, 10] rfl)
              refine lv_iload hx hb dX6_fits_102 (lv_at hl 8 rfl) ?_
              have J_34 : ∀ (v_32 : Int) (ls : Array Slot), v_32 = (if is = 0 then 0 else if (pullV (rv M_8) (0 : Int) (0 : Int) (M 20 k) (M 21 k) (1 : Int)) < (pullV (rv M_8) (0 : Int) (0 : Int) (M 20 k) q (1 : Int)) then 0 else 1) → lv_has ls 11 [(0, .ref (B 0)), (1, .int (iv (what))), (2, .int (iv (M 6 0))), (3, .int (iv (best))), (4, .int (iv (most))), (5, .int (iv (v))), (6, .int (iv (n))), (7, .int (iv (k))), (8, .int (iv (is))), (9, .int (iv (pullV (rv M_8) (0 : Int) (0 : Int) (M 20 k) (M 21 k) (1 : Int)))), (10, .int (iv (q)))] → W p l e (rmk 2 0 0) s m args below meth c H locs 0 0 Q (F0 m 133 ls [.int (iv (v_32))]) := by
                intro v_32 ls ev_32 hl
                refine lv_istore (lv' := [(8, .int (iv (v_32))), (0, .ref (B 0)), (1, .int (iv (what))), (2, .int (iv (M 6 0))), (3, .int (iv (best))), (4, .int (iv (most))), (5, .int (iv (v))), (6, .int (iv (n))), (7, .int (iv (k))), (9, .int (iv (pullV (rv M_8) (0 : Int) (0 : Int) (M 20 k) (M 21 k) (1 : Int)))), (10, .int (iv (q)))]) hx hb dX6_fits_133 hl (by decide) rfl (fun ls hl => ?_)
                refine lv_iinc (v := iv (q + 1)) (lv' := [(10, .int (iv (q + 1))), (8, .int (iv (v_32))), (0, .ref (B 0)), (1, .int (iv (what))), (2, .int (iv (M 6 0))), (3, .int (iv (best))), (4, .int (iv (most))), (5, .int (iv (v))), (6, .int (iv (n))), (7, .int (iv (k))), (9, .int (iv (pullV (rv M_8) (0 : Int) (0 : Int) (M 20 k) (M 21 k) (1 : Int))))]) hx hb dX6_fits_135 hl (k := 10) rfl (iv_add _ _) (by decide) rfl (fun ls hl => ?_)
                refine lv_goto (tgt := 96) hx hb dX6_fits_138 (by decide) ?_
                exact ih_96 v_32 (q + 1) (by omega) (by omega) (by omega) (by rw [eyesV_s _ _ _ i0, ← i2]; subst_vars; rfl) (by omega) ls (lv_sub hl [2, 3, 4, 5, 6, 7, 8, 9, 1, 10, 0] rfl)
              refine r_if_eq (tgt := 132) hx hb dX6_fits_104 (by decide) (by omega) (fun c_31 => ?_) (fun c_31 => ?_)
              · refine r_iconst hx hb dX6_fits_132 ?_
                exact J_34 0 ls (by rw [if_pos c_31]) (lv_sub hl [0, 1, 2, 3, 4, 5, 6, 7, 8, 9, 10] rfl)
              refine lv_aload_n hx hb dX6_fits_107 rfl (lv_at hl 0 rfl) ?_
              refine r_iconst hx hb dX6_fits_108 ?_
              refine r_iconst hx hb dX6_fits_109 ?_
              refine lv_aload_n hx hb dX6_fits_110 rfl (lv_at hl 0 rfl) ?_
              refine mg_20 hx hb hts hown hK hP dX6_fits_111 ?_
              refine lv_iload hx hb dX6_fits_114 (lv_at hl 7 rfl) ?_
              refine m_ald hx hb hK hP 20 (n := 24) rfl (by decide) (by omega) dX6_fits_116 ?_
              refine r_top (congrFun (((show M_8 20 = Mw 20 from by rw [eM_8]; exact upd2_k (by decide))).trans (show Mw 20 = M 20 from (ex6 h2) 20 (by decide))) _) ?_
              have b_36 := iM_20 (M := M) hI (k)
              refine lv_iload hx hb dX6_fits_117 (lv_at hl 10 rfl) ?_
              refine r_iconst hx hb dX6_fits_119 ?_
              refine m_cR ⟨hx, hb, hml, hown, hts⟩ (m_pullOn hIM_8 (kind := 0) (doubt := 0) (beat := M 20 k) (place := q) (k := 1) (by decide) (by decide) (by omega) (by omega) (by decide)) (cwV 5 hts (lw_V q1227 q1229 qs39 q60 q1230) rfl rfl rfl hdV_X6_pullOn ⟨Nat.le_of_ble_eq_true rfl, Nat.le_of_ble_eq_true rfl⟩) hK hP rfl hl.1 rfl (Nat.le_of_ble_eq_true rfl) ⟨Nat.le_of_ble_eq_true rfl, Nat.le_of_ble_eq_true rfl⟩ dX6_fits_120 ?_
              have f_37 := @pullV_r (rv M_8) (RB_rv hIM_8) (0 : Int) (0 : Int) (M 20 k) q (1 : Int) (by omega) (by omega)
              refine lv_iload hx hb dX6_fits_123 (lv_at hl 9 rfl) ?_
              refine r_icmp_gt (tgt := 132) hx hb dX6_fits_125 (by decide) (by omega) (by omega) (fun c_38 => ?_) (fun c_38 => ?_)
              · refine r_iconst hx hb dX6_fits_132 ?_
                exact J_34 0 ls (by rw [if_neg c_31]; rw [if_pos c_38]) (lv_sub hl [0, 1, 2, 3, 4, 5, 6, 7, 8, 9, 10] rfl)
              refine r_iconst hx hb dX6_fits_128 ?_
              refine lv_goto (tgt := 133) hx hb dX6_fits_129 (by decide) ?_
              exact J_34 1 ls (by rw [if_neg c_31]; rw [if_neg c_38]) (lv_sub hl [0, 1, 2, 3, 4, 5, 6, 7, 8, 9, 10] rfl)
          exact lp_96 (4 - 0 + 1 : Int).toNat 1 0 (by omega) (by omega) (by omega) (eyesV_0 _ _ _) (by omega) ls (lv_sub hl [3, 4, 5, 6, 7, 8, 9, 10, 2, 1, 0] rfl)
      exact lp_58 (M 19 0 - 0 + 1 : Int).toNat 0 0 (by omega) (by omega) (by omega) (fitN_0 _ _ _) (by omega) ls (lv_sub hl [2, 3, 4, 5, 6, 7, 1, 0] rfl)
  exact lp_37 (10 - 0 + 1 : Int).toNat 0 (-1) 0 M s.heap [] (by omega) (by omega) (by omega) (upd2_id _ _ _) (fitW_0 _ _ _ _) (by omega) (by omega) hI hP hD hS ls (lv_sub hl [4, 5, 3, 2, 1, 0] rfl)
