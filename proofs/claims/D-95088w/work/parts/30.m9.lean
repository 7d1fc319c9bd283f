set_option maxRecDepth 100000
set_option maxHeartbeats 4000000 in
set_option maxRecDepth 100000 in
theorem m_type {l : Launch} {D : va_G} {cI : ClassId} {B : Nat → Nat} {A : Nat → Prop} {M : St} (hI : InvM M) {w : Int} {n : Int} (g_n : -2147483648 ≤ n ∧ n ≤ 2147483647) : Met l yX6_type (ws_ yX6_type cX6_type 5 (some .int)) (rmk 2 0 0) (va_Pc [.ref (B 0), .long (jv w), .int (iv n)] (mUS D cI A (mW cI B M))) (va_Qi (fun r M1 => r = iv (tyR (M 10 0) w n) ∧ M1 = tyM M w n ∧ InvM M1) (mB D cI B A) A) 0 0 A := by
  refine r_met (by decide) _ rfl (Nat.le_of_ble_eq_true rfl) ?_
  intro p e s m args below meth c Q ls hx hb hr hlk hml hown hts hpre hQ hl
  obtain ⟨hP, hD, hK⟩ := hpre
  have hS : va_S A s.heap s.heap [] := va_S.rf
  have hown : s.vm.findClass RX6 = some m.cls := hown
  have hl : lv_has ls 5 [(0, .ref (B 0)), (1, .long (jv (w))), (3, .int (iv (n)))] := hl
  have b10 := iM_10 hI 0
  refine lv_iload_n hx hb dX6_type_0 rfl (lv_at hl 2 rfl) ?_
  refine r_i2l hx hb (by omega) dX6_type_1 ?_
  refine r_lconst hx hb 1 (by decide) dX6_type_2 ?_
  refine r_ldc2 hx hb (8) (by decide) hown (hts _ q1172) dX6_type_3 ?_
  refine s_cR ⟨hx, hb, hml, hown, hts⟩ (m_in (v := n) (low := 1) (high := 8) (by omega) (by decide) (by decide)) (va_cwS 3 hts (lw_S q1111 q1112 q60 q1113) rfl rfl rfl hdS_X6_in ⟨Nat.le_of_ble_eq_true rfl, Nat.le_of_ble_eq_true rfl⟩) rfl hl.1 rfl (Nat.le_of_ble_eq_true rfl) ⟨Nat.le_of_ble_eq_true rfl, Nat.le_of_ble_eq_true rfl⟩ dX6_type_6 ?_
  refine r_ifz_ne (tgt := 14) hx hb dX6_type_9 (by decide) (fun c_1 => ?_) (fun c_1 => ?_)
  rotate_left
  · refine r_iconst hx hb dX6_type_12 ?_
    exact r_iretS hx hb hr hlk hQ M ⟨congrArg iv (by unfold tyR; exact (if_neg (by omega)).symm), (by unfold tyM; exact (if_neg (by omega)).symm), hI⟩ (fun t ht _ => ⟨by rw [ht]; exact hP, hD⟩) hS dX6_type_13
  refine r_iconst hx hb dX6_type_14 ?_
  refine lv_istore (lv' := [(4, .int (iv (0))), (0, .ref (B 0)), (1, .long (jv (w))), (3, .int (iv (n)))]) hx hb dX6_type_15 hl (by decide) rfl (fun ls hl => ?_)
  have lp_17 : ∀ (n_17 : Nat) (k : Int), n - k < (n_17 : Int) → (0 ≤ k) → (k ≤ n) → (∀ j, 0 ≤ j → j < k → 32 ≤ byV w j ∧ byV w j ≤ 126) → ∀ (ls : Array Slot), lv_has ls 5 [(0, .ref (B 0)), (1, .long (jv (w))), (3, .int (iv (n))), (4, .int (iv (k)))] → W p l e (rmk 2 0 0) s m args below meth c s.heap [] 0 0 Q (F0 m 17 ls []) := by
    intro n_17
    induction n_17 with
    | zero =>
      intro k hn_17 h0 h1 h2 ls hl
      exfalso
      omega
    | succ n_17 ih_17 =>
      intro k hn_17 h0 h1 h2 ls hl
      refine lv_iload hx hb dX6_type_17 (lv_at hl 3 rfl) ?_
      refine lv_iload_n hx hb dX6_type_19 rfl (lv_at hl 2 rfl) ?_
      refine r_icmp_ge (tgt := 54) hx hb dX6_type_20 (by decide) (by omega) (by omega) (fun c_2 => ?_) (fun c_2 => ?_)
      rotate_left
      · refine lv_lload_n hx hb dX6_type_23 rfl (lv_at hl 1 rfl) ?_
        refine r_bipush hx hb (by decide) dX6_type_24 ?_
        refine lv_iload hx hb dX6_type_26 (lv_at hl 3 rfl) ?_
        refine r_imul hx hb dX6_type_28 ?_
        refine lv_lshr (v := shW w k) hx hb dX6_type_29 rfl ?_
        refine r_ldc2 hx hb (255) (by decide) hown (hts _ q1173) dX6_type_30 ?_
        refine lv_land hx hb dX6_type_33 ?_
        refine r_topl (byV_jv w k) ?_
        have f_13 := byV_r w k
        refine r_ldc2 hx hb (32) (by decide) hown (hts _ q1174) dX6_type_34 ?_
        refine r_ldc2 hx hb (126) (by decide) hown (hts _ q1175) dX6_type_37 ?_
        refine s_cR ⟨hx, hb, hml, hown, hts⟩ (m_in (v := byV w k) (low := 32) (high := 126) (by omega) (by decide) (by decide)) (va_cwS 3 hts (lw_S q1111 q1112 q60 q1113) rfl rfl rfl hdS_X6_in ⟨Nat.le_of_ble_eq_true rfl, Nat.le_of_ble_eq_true rfl⟩) rfl hl.1 rfl (Nat.le_of_ble_eq_true rfl) ⟨Nat.le_of_ble_eq_true rfl, Nat.le_of_ble_eq_true rfl⟩ dX6_type_40 ?_
        refine r_ifz_ne (tgt := 48) hx hb dX6_type_43 (by decide) (fun c_14 => ?_) (fun c_14 => ?_)
        · refine lv_iinc (v := iv (k + 1)) (lv' := [(4, .int (iv (k + 1))), (0, .ref (B 0)), (1, .long (jv (w))), (3, .int (iv (n)))]) hx hb dX6_type_48 hl (k := 3) rfl (iv_add _ _) (by decide) rfl (fun ls hl => ?_)
          refine lv_goto (tgt := 17) hx hb dX6_type_51 (by decide) ?_
          exact ih_17 (k + 1) (by omega) (by omega) (by omega) (fun j q1 q2 => (by rcases (show j < k ∨ j = k by omega) with q | q; exact h2 j q1 q; subst q; constructor <;> omega)) ls (lv_sub hl [1, 2, 3, 0] rfl)
        have hbad : ¬ tyOK w n := fun h => (by have := h k (by omega) (by omega); omega)
        refine r_iconst hx hb dX6_type_46 ?_
        exact r_iretS hx hb hr hlk hQ M ⟨congrArg iv (by unfold tyR; rw [if_pos (by omega), tyIf_neg hbad]), (by unfold tyM; rw [if_pos (by omega), tyIf_neg hbad]), hI⟩ (fun t ht _ => ⟨by rw [ht]; exact hP, hD⟩) hS dX6_type_47
      have ekn : k = n := by omega
      have hok : tyOK w n := fun j q1 q2 => h2 j q1 (by omega)
      refine lv_aload_n hx hb dX6_type_54 rfl (lv_at hl 0 rfl) ?_
      refine mg_10 hx hb hts hown hK hP dX6_type_55 ?_
      have b_3 := iM_10 (M := M) hI (0)
      refine lv_iload_n hx hb dX6_type_58 rfl (lv_at hl 2 rfl) ?_
      refine r_iadd hx hb dX6_type_59 ?_
      refine r_bipush hx hb (by decide) dX6_type_60 ?_
      refine r_icmp_le (tgt := 68) hx hb dX6_type_62 (by decide) (by omega) (by omega) (fun c_4 => ?_) (fun c_4 => ?_)
      rotate_left
      · refine r_bipush hx hb (by decide) dX6_type_65 ?_
        exact r_iretS hx hb hr hlk hQ M ⟨congrArg iv (by unfold tyR; rw [if_pos (by omega), tyIf_pos hok, if_pos (by omega)]), (by unfold tyM; rw [if_pos (by omega), tyIf_pos hok, if_pos (by omega)]), hI⟩ (fun t ht _ => ⟨by rw [ht]; exact hP, hD⟩) hS dX6_type_67
      refine lv_iload_n hx hb dX6_type_68 rfl (lv_at hl 2 rfl) ?_
      refine r_iconst hx hb dX6_type_69 ?_
      refine r_isub hx hb dX6_type_70 ?_
      refine lv_istore (lv' := [(4, .int (iv (n - 1))), (0, .ref (B 0)), (1, .long (jv (w))), (3, .int (iv (n)))]) hx hb dX6_type_71 hl (by decide) rfl (fun ls hl => ?_)
      have lp_73 : ∀ (n_73 : Nat) (k2 : Int) (Mw : St) (H : Heap) (locs : List Loc), k2 + 1 < (n_73 : Int) → (-1 ≤ k2) → (k2 ≤ n - 1) → (Mw = tyM' M w n (n - 1 - k2)) → (Mw 10 0 = M 10 0 + (n - 1 - k2)) → InvM Mw → wP D vwCl (mW cI B Mw) H → wD A (mW cI B Mw) → va_S A s.heap H locs → ∀ (ls : Array Slot), lv_has ls 5 [(0, .ref (B 0)), (1, .long (jv (w))), (3, .int (iv (n))), (4, .int (iv (k2)))] → W p l e (rmk 2 0 0) s m args below meth c H locs 0 0 Q (F0 m 73 ls []) := by
        intro n_73
        induction n_73 with
        | zero =>
          intro k2 Mw H locs hn_73 g0 g1 g2 g3 hIMw hP hD hS ls hl
          exfalso
          omega
        | succ n_73 ih_73 =>
          intro k2 Mw H locs hn_73 g0 g1 g2 g3 hIMw hP hD hS ls hl
          refine lv_iload hx hb dX6_type_73 (lv_at hl 3 rfl) ?_
          refine r_if_lt (tgt := 115) hx hb dX6_type_75 (by decide) (by omega) (fun c_5 => ?_) (fun c_5 => ?_)
          · refine lv_aload_n hx hb dX6_type_115 rfl (lv_at hl 0 rfl) ?_
            refine mg_10 hx hb hts hown hK hP dX6_type_116 ?_
            have b_6 := iM_10 (M := Mw) hIMw (0)
            exact r_iretS hx hb hr hlk hQ Mw ⟨congrArg iv (by unfold tyR; rw [if_pos (by omega), tyIf_pos hok, if_neg (by omega)]; omega), (by unfold tyM; rw [if_pos (by omega), tyIf_pos hok, if_neg (by omega)]; have e := g2; rw [show n - 1 - k2 = n by omega] at e; exact e), hIMw⟩ (fun t ht _ => ⟨by rw [ht]; exact hP, hD⟩) hS dX6_type_119
          have hk2 := hok k2 (by omega) (by omega)
          refine lv_aload_n hx hb dX6_type_78 rfl (lv_at hl 0 rfl) ?_
          refine mg_9 hx hb hts hown hK hP dX6_type_79 ?_
          refine lv_aload_n hx hb dX6_type_82 rfl (lv_at hl 0 rfl) ?_
          refine mg_10 hx hb hts hown hK hP dX6_type_83 ?_
          have b_7 := iM_10 (M := Mw) hIMw (0)
          refine lv_lload_n hx hb dX6_type_86 rfl (lv_at hl 1 rfl) ?_
          refine r_bipush hx hb (by decide) dX6_type_87 ?_
          refine lv_iload hx hb dX6_type_89 (lv_at hl 3 rfl) ?_
          refine r_imul hx hb dX6_type_91 ?_
          refine lv_lshr (v := shW w k2) hx hb dX6_type_92 rfl ?_
          refine r_ldc2 hx hb (255) (by decide) hown (hts _ q1173) dX6_type_93 ?_
          refine lv_land hx hb dX6_type_96 ?_
          refine r_topl (byV_jv w k2) ?_
          have f_8 := byV_r w k2
          refine r_l2i hx hb dX6_type_97 ?_
          refine m_ast hx hb hK hP hD hS 9 (n := 100) rfl (by decide) (by omega) dX6_type_98 (fun M_9 eM_9 H locs hP hD hS => ?_)
          have hIM_9 : InvM M_9 := iMs_9 hIMw eM_9 (by omega)
          refine lv_aload_n hx hb dX6_type_99 rfl (lv_at hl 0 rfl) ?_
          refine lv_dup hx hb dX6_type_100 rfl ?_
          refine mg_10 hx hb hts hown hK hP dX6_type_101 ?_
          refine r_top (congrFun ((show M_9 10 = Mw 10 from by rw [eM_9]; exact upd2_k (by decide))) 0) ?_
          have b_11 := iM_10 (M := Mw) hIMw (0)
          refine r_iconst hx hb dX6_type_104 ?_
          refine r_iadd hx hb dX6_type_105 ?_
          refine mp_10 hx hb hts hown hK hP hD hS dX6_type_106 (fun M_12 eM_12 H locs hP hD hS => ?_)
          have hIM_12 : InvM M_12 := iMs_10 hIM_9 eM_12 (by omega)
          refine lv_iinc (v := iv (k2 + (-1))) (lv' := [(4, .int (iv (k2 + (-1)))), (0, .ref (B 0)), (1, .long (jv (w))), (3, .int (iv (n)))]) hx hb dX6_type_109 hl (k := 3) rfl (iv_add _ _) (by decide) rfl (fun ls hl => ?_)
          refine lv_goto (tgt := 73) hx hb dX6_type_112 (by decide) ?_
          exact ih_73 (k2 + (-1)) M_12 H locs (by omega) (by omega) (by omega) (by rw [show n - 1 - (k2 + (-1)) = (n - 1 - k2) + 1 by omega, tyM_s _ _ _ (by omega), ← g2, show n - 1 - (n - 1 - k2) = k2 by omega, eM_12, eM_9]) (by rw [eM_12, upd2_e]; omega) hIM_12 hP hD hS ls (lv_sub hl [1, 2, 3, 0] rfl)
      exact lp_73 ((n - 1) + 1 + 1 : Int).toNat (n - 1) M s.heap [] (by omega) (by omega) (by omega) (by rw [show n - 1 - (n - 1) = 0 by omega]; exact tyM_0 _ _ _) (by omega) hI hP hD hS ls (lv_sub hl [1, 2, 3, 0] rfl)
  exact lp_17 (n - 0 + 1 : Int).toNat 0 (by omega) (by omega) (by omega) (fun j q1 q2 => (by omega)) ls (lv_sub hl [1, 2, 3, 0] rfl)
set_option maxHeartbeats 4000000 in
set_option maxRecDepth 100000 in
theorem m_saves_0 {l : Launch} {D : va_G} {cI : ClassId} {B : Nat → Nat} {A : Nat → Prop} {M : St} (hI : InvM M)   : Met l yX6_saves (ws_ yX6_saves cX6_saves 4 (some .int)) (rmk 1 0 0) (va_Pc [.ref (B 1), .ref (B 23), .int (iv (0))] (mUS D cI A (mW cI B M))) (va_Qi (fun r M1 => r = iv 16 ∧ M1 = savM M 0 0 16 ∧ InvM M1) (mB D cI B A) A) 0 0 A := by
  refine r_met (by decide) _ rfl (Nat.le_of_ble_eq_true rfl) ?_
  intro p e s m args below meth c Q ls hx hb hr hlk hml hown hts hpre hQ hl
  obtain ⟨hP, hD, hK⟩ := hpre
  have hS : va_S A s.heap s.heap [] := va_S.rf
  have hown : s.vm.findClass RX6 = some m.cls := hown
  have hl : lv_has ls 4 [(0, .ref (B 1)), (1, .ref (B 23)), (2, .int (iv (0)))] := hl
  refine r_iconst hx hb dX6_saves_0 ?_
  refine lv_istore_n (lv' := [(3, .int (iv (0))), (0, .ref (B 1)), (1, .ref (B 23)), (2, .int (iv (0)))]) hx hb dX6_saves_1 rfl hl (by decide) rfl (fun ls hl => ?_)
  have lp_2 : ∀ (n_2 : Nat) (j : Int) (Mw : St) (H : Heap) (locs : List Loc), 16 - j < (n_2 : Int) → (0 ≤ j) → (j ≤ 16) → (Mw = savM M 0 0 j) → InvM Mw → wP D vwCl (mW cI B Mw) H → wD A (mW cI B Mw) → va_S A s.heap H locs → ∀ (ls : Array Slot), lv_has ls 4 [(0, .ref (B 1)), (1, .ref (B 23)), (2, .int (iv (0))), (3, .int (iv (j)))] → W p l e (rmk 1 0 0) s m args below meth c H locs 0 0 Q (F0 m 2 ls []) := by
    intro n_2
    induction n_2 with
    | zero =>
      intro j Mw H locs hn_2 h0 h1 h2 hIMw hP hD hS ls hl
      exfalso
      omega
    | succ n_2 ih_2 =>
      intro j Mw H locs hn_2 h0 h1 h2 hIMw hP hD hS ls hl
      refine lv_iload_n hx hb dX6_saves_2 rfl (lv_at hl 3 rfl) ?_
      refine lv_aload_n hx hb dX6_saves_3 rfl (lv_at hl 0 rfl) ?_
      refine m_alen hx hb hK hP 0 (n := 16) rfl (by decide) dX6_saves_4 ?_
      refine r_icmp_ge (tgt := 22) hx hb dX6_saves_5 (by decide) (by omega) (by omega) (fun c_1 => ?_) (fun c_1 => ?_)
      · refine lv_iload_n hx hb dX6_saves_22 rfl (lv_at hl 2 rfl) ?_
        refine lv_aload_n hx hb dX6_saves_23 rfl (lv_at hl 0 rfl) ?_
        refine m_alen hx hb hK hP 0 (n := 16) rfl (by decide) dX6_saves_24 ?_
        refine r_iadd hx hb dX6_saves_25 ?_
        exact r_iretS hx hb hr hlk hQ Mw ⟨rfl, by have e := h2; rw [show j = 16 by omega] at e; exact e, hIMw⟩ (fun t ht _ => ⟨by rw [ht]; exact hP, hD⟩) hS dX6_saves_26
      refine lv_aload_n hx hb dX6_saves_8 rfl (lv_at hl 1 rfl) ?_
      refine lv_iload_n hx hb dX6_saves_9 rfl (lv_at hl 2 rfl) ?_
      refine lv_iload_n hx hb dX6_saves_10 rfl (lv_at hl 3 rfl) ?_
      refine r_iadd hx hb dX6_saves_11 ?_
      refine lv_aload_n hx hb dX6_saves_12 rfl (lv_at hl 0 rfl) ?_
      refine lv_iload_n hx hb dX6_saves_13 rfl (lv_at hl 3 rfl) ?_
      refine m_ald hx hb hK hP 0 (n := 16) rfl (by decide) (by omega) dX6_saves_14 ?_
      refine r_top (congrFun ((show Mw 0 = M 0 from (show eqx [22] M Mw by rw [h2]; exact savM_22 _ _ _ _) 0 (by decide))) _) ?_
      have b_2 := iM_0 (M := M) hI (j)
      refine m_ast hx hb hK hP hD hS 22 (n := 200) rfl (by decide) (by omega) dX6_saves_15 (fun M_3 eM_3 H locs hP hD hS => ?_)
      have hIM_3 : InvM M_3 := iMs_22 hIMw eM_3 (by omega)
      refine lv_iinc (v := iv (j + 1)) (lv' := [(3, .int (iv (j + 1))), (0, .ref (B 1)), (1, .ref (B 23)), (2, .int (iv (0)))]) hx hb dX6_saves_16 hl (k := 3) rfl (iv_add _ _) (by decide) rfl (fun ls hl => ?_)
      refine lv_goto (tgt := 2) hx hb dX6_saves_19 (by decide) ?_
      exact ih_2 (j + 1) M_3 H locs (by omega) (by omega) (by omega) (by rw [eM_3, h2]; exact rowS_s M 22 0 (M 0) h0) hIM_3 hP hD hS ls (lv_sub hl [1, 2, 3, 0] rfl)
  exact lp_2 (16 - 0 + 1 : Int).toNat 0 M s.heap [] (by omega) (by omega) (by omega) (rowS_0 _ _ _ _) hI hP hD hS ls (lv_sub hl [1, 2, 3, 0] rfl)
set_option maxHeartbeats 4000000 in
set_option maxRecDepth 100000 in
theorem m_gives_0 {l : Launch} {D : va_G} {cI : ClassId} {B : Nat → Nat} {A : Nat → Prop} {M : St} (hI : InvM M)   : Met l yX6_gives (ws_ yX6_gives cX6_gives 4 (some .int)) (rmk 1 0 0) (va_Pc [.ref (B 23), .int (iv (0)), .ref (B 1)] (mUS D cI A (mW cI B M))) (va_Qi (fun r M1 => r = iv 16 ∧ M1 = givM M 0 0 16 ∧ InvM M1) (mB D cI B A) A) 0 0 A := by
  refine r_met (by decide) _ rfl (Nat.le_of_ble_eq_true rfl) ?_
  intro p e s m args below meth c Q ls hx hb hr hlk hml hown hts hpre hQ hl
  obtain ⟨hP, hD, hK⟩ := hpre
  have hS : va_S A s.heap s.heap [] := va_S.rf
  have hown : s.vm.findClass RX6 = some m.cls := hown
  have hl : lv_has ls 4 [(0, .ref (B 23)), (1, .int (iv (0))), (2, .ref (B 1))] := hl
  refine r_iconst hx hb dX6_gives_0 ?_
  refine lv_istore_n (lv' := [(3, .int (iv (0))), (0, .ref (B 23)), (1, .int (iv (0))), (2, .ref (B 1))]) hx hb dX6_gives_1 rfl hl (by decide) rfl (fun ls hl => ?_)
  have lp_2 : ∀ (n_2 : Nat) (j : Int) (Mw : St) (H : Heap) (locs : List Loc), 16 - j < (n_2 : Int) → (0 ≤ j) → (j ≤ 16) → (Mw = givM M 0 0 j) → InvM Mw → wP D vwCl (mW cI B Mw) H → wD A (mW cI B Mw) → va_S A s.heap H locs → ∀ (ls : Array Slot), lv_has ls 4 [(0, .ref (B 23)), (1, .int (iv (0))), (2, .ref (B 1)), (3, .int (iv (j)))] → W p l e (rmk 1 0 0) s m args below meth c H locs 0 0 Q (F0 m 2 ls []) := by
    intro n_2
    induction n_2 with
    | zero =>
      intro j Mw H locs hn_2 h0 h1 h2 hIMw hP hD hS ls hl
      exfalso
      omega
    | succ n_2 ih_2 =>
      intro j Mw H locs hn_2 h0 h1 h2 hIMw hP hD hS ls hl
      refine lv_iload_n hx hb dX6_gives_2 rfl (lv_at hl 3 rfl) ?_
      refine lv_aload_n hx hb dX6_gives_3 rfl (lv_at hl 2 rfl) ?_
      refine m_alen hx hb hK hP 0 (n := 16) rfl (by decide) dX6_gives_4 ?_
      refine r_icmp_ge (tgt := 22) hx hb dX6_gives_5 (by decide) (by omega) (by omega) (fun c_1 => ?_) (fun c_1 => ?_)
      · refine lv_iload_n hx hb dX6_gives_22 rfl (lv_at hl 1 rfl) ?_
        refine lv_aload_n hx hb dX6_gives_23 rfl (lv_at hl 2 rfl) ?_
        refine m_alen hx hb hK hP 0 (n := 16) rfl (by decide) dX6_gives_24 ?_
        refine r_iadd hx hb dX6_gives_25 ?_
        exact r_iretS hx hb hr hlk hQ Mw ⟨rfl, by have e := h2; rw [show j = 16 by omega] at e; exact e, hIMw⟩ (fun t ht _ => ⟨by rw [ht]; exact hP, hD⟩) hS dX6_gives_26
      refine lv_aload_n hx hb dX6_gives_8 rfl (lv_at hl 2 rfl) ?_
      refine lv_iload_n hx hb dX6_gives_9 rfl (lv_at hl 3 rfl) ?_
      refine lv_aload_n hx hb dX6_gives_10 rfl (lv_at hl 0 rfl) ?_
      refine lv_iload_n hx hb dX6_gives_11 rfl (lv_at hl 1 rfl) ?_
      refine lv_iload_n hx hb dX6_gives_12 rfl (lv_at hl 3 rfl) ?_
      refine r_iadd hx hb dX6_gives_13 ?_
      refine m_ald hx hb hK hP 22 (n := 200) rfl (by decide) (by omega) dX6_gives_14 ?_
      refine r_top (congrFun ((show Mw 22 = M 22 from (show eqx [0] M Mw by rw [h2]; exact givM_k _ _ _ _) 22 (by decide))) _) ?_
      have b_2 := iM_22b (M := M) hI (0 + j)
      refine m_ast hx hb hK hP hD hS 0 (n := 16) rfl (by decide) (by omega) dX6_gives_15 (fun M_3 eM_3 H locs hP hD hS => ?_)
      have hIM_3 : InvM M_3 := iMs_0 hIMw eM_3 (by omega)
      refine lv_iinc (v := iv (j + 1)) (lv' := [(3, .int (iv (j + 1))), (0, .ref (B 23)), (1, .int (iv (0))), (2, .ref (B 1))]) hx hb dX6_gives_16 hl (k := 3) rfl (iv_add _ _) (by decide) rfl (fun ls hl => ?_)
      refine lv_goto (tgt := 2) hx hb dX6_gives_19 (by decide) ?_
      exact ih_2 (j + 1) M_3 H locs (by omega) (by omega) (by omega) (by rw [eM_3, h2]; exact (congrArg (fun x => upd2 (givM M 0 0 j) 0 x (M 22 (0 + j))) (Int.zero_add j).symm).trans (rowS_s M 0 0 (fun i => M 22 (0 + i)) h0)) hIM_3 hP hD hS ls (lv_sub hl [1, 2, 3, 0] rfl)
  exact lp_2 (16 - 0 + 1 : Int).toNat 0 M s.heap [] (by omega) (by omega) (by omega) (rowS_0 _ _ _ _) hI hP hD hS ls (lv_sub hl [1, 2, 3, 0] rfl)
set_option maxHeartbeats 4000000 in
set_option maxRecDepth 100000 in
theorem m_saves_1 {l : Launch} {D : va_G} {cI : ClassId} {B : Nat → Nat} {A : Nat → Prop} {M : St} (hI : InvM M)   : Met l yX6_saves (ws_ yX6_saves cX6_saves 4 (some .int)) (rmk 1 0 0) (va_Pc [.ref (B 2), .ref (B 23), .int (iv (16))] (mUS D cI A (mW cI B M))) (va_Qi (fun r M1 => r = iv 32 ∧ M1 = savM M 1 16 16 ∧ InvM M1) (mB D cI B A) A) 0 0 A := by
  refine r_met (by decide) _ rfl (Nat.le_of_ble_eq_true rfl) ?_
  intro p e s m args below meth c Q ls hx hb hr hlk hml hown hts hpre hQ hl
  obtain ⟨hP, hD, hK⟩ := hpre
  have hS : va_S A s.heap s.heap [] := va_S.rf
  have hown : s.vm.findClass RX6 = some m.cls := hown
  have hl : lv_has ls 4 [(0, .ref (B 2)), (1, .ref (B 23)), (2, .int (iv (16)))] := hl
  refine r_iconst hx hb dX6_saves_0 ?_
  refine lv_istore_n (lv' := [(3, .int (iv (0))), (0, .ref (B 2)), (1, .ref (B 23)), (2, .int (iv (16)))]) hx hb dX6_saves_1 rfl hl (by decide) rfl (fun ls hl => ?_)
  have lp_2 : ∀ (n_2 : Nat) (j : Int) (Mw : St) (H : Heap) (locs : List Loc), 16 - j < (n_2 : Int) → (0 ≤ j) → (j ≤ 16) → (Mw = savM M 1 16 j) → InvM Mw → wP D vwCl (mW cI B Mw) H → wD A (mW cI B Mw) → va_S A s.heap H locs → ∀ (ls : Array Slot), lv_has ls 4 [(0, .ref (B 2)), (1, .ref (B 23)), (2, .int (iv (16))), (3, .int (iv (j)))] → W p l e (rmk 1 0 0) s m args below meth c H locs 0 0 Q (F0 m 2 ls []) := by
    intro n_2
    induction n_2 with
    | zero =>
      intro j Mw H locs hn_2 h0 h1 h2 hIMw hP hD hS ls hl
      exfalso
      omega
    | succ n_2 ih_2 =>
      intro j Mw H locs hn_2 h0 h1 h2 hIMw hP hD hS ls hl
      refine lv_iload_n hx hb dX6_saves_2 rfl (lv_at hl 3 rfl) ?_
      refine lv_aload_n hx hb dX6_saves_3 rfl (lv_at hl 0 rfl) ?_
      refine m_alen hx hb hK hP 1 (n := 16) rfl (by decide) dX6_saves_4 ?_
      refine r_icmp_ge (tgt := 22) hx hb dX6_saves_5 (by decide) (by omega) (by omega) (fun c_1 => ?_) (fun c_1 => ?_)
      · refine lv_iload_n hx hb dX6_saves_22 rfl (lv_at hl 2 rfl) ?_
        refine lv_aload_n hx hb dX6_saves_23 rfl (lv_at hl 0 rfl) ?_
        refine m_alen hx hb hK hP 1 (n := 16) rfl (by decide) dX6_saves_24 ?_
        refine r_iadd hx hb dX6_saves_25 ?_
        exact r_iretS hx hb hr hlk hQ Mw ⟨rfl, by have e := h2; rw [show j = 16 by omega] at e; exact e, hIMw⟩ (fun t ht _ => ⟨by rw [ht]; exact hP, hD⟩) hS dX6_saves_26
      refine lv_aload_n hx hb dX6_saves_8 rfl (lv_at hl 1 rfl) ?_
      refine lv_iload_n hx hb dX6_saves_9 rfl (lv_at hl 2 rfl) ?_
      refine lv_iload_n hx hb dX6_saves_10 rfl (lv_at hl 3 rfl) ?_
      refine r_iadd hx hb dX6_saves_11 ?_
      refine lv_aload_n hx hb dX6_saves_12 rfl (lv_at hl 0 rfl) ?_
      refine lv_iload_n hx hb dX6_saves_13 rfl (lv_at hl 3 rfl) ?_
      refine m_ald hx hb hK hP 1 (n := 16) rfl (by decide) (by omega) dX6_saves_14 ?_
      refine r_top (congrFun ((show Mw 1 = M 1 from (show eqx [22] M Mw by rw [h2]; exact savM_22 _ _ _ _) 1 (by decide))) _) ?_
      have b_2 := iM_1 (M := M) hI (j)
      refine m_ast hx hb hK hP hD hS 22 (n := 200) rfl (by decide) (by omega) dX6_saves_15 (fun M_3 eM_3 H locs hP hD hS => ?_)
      have hIM_3 : InvM M_3 := iMs_22 hIMw eM_3 (by omega)
      refine lv_iinc (v := iv (j + 1)) (lv' := [(3, .int (iv (j + 1))), (0, .ref (B 2)), (1, .ref (B 23)), (2, .int (iv (16)))]) hx hb dX6_saves_16 hl (k := 3) rfl (iv_add _ _) (by decide) rfl (fun ls hl => ?_)
      refine lv_goto (tgt := 2) hx hb dX6_saves_19 (by decide) ?_
      exact ih_2 (j + 1) M_3 H locs (by omega) (by omega) (by omega) (by rw [eM_3, h2]; exact rowS_s M 22 16 (M 1) h0) hIM_3 hP hD hS ls (lv_sub hl [1, 2, 3, 0] rfl)
  exact lp_2 (16 - 0 + 1 : Int).toNat 0 M s.heap [] (by omega) (by omega) (by omega) (rowS_0 _ _ _ _) hI hP hD hS ls (lv_sub hl [1, 2, 3, 0] rfl)
set_option maxHeartbeats 4000000 in
set_option maxRecDepth 100000 in
theorem m_gives_1 {l : Launch} {D : va_G} {cI : ClassId} {B : Nat → Nat} {A : Nat → Prop} {M : St} (hI : InvM M)   : Met l yX6_gives (ws_ yX6_gives cX6_gives 4 (some .int)) (rmk 1 0 0) (va_Pc [.ref (B 23), .int (iv (16)), .ref (B 2)] (mUS D cI A (mW cI B M))) (va_Qi (fun r M1 => r = iv 32 ∧ M1 = givM M 1 16 16 ∧ InvM M1) (mB D cI B A) A) 0 0 A := by
  refine r_met (by decide) _ rfl (Nat.le_of_ble_eq_true rfl) ?_
  intro p e s m args below meth c Q ls hx hb hr hlk hml hown hts hpre hQ hl
  obtain ⟨hP, hD, hK⟩ := hpre
  have hS : va_S A s.heap s.heap [] := va_S.rf
  have hown : s.vm.findClass RX6 = some m.cls := hown
  have hl : lv_has ls 4 [(0, .ref (B 23)), (1, .int (iv (16))), (2, .ref (B 2))] := hl
  refine r_iconst hx hb dX6_gives_0 ?_
  refine lv_istore_n (lv' := [(3, .int (iv (0))), (0, .ref (B 23)), (1, .int (iv (16))), (2, .ref (B 2))]) hx hb dX6_gives_1 rfl hl (by decide) rfl (fun ls hl => ?_)
  have lp_2 : ∀ (n_2 : Nat) (j : Int) (Mw : St) (H : Heap) (locs : List Loc), 16 - j < (n_2 : Int) → (0 ≤ j) → (j ≤ 16) → (Mw = givM M 1 16 j) → InvM Mw → wP D vwCl (mW cI B Mw) H → wD A (mW cI B Mw) → va_S A s.heap H locs → ∀ (ls : Array Slot), lv_has ls 4 [(0, .ref (B 23)), (1, .int (iv (16))), (2, .ref (B 2)), (3, .int (iv (j)))] → W p l e (rmk 1 0 0) s m args below meth c H locs 0 0 Q (F0 m 2 ls []) := by
    intro n_2
    induction n_2 with
    | zero =>
      intro j Mw H locs hn_2 h0 h1 h2 hIMw hP hD hS ls hl
      exfalso
      omega
    | succ n_2 ih_2 =>
      intro j Mw H locs hn_2 h0 h1 h2 hIMw hP hD hS ls hl
      refine lv_iload_n hx hb dX6_gives_2 rfl (lv_at hl 3 rfl) ?_
      refine lv_aload_n hx hb dX6_gives_3 rfl (lv_at hl 2 rfl) ?_
      refine m_alen hx hb hK hP 1 (n := 16) rfl (by decide) dX6_gives_4 ?_
      refine r_icmp_ge (tgt := 22) hx hb dX6_gives_5 (by decide) (by omega) (by omega) (fun c_1 => ?_) (fun c_1 => ?_)
      · refine lv_iload_n hx hb dX6_gives_22 rfl (lv_at hl 1 rfl) ?_
        refine lv_aload_n hx hb dX6_gives_23 rfl (lv_at hl 2 rfl) ?_
        refine m_alen hx hb hK hP 1 (n := 16) rfl (by decide) dX6_gives_24 ?_
        refine r_iadd hx hb dX6_gives_25 ?_
        exact r_iretS hx hb hr hlk hQ Mw ⟨rfl, by have e := h2; rw [show j = 16 by omega] at e; exact e, hIMw⟩ (fun t ht _ => ⟨by rw [ht]; exact hP, hD⟩) hS dX6_gives_26
      refine lv_aload_n hx hb dX6_gives_8 rfl (lv_at hl 2 rfl) ?_
      refine lv_iload_n hx hb dX6_gives_9 rfl (lv_at hl 3 rfl) ?_
      refine lv_aload_n hx hb dX6_gives_10 rfl (lv_at hl 0 rfl) ?_
      refine lv_iload_n hx hb dX6_gives_11 rfl (lv_at hl 1 rfl) ?_
      refine lv_iload_n hx hb dX6_gives_12 rfl (lv_at hl 3 rfl) ?_
      refine r_iadd hx hb dX6_gives_13 ?_
      refine m_ald hx hb hK hP 22 (n := 200) rfl (by decide) (by omega) dX6_gives_14 ?_
      refine r_top (congrFun ((show Mw 22 = M 22 from (show eqx [1] M Mw by rw [h2]; exact givM_k _ _ _ _) 22 (by decide))) _) ?_
      have b_2 := iM_22b (M := M) hI (16 + j)
      refine m_ast hx hb hK hP hD hS 1 (n := 16) rfl (by decide) (by omega) dX6_gives_15 (fun M_3 eM_3 H locs hP hD hS => ?_)
      have hIM_3 : InvM M_3 := iMs_1 hIMw eM_3 (by omega)
      refine lv_iinc (v := iv (j + 1)) (lv' := [(3, .int (iv (j + 1))), (0, .ref (B 23)), (1, .int (iv (16))), (2, .ref (B 2))]) hx hb dX6_gives_16 hl (k := 3) rfl (iv_add _ _) (by decide) rfl (fun ls hl => ?_)
      refine lv_goto (tgt := 2) hx hb dX6_gives_19 (by decide) ?_
      exact ih_2 (j + 1) M_3 H locs (by omega) (by omega) (by omega) (by rw [eM_3, h2]; exact (congrArg (fun x => upd2 (givM M 1 16 j) 1 x (M 22 (16 + j))) (Int.zero_add j).symm).trans (rowS_s M 1 0 (fun i => M 22 (16 + i)) h0)) hIM_3 hP hD hS ls (lv_sub hl [1, 2, 3, 0] rfl)
  exact lp_2 (16 - 0 + 1 : Int).toNat 0 M s.heap [] (by omega) (by omega) (by omega) (rowS_0 _ _ _ _) hI hP hD hS ls (lv_sub hl [1, 2, 3, 0] rfl)
set_option maxHeartbeats 4000000 in
set_option maxRecDepth 100000 in
theorem m_saves_2 {l : Launch} {D : va_G} {cI : ClassId} {B : Nat → Nat} {A : Nat → Prop} {M : St} (hI : InvM M)   : Met l yX6_saves (ws_ yX6_saves cX6_saves 4 (some .int)) (rmk 1 0 0) (va_Pc [.ref (B 3), .ref (B 23), .int (iv (32))] (mUS D cI A (mW cI B M))) (va_Qi (fun r M1 => r = iv 48 ∧ M1 = savM M 2 32 16 ∧ InvM M1) (mB D cI B A) A) 0 0 A := by
  refine r_met (by decide) _ rfl (Nat.le_of_ble_eq_true rfl) ?_
  intro p e s m args below meth c Q ls hx hb hr hlk hml hown hts hpre hQ hl
  obtain ⟨hP, hD, hK⟩ := hpre
  have hS : va_S A s.heap s.heap [] := va_S.rf
  have hown : s.vm.findClass RX6 = some m.cls := hown
  have hl : lv_has ls 4 [(0, .ref (B 3)), (1, .ref (B 23)), (2, .int (iv (32)))] := hl
  refine r_iconst hx hb dX6_saves_0 ?_
  refine lv_istore_n (lv' := [(3, .int (iv (0))), (0, .ref (B 3)), (1, .ref (B 23)), (2, .int (iv (32)))]) hx hb dX6_saves_1 rfl hl (by decide) rfl (fun ls hl => ?_)
  have lp_2 : ∀ (n_2 : Nat) (j : Int) (Mw : St) (H : Heap) (locs : List Loc), 16 - j < (n_2 : Int) → (0 ≤ j) → (j ≤ 16) → (Mw = savM M 2 32 j) → InvM Mw → wP D vwCl (mW cI B Mw) H → wD A (mW cI B Mw) → va_S A s.heap H locs → ∀ (ls : Array Slot), lv_has ls 4 [(0, .ref (B 3)), (1, .ref (B 23)), (2, .int (iv (32))), (3, .int (iv (j)))] → W p l e (rmk 1 0 0) s m args below meth c H locs 0 0 Q (F0 m 2 ls []) := by
    intro n_2
    induction n_2 with
    | zero =>
      intro j Mw H locs hn_2 h0 h1 h2 hIMw hP hD hS ls hl
      exfalso
      omega
    | succ n_2 ih_2 =>
      intro j Mw H locs hn_2 h0 h1 h2 hIMw hP hD hS ls hl
      refine lv_iload_n hx hb dX6_saves_2 rfl (lv_at hl 3 rfl) ?_
      refine lv_aload_n hx hb dX6_saves_3 rfl (lv_at hl 0 rfl) ?_
      refine m_alen hx hb hK hP 2 (n := 16) rfl (by decide) dX6_saves_4 ?_
      refine r_icmp_ge (tgt := 22) hx hb dX6_saves_5 (by decide) (by omega) (by omega) (fun c_1 => ?_) (fun c_1 => ?_)
      · refine lv_iload_n hx hb dX6_saves_22 rfl (lv_at hl 2 rfl) ?_
        refine lv_aload_n hx hb dX6_saves_23 rfl (lv_at hl 0 rfl) ?_
        refine m_alen hx hb hK hP 2 (n := 16) rfl (by decide) dX6_saves_24 ?_
        refine r_iadd hx hb dX6_saves_25 ?_
        exact r_iretS hx hb hr hlk hQ Mw ⟨rfl, by have e := h2; rw [show j = 16 by omega] at e; exact e, hIMw⟩ (fun t ht _ => ⟨by rw [ht]; exact hP, hD⟩) hS dX6_saves_26
      refine lv_aload_n hx hb dX6_saves_8 rfl (lv_at hl 1 rfl) ?_
      refine lv_iload_n hx hb dX6_saves_9 rfl (lv_at hl 2 rfl) ?_
      refine lv_iload_n hx hb dX6_saves_10 rfl (lv_at hl 3 rfl) ?_
      refine r_iadd hx hb dX6_saves_11 ?_
      refine lv_aload_n hx hb dX6_saves_12 rfl (lv_at hl 0 rfl) ?_
      refine lv_iload_n hx hb dX6_saves_13 rfl (lv_at hl 3 rfl) ?_
      refine m_ald hx hb hK hP 2 (n := 16) rfl (by decide) (by omega) dX6_saves_14 ?_
      refine r_top (congrFun ((show Mw 2 = M 2 from (show eqx [22] M Mw by rw [h2]; exact savM_22 _ _ _ _) 2 (by decide))) _) ?_
      have b_2 := iM_2 (M := M) hI (j)
      refine m_ast hx hb hK hP hD hS 22 (n := 200) rfl (by decide) (by omega) dX6_saves_15 (fun M_3 eM_3 H locs hP hD hS => ?_)
      have hIM_3 : InvM M_3 := iMs_22 hIMw eM_3 (by omega)
      refine lv_iinc (v := iv (j + 1)) (lv' := [(3, .int (iv (j + 1))), (0, .ref (B 3)), (1, .ref (B 23)), (2, .int (iv (32)))]) hx hb dX6_saves_16 hl (k := 3) rfl (iv_add _ _) (by decide) rfl (fun ls hl => ?_)
      refine lv_goto (tgt := 2) hx hb dX6_saves_19 (by decide) ?_
      exact ih_2 (j + 1) M_3 H locs (by omega) (by omega) (by omega) (by rw [eM_3, h2]; exact rowS_s M 22 32 (M 2) h0) hIM_3 hP hD hS ls (lv_sub hl [1, 2, 3, 0] rfl)
  exact lp_2 (16 - 0 + 1 : Int).toNat 0 M s.heap [] (by omega) (by omega) (by omega) (rowS_0 _ _ _ _) hI hP hD hS ls (lv_sub hl [1, 2, 3, 0] rfl)
set_option maxHeartbeats 4000000 in
set_option maxRecDepth 100000 in
theorem m_gives_2 {l : Launch} {D : va_G} {cI : ClassId} {B : Nat → Nat} {A : Nat → Prop} {M : St} (hI : InvM M)   : Met l yX6_gives (ws_ yX6_gives cX6_gives 4 (some .int)) (rmk 1 0 0) (va_Pc [.ref (B 23), .int (iv (32)), .ref (B 3)] (mUS D cI A (mW cI B M))) (va_Qi (fun r M1 => r = iv 48 ∧ M1 = givM M 2 32 16 ∧ InvM M1) (mB D cI B A) A) 0 0 A := by
  refine r_met (by decide) _ rfl (Nat.le_of_ble_eq_true rfl) ?_
  intro p e s m args below meth c Q ls hx hb hr hlk hml hown hts hpre hQ hl
  obtain ⟨hP, hD, hK⟩ := hpre
  have hS : va_S A s.heap s.heap [] := va_S.rf
  have hown : s.vm.findClass RX6 = some m.cls := hown
  have hl : lv_has ls 4 [(0, .ref (B 23)), (1, .int (iv (32))), (2, .ref (B 3))] := hl
  refine r_iconst hx hb dX6_gives_0 ?_
  refine lv_istore_n (lv' := [(3, .int (iv (0))), (0, .ref (B 23)), (1, .int (iv (32))), (2, .ref (B 3))]) hx hb dX6_gives_1 rfl hl (by decide) rfl (fun ls hl => ?_)
  have lp_2 : ∀ (n_2 : Nat) (j : Int) (Mw : St) (H : Heap) (locs : List Loc), 16 - j < (n_2 : Int) → (0 ≤ j) → (j ≤ 16) → (Mw = givM M 2 32 j) → InvM Mw → wP D vwCl (mW cI B Mw) H → wD A (mW cI B Mw) → va_S A s.heap H locs → ∀ (ls : Array Slot), lv_has ls 4 [(0, .ref (B 23)), (1, .int (iv (32))), (2, .ref (B 3)), (3, .int (iv (j)))] → W p l e (rmk 1 0 0) s m args below meth c H locs 0 0 Q (F0 m 2 ls []) := by
    intro n_2
    induction n_2 with
    | zero =>
      intro j Mw H locs hn_2 h0 h1 h2 hIMw hP hD hS ls hl
      exfalso
      omega
    | succ n_2 ih_2 =>
      intro j Mw H locs hn_2 h0 h1 h2 hIMw hP hD hS ls hl
      refine lv_iload_n hx hb dX6_gives_2 rfl (lv_at hl 3 rfl) ?_
      refine lv_aload_n hx hb dX6_gives_3 rfl (lv_at hl 2 rfl) ?_
      refine m_alen hx hb hK hP 2 (n := 16) rfl (by decide) dX6_gives_4 ?_
      refine r_icmp_ge (tgt := 22) hx hb dX6_gives_5 (by decide) (by omega) (by omega) (fun c_1 => ?_) (fun c_1 => ?_)
      · refine lv_iload_n hx hb dX6_gives_22 rfl (lv_at hl 1 rfl) ?_
        refine lv_aload_n hx hb dX6_gives_23 rfl (lv_at hl 2 rfl) ?_
        refine m_alen hx hb hK hP 2 (n := 16) rfl (by decide) dX6_gives_24 ?_
        refine r_iadd hx hb dX6_gives_25 ?_
        exact r_iretS hx hb hr hlk hQ Mw ⟨rfl, by have e := h2; rw [show j = 16 by omega] at e; exact e, hIMw⟩ (fun t ht _ => ⟨by rw [ht]; exact hP, hD⟩) hS dX6_gives_26
      refine lv_aload_n hx hb dX6_gives_8 rfl (lv_at hl 2 rfl) ?_
      refine lv_iload_n hx hb dX6_gives_9 rfl (lv_at hl 3 rfl) ?_
      refine lv_aload_n hx hb dX6_gives_10 rfl (lv_at hl 0 rfl) ?_
      refine lv_iload_n hx hb dX6_gives_11 rfl (lv_at hl 1 rfl) ?_
      refine lv_iload_n hx hb dX6_gives_12 rfl (lv_at hl 3 rfl) ?_
      refine r_iadd hx hb dX6_gives_13 ?_
      refine m_ald hx hb hK hP 22 (n := 200) rfl (by decide) (by omega) dX6_gives_14 ?_
      refine r_top (congrFun ((show Mw 22 = M 22 from (show eqx [2] M Mw by rw [h2]; exact givM_k _ _ _ _) 22 (by decide))) _) ?_
      have b_2 := iM_22b (M := M) hI (32 + j)
      refine m_ast hx hb hK hP hD hS 2 (n := 16) rfl (by decide) (by omega) dX6_gives_15 (fun M_3 eM_3 H locs hP hD hS => ?_)
      have hIM_3 : InvM M_3 := iMs_2 hIMw eM_3 (by omega)
      refine lv_iinc (v := iv (j + 1)) (lv' := [(3, .int (iv (j + 1))), (0, .ref (B 23)), (1, .int (iv (32))), (2, .ref (B 3))]) hx hb dX6_gives_16 hl (k := 3) rfl (iv_add _ _) (by decide) rfl (fun ls hl => ?_)
      refine lv_goto (tgt := 2) hx hb dX6_gives_19 (by decide) ?_
      exact ih_2 (j + 1) M_3 H locs (by omega) (by omega) (by omega) (by rw [eM_3, h2]; exact (congrArg (fun x => upd2 (givM M 2 32 j) 2 x (M 22 (32 + j))) (Int.zero_add j).symm).trans (rowS_s M 2 0 (fun i => M 22 (32 + i)) h0)) hIM_3 hP hD hS ls (lv_sub hl [1, 2, 3, 0] rfl)
  exact lp_2 (16 - 0 + 1 : Int).toNat 0 M s.heap [] (by omega) (by omega) (by omega) (rowS_0 _ _ _ _) hI hP hD hS ls (lv_sub hl [1, 2, 3, 0] rfl)
set_option maxHeartbeats 4000000 in
set_option maxRecDepth 100000 in
theorem m_saves_3 {l : Launch} {D : va_G} {cI : ClassId} {B : Nat → Nat} {A : Nat → Prop} {M : St} (hI : InvM M)   : Met l yX6_saves (ws_ yX6_saves cX6_saves 4 (some .int)) (rmk 1 0 0) (va_Pc [.ref (B 4), .ref (B 23), .int (iv (48))] (mUS D cI A (mW cI B M))) (va_Qi (fun r M1 => r = iv 64 ∧ M1 = savM M 3 48 16 ∧ InvM M1) (mB D cI B A) A) 0 0 A := by
  refine r_met (by decide) _ rfl (Nat.le_of_ble_eq_true rfl) ?_
  intro p e s m args below meth c Q ls hx hb hr hlk hml hown hts hpre hQ hl
  obtain ⟨hP, hD, hK⟩ := hpre
  have hS : va_S A s.heap s.heap [] := va_S.rf
  have hown : s.vm.findClass RX6 = some m.cls := hown
  have hl : lv_has ls 4 [(0, .ref (B 4)), (1, .ref (B 23)), (2, .int (iv (48)))] := hl
  refine r_iconst hx hb dX6_saves_0 ?_
  refine lv_istore_n (lv' := [(3, .int (iv (0))), (0, .ref (B 4)), (1, .ref (B 23)), (2, .int (iv (48)))]) hx hb dX6_saves_1 rfl hl (by decide) rfl (fun ls hl => ?_)
  have lp_2 : ∀ (n_2 : Nat) (j : Int) (Mw : St) (H : Heap) (locs : List Loc), 16 - j < (n_2 : Int) → (0 ≤ j) → (j ≤ 16) → (Mw = savM M 3 48 j) → InvM Mw → wP D vwCl (mW cI B Mw) H → wD A (mW cI B Mw) → va_S A s.heap H locs → ∀ (ls : Array Slot), lv_has ls 4 [(0, .ref (B 4)), (1, .ref (B 23)), (2, .int (iv (48))), (3, .int (iv (j)))] → W p l e (rmk 1 0 0) s m args below meth c H locs 0 0 Q (F0 m 2 ls []) := by
    intro n_2
    induction n_2 with
    | zero =>
      intro j Mw H locs hn_2 h0 h1 h2 hIMw hP hD hS ls hl
      exfalso
      omega
    | succ n_2 ih_2 =>
      intro j Mw H locs hn_2 h0 h1 h2 hIMw hP hD hS ls hl
      refine lv_iload_n hx hb dX6_saves_2 rfl (lv_at hl 3 rfl) ?_
      refine lv_aload_n hx hb dX6_saves_3 rfl (lv_at hl 0 rfl) ?_
      refine m_alen hx hb hK hP 3 (n := 16) rfl (by decide) dX6_saves_4 ?_
      refine r_icmp_ge (tgt := 22) hx hb dX6_saves_5 (by decide) (by omega) (by omega) (fun c_1 => ?_) (fun c_1 => ?_)
      · refine lv_iload_n hx hb dX6_saves_22 rfl (lv_at hl 2 rfl) ?_
        refine lv_aload_n hx hb dX6_saves_23 rfl (lv_at hl 0 rfl) ?_
        refine m_alen hx hb hK hP 3 (n := 16) rfl (by decide) dX6_saves_24 ?_
        refine r_iadd hx hb dX6_saves_25 ?_
        exact r_iretS hx hb hr hlk hQ Mw ⟨rfl, by have e := h2; rw [show j = 16 by omega] at e; exact e, hIMw⟩ (fun t ht _ => ⟨by rw [ht]; exact hP, hD⟩) hS dX6_saves_26
      refine lv_aload_n hx hb dX6_saves_8 rfl (lv_at hl 1 rfl) ?_
      refine lv_iload_n hx hb dX6_saves_9 rfl (lv_at hl 2 rfl) ?_
      refine lv_iload_n hx hb dX6_saves_10 rfl (lv_at hl 3 rfl) ?_
      refine r_iadd hx hb dX6_saves_11 ?_
      refine lv_aload_n hx hb dX6_saves_12 rfl (lv_at hl 0 rfl) ?_
      refine lv_iload_n hx hb dX6_saves_13 rfl (lv_at hl 3 rfl) ?_
      refine m_ald hx hb hK hP 3 (n := 16) rfl (by decide) (by omega) dX6_saves_14 ?_
      refine r_top (congrFun ((show Mw 3 = M 3 from (show eqx [22] M Mw by rw [h2]; exact savM_22 _ _ _ _) 3 (by decide))) _) ?_
      have b_2 := iM_3 (M := M) hI (j)
      refine m_ast hx hb hK hP hD hS 22 (n := 200) rfl (by decide) (by omega) dX6_saves_15 (fun M_3 eM_3 H locs hP hD hS => ?_)
      have hIM_3 : InvM M_3 := iMs_22 hIMw eM_3 (by omega)
      refine lv_iinc (v := iv (j + 1)) (lv' := [(3, .int (iv (j + 1))), (0, .ref (B 4)), (1, .ref (B 23)), (2, .int (iv (48)))]) hx hb dX6_saves_16 hl (k := 3) rfl (iv_add _ _) (by decide) rfl (fun ls hl => ?_)
      refine lv_goto (tgt := 2) hx hb dX6_saves_19 (by decide) ?_
      exact ih_2 (j + 1) M_3 H locs (by omega) (by omega) (by omega) (by rw [eM_3, h2]; exact rowS_s M 22 48 (M 3) h0) hIM_3 hP hD hS ls (lv_sub hl [1, 2, 3, 0] rfl)
  exact lp_2 (16 - 0 + 1 : Int).toNat 0 M s.heap [] (by omega) (by omega) (by omega) (rowS_0 _ _ _ _) hI hP hD hS ls (lv_sub hl [1, 2, 3, 0] rfl)
set_option maxHeartbeats 4000000 in
set_option maxRecDepth 100000 in
theorem m_gives_3 {l : Launch} {D : va_G} {cI : ClassId} {B : Nat → Nat} {A : Nat → Prop} {M : St} (hI : InvM M)   : Met l yX6_gives (ws_ yX6_gives cX6_gives 4 (some .int)) (rmk 1 0 0) (va_Pc [.ref (B 23), .int (iv (48)), .ref (B 4)] (mUS D cI A (mW cI B M))) (va_Qi (fun r M1 => r = iv 64 ∧ M1 = givM M 3 48 16 ∧ InvM M1) (mB D cI B A) A) 0 0 A := by
  refine r_met (by decide) _ rfl (Nat.le_of_ble_eq_true rfl) ?_
  intro p e s m args below meth c Q ls hx hb hr hlk hml hown hts hpre hQ hl
  obtain ⟨hP, hD, hK⟩ := hpre
  have hS : va_S A s.heap s.heap [] := va_S.rf
  have hown : s.vm.findClass RX6 = some m.cls := hown
  have hl : lv_has ls 4 [(0, .ref (B 23)), (1, .int (iv (48))), (2, .ref (B 4))] := hl
  refine r_iconst hx hb dX6_gives_0 ?_
  refine lv_istore_n (lv' := [(3, .int (iv (0))), (0, .ref (B 23)), (1, .int (iv (48))), (2, .ref (B 4))]) hx hb dX6_gives_1 rfl hl (by decide) rfl (fun ls hl => ?_)
  have lp_2 : ∀ (n_2 : Nat) (j : Int) (Mw : St) (H : Heap) (locs : List Loc), 16 - j < (n_2 : Int) → (0 ≤ j) → (j ≤ 16) → (Mw = givM M 3 48 j) → InvM Mw → wP D vwCl (mW cI B Mw) H → wD A (mW cI B Mw) → va_S A s.heap H locs → ∀ (ls : Array Slot), lv_has ls 4 [(0, .ref (B 23)), (1, .int (iv (48))), (2, .ref (B 4)), (3, .int (iv (j)))] → W p l e (rmk 1 0 0) s m args below meth c H locs 0 0 Q (F0 m 2 ls []) := by
    intro n_2
    induction n_2 with
    | zero =>
      intro j Mw H locs hn_2 h0 h1 h2 hIMw hP hD hS ls hl
      exfalso
      omega
    | succ n_2 ih_2 =>
      intro j Mw H locs hn_2 h0 h1 h2 hIMw hP hD hS ls hl
      refine lv_iload_n hx hb dX6_gives_2 rfl (lv_at hl 3 rfl) ?_
      refine lv_aload_n hx hb dX6_gives_3 rfl (lv_at hl 2 rfl) ?_
      refine m_alen hx hb hK hP 3 (n := 16) rfl (by decide) dX6_gives_4 ?_
      refine r_icmp_ge (tgt := 22) hx hb dX6_gives_5 (by decide) (by omega) (by omega) (fun c_1 => ?_) (fun c_1 => ?_)
      · refine lv_iload_n hx hb dX6_gives_22 rfl (lv_at hl 1 rfl) ?_
        refine lv_aload_n hx hb dX6_gives_23 rfl (lv_at hl 2 rfl) ?_
        refine m_alen hx hb hK hP 3 (n := 16) rfl (by decide) dX6_gives_24 ?_
        refine r_iadd hx hb dX6_gives_25 ?_
        exact r_iretS hx hb hr hlk hQ Mw ⟨rfl, by have e := h2; rw [show j = 16 by omega] at e; exact e, hIMw⟩ (fun t ht _ => ⟨by rw [ht]; exact hP, hD⟩) hS dX6_gives_26
      refine lv_aload_n hx hb dX6_gives_8 rfl (lv_at hl 2 rfl) ?_
      refine lv_iload_n hx hb dX6_gives_9 rfl (lv_at hl 3 rfl) ?_
      refine lv_aload_n hx hb dX6_gives_10 rfl (lv_at hl 0 rfl) ?_
      refine lv_iload_n hx hb dX6_gives_11 rfl (lv_at hl 1 rfl) ?_
      refine lv_iload_n hx hb dX6_gives_12 rfl (lv_at hl 3 rfl) ?_
      refine r_iadd hx hb dX6_gives_13 ?_
      refine m_ald hx hb hK hP 22 (n := 200) rfl (by decide) (by omega) dX6_gives_14 ?_
      refine r_top (congrFun ((show Mw 22 = M 22 from (show eqx [3] M Mw by rw [h2]; exact givM_k _ _ _ _) 22 (by decide))) _) ?_
      have b_2 := iM_22b (M := M) hI (48 + j)
      refine m_ast hx hb hK hP hD hS 3 (n := 16) rfl (by decide) (by omega) dX6_gives_15 (fun M_3 eM_3 H locs hP hD hS => ?_)
      have hIM_3 : InvM M_3 := iMs_3 hIMw eM_3 (by omega)
      refine lv_iinc (v := iv (j + 1)) (lv' := [(3, .int (iv (j + 1))), (0, .ref (B 23)), (1, .int (iv (48))), (2, .ref (B 4))]) hx hb dX6_gives_16 hl (k := 3) rfl (iv_add _ _) (by decide) rfl (fun ls hl => ?_)
      refine lv_goto (tgt := 2) hx hb dX6_gives_19 (by decide) ?_
      exact ih_2 (j + 1) M_3 H locs (by omega) (by omega) (by omega) (by rw [eM_3, h2]; exact (congrArg (fun x => upd2 (givM M 3 48 j) 3 x (M 22 (48 + j))) (Int.zero_add j).symm).trans (rowS_s M 3 0 (fun i => M 22 (48 + i)) h0)) hIM_3 hP hD hS ls (lv_sub hl [1, 2, 3, 0] rfl)
  exact lp_2 (16 - 0 + 1 : Int).toNat 0 M s.heap [] (by omega) (by omega) (by omega) (rowS_0 _ _ _ _) hI hP hD hS ls (lv_sub hl [1, 2, 3, 0] rfl)
set_option maxHeartbeats 4000000 in
set_option maxRecDepth 100000 in
theorem m_saves_4 {l : Launch} {D : va_G} {cI : ClassId} {B : Nat → Nat} {A : Nat → Prop} {M : St} (hI : InvM M)   : Met l yX6_saves (ws_ yX6_saves cX6_saves 4 (some .int)) (rmk 1 0 0) (va_Pc [.ref (B 5), .ref (B 23), .int (iv (64))] (mUS D cI A (mW cI B M))) (va_Qi (fun r M1 => r = iv 80 ∧ M1 = savM M 4 64 16 ∧ InvM M1) (mB D cI B A) A) 0 0 A := by
  refine r_met (by decide) _ rfl (Nat.le_of_ble_eq_true rfl) ?_
  intro p e s m args below meth c Q ls hx hb hr hlk hml hown hts hpre hQ hl
  obtain ⟨hP, hD, hK⟩ := hpre
  have hS : va_S A s.heap s.heap [] := va_S.rf
  have hown : s.vm.findClass RX6 = some m.cls := hown
  have hl : lv_has ls 4 [(0, .ref (B 5)), (1, .ref (B 23)), (2, .int (iv (64)))] := hl
  refine r_iconst hx hb dX6_saves_0 ?_
  refine lv_istore_n (lv' := [(3, .int (iv (0))), (0, .ref (B 5)), (1, .ref (B 23)), (2, .int (iv (64)))]) hx hb dX6_saves_1 rfl hl (by decide) rfl (fun ls hl => ?_)
  have lp_2 : ∀ (n_2 : Nat) (j : Int) (Mw : St) (H : Heap) (locs : List Loc), 16 - j < (n_2 : Int) → (0 ≤ j) → (j ≤ 16) → (Mw = savM M 4 64 j) → InvM Mw → wP D vwCl (mW cI B Mw) H → wD A (mW cI B Mw) → va_S A s.heap H locs → ∀ (ls : Array Slot), lv_has ls 4 [(0, .ref (B 5)), (1, .ref (B 23)), (2, .int (iv (64))), (3, .int (iv (j)))] → W p l e (rmk 1 0 0) s m args below meth c H locs 0 0 Q (F0 m 2 ls []) := by
    intro n_2
    induction n_2 with
    | zero =>
      intro j Mw H locs hn_2 h0 h1 h2 hIMw hP hD hS ls hl
      exfalso
      omega
    | succ n_2 ih_2 =>
      intro j Mw H locs hn_2 h0 h1 h2 hIMw hP hD hS ls hl
      refine lv_iload_n hx hb dX6_saves_2 rfl (lv_at hl 3 rfl) ?_
      refine lv_aload_n hx hb dX6_saves_3 rfl (lv_at hl 0 rfl) ?_
      refine m_alen hx hb hK hP 4 (n := 16) rfl (by decide) dX6_saves_4 ?_
      refine r_icmp_ge (tgt := 22) hx hb dX6_saves_5 (by decide) (by omega) (by omega) (fun c_1 => ?_) (fun c_1 => ?_)
      · refine lv_iload_n hx hb dX6_saves_22 rfl (lv_at hl 2 rfl) ?_
        refine lv_aload_n hx hb dX6_saves_23 rfl (lv_at hl 0 rfl) ?_
        refine m_alen hx hb hK hP 4 (n := 16) rfl (by decide) dX6_saves_24 ?_
        refine r_iadd hx hb dX6_saves_25 ?_
        exact r_iretS hx hb hr hlk hQ Mw ⟨rfl, by have e := h2; rw [show j = 16 by omega] at e; exact e, hIMw⟩ (fun t ht _ => ⟨by rw [ht]; exact hP, hD⟩) hS dX6_saves_26
      refine lv_aload_n hx hb dX6_saves_8 rfl (lv_at hl 1 rfl) ?_
      refine lv_iload_n hx hb dX6_saves_9 rfl (lv_at hl 2 rfl) ?_
      refine lv_iload_n hx hb dX6_saves_10 rfl (lv_at hl 3 rfl) ?_
      refine r_iadd hx hb dX6_saves_11 ?_
      refine lv_aload_n hx hb dX6_saves_12 rfl (lv_at hl 0 rfl) ?_
      refine lv_iload_n hx hb dX6_saves_13 rfl (lv_at hl 3 rfl) ?_
      refine m_ald hx hb hK hP 4 (n := 16) rfl (by decide) (by omega) dX6_saves_14 ?_
      refine r_top (congrFun ((show Mw 4 = M 4 from (show eqx [22] M Mw by rw [h2]; exact savM_22 _ _ _ _) 4 (by decide))) _) ?_
      have b_2 := iM_4 (M := M) hI (j)
      refine m_ast hx hb hK hP hD hS 22 (n := 200) rfl (by decide) (by omega) dX6_saves_15 (fun M_3 eM_3 H locs hP hD hS => ?_)
      have hIM_3 : InvM M_3 := iMs_22 hIMw eM_3 (by omega)
      refine lv_iinc (v := iv (j + 1)) (lv' := [(3, .int (iv (j + 1))), (0, .ref (B 5)), (1, .ref (B 23)), (2, .int (iv (64)))]) hx hb dX6_saves_16 hl (k := 3) rfl (iv_add _ _) (by decide) rfl (fun ls hl => ?_)
      refine lv_goto (tgt := 2) hx hb dX6_saves_19 (by decide) ?_
      exact ih_2 (j + 1) M_3 H locs (by omega) (by omega) (by omega) (by rw [eM_3, h2]; exact rowS_s M 22 64 (M 4) h0) hIM_3 hP hD hS ls (lv_sub hl [1, 2, 3, 0] rfl)
  exact lp_2 (16 - 0 + 1 : Int).toNat 0 M s.heap [] (by omega) (by omega) (by omega) (rowS_0 _ _ _ _) hI hP hD hS ls (lv_sub hl [1, 2, 3, 0] rfl)
set_option maxHeartbeats 4000000 in
set_option maxRecDepth 100000 in
theorem m_gives_4 {l : Launch} {D : va_G} {cI : ClassId} {B : Nat → Nat} {A : Nat → Prop} {M : St} (hI : InvM M)   : Met l yX6_gives (ws_ yX6_gives cX6_gives 4 (some .int)) (rmk 1 0 0) (va_Pc [.ref (B 23), .int (iv (64)), .ref (B 5)] (mUS D cI A (mW cI B M))) (va_Qi (fun r M1 => r = iv 80 ∧ M1 = givM M 4 64 16 ∧ InvM M1) (mB D cI B A) A) 0 0 A := by
  refine r_met (by decide) _ rfl (Nat.le_of_ble_eq_true rfl) ?_
  intro p e s m args below meth c Q ls hx hb hr hlk hml hown hts hpre hQ hl
  obtain ⟨hP, hD, hK⟩ := hpre
  have hS : va_S A s.heap s.heap [] := va_S.rf
  have hown : s.vm.findClass RX6 = some m.cls := hown
  have hl : lv_has ls 4 [(0, .ref (B 23)), (1, .int (iv (64))), (2, .ref (B 5))] := hl
  refine r_iconst hx hb dX6_gives_0 ?_
  refine lv_istore_n (lv' := [(3, .int (iv (0))), (0, .ref (B 23)), (1, .int (iv (64))), (2, .ref (B 5))]) hx hb dX6_gives_1 rfl hl (by decide) rfl (fun ls hl => ?_)
  have lp_2 : ∀ (n_2 : Nat) (j : Int) (Mw : St) (H : Heap) (locs : List Loc), 16 - j < (n_2 : Int) → (0 ≤ j) → (j ≤ 16) → (Mw = givM M 4 64 j) → InvM Mw → wP D vwCl (mW cI B Mw) H → wD A (mW cI B Mw) → va_S A s.heap H locs → ∀ (ls : Array Slot), lv_has ls 4 [(0, .ref (B 23)), (1, .int (iv (64))), (2, .ref (B 5)), (3, .int (iv (j)))] → W p l e (rmk 1 0 0) s m args below meth c H locs 0 0 Q (F0 m 2 ls []) := by
    intro n_2
    induction n_2 with
    | zero =>
      intro j Mw H locs hn_2 h0 h1 h2 hIMw hP hD hS ls hl
      exfalso
      omega
    | succ n_2 ih_2 =>
      intro j Mw H locs hn_2 h0 h1 h2 hIMw hP hD hS ls hl
      refine lv_iload_n hx hb dX6_gives_2 rfl (lv_at hl 3 rfl) ?_
      refine lv_aload_n hx hb dX6_gives_3 rfl (lv_at hl 2 rfl) ?_
      refine m_alen hx hb hK hP 4 (n := 16) rfl (by decide) dX6_gives_4 ?_
      refine r_icmp_ge (tgt := 22) hx hb dX6_gives_5 (by decide) (by omega) (by omega) (fun c_1 => ?_) (fun c_1 => ?_)
      · refine lv_iload_n hx hb dX6_gives_22 rfl (lv_at hl 1 rfl) ?_
        refine lv_aload_n hx hb dX6_gives_23 rfl (lv_at hl 2 rfl) ?_
        refine m_alen hx hb hK hP 4 (n := 16) rfl (by decide) dX6_gives_24 ?_
        refine r_iadd hx hb dX6_gives_25 ?_
        exact r_iretS hx hb hr hlk hQ Mw ⟨rfl, by have e := h2; rw [show j = 16 by omega] at e; exact e, hIMw⟩ (fun t ht _ => ⟨by rw [ht]; exact hP, hD⟩) hS dX6_gives_26
      refine lv_aload_n hx hb dX6_gives_8 rfl (lv_at hl 2 rfl) ?_
      refine lv_iload_n hx hb dX6_gives_9 rfl (lv_at hl 3 rfl) ?_
      refine lv_aload_n hx hb dX6_gives_10 rfl (lv_at hl 0 rfl) ?_
      refine lv_iload_n hx hb dX6_gives_11 rfl (lv_at hl 1 rfl) ?_
      refine lv_iload_n hx hb dX6_gives_12 rfl (lv_at hl 3 rfl) ?_
      refine r_iadd hx hb dX6_gives_13 ?_
      refine m_ald hx hb hK hP 22 (n := 200) rfl (by decide) (by omega) dX6_gives_14 ?_
      refine r_top (congrFun ((show Mw 22 = M 22 from (show eqx [4] M Mw by rw [h2]; exact givM_k _ _ _ _) 22 (by decide))) _) ?_
      have b_2 := iM_22b (M := M) hI (64 + j)
      refine m_ast hx hb hK hP hD hS 4 (n := 16) rfl (by decide) (by omega) dX6_gives_15 (fun M_3 eM_3 H locs hP hD hS => ?_)
      have hIM_3 : InvM M_3 := iMs_4 hIMw eM_3 (by omega)
      refine lv_iinc (v := iv (j + 1)) (lv' := [(3, .int (iv (j + 1))), (0, .ref (B 23)), (1, .int (iv (64))), (2, .ref (B 5))]) hx hb dX6_gives_16 hl (k := 3) rfl (iv_add _ _) (by decide) rfl (fun ls hl => ?_)
      refine lv_goto (tgt := 2) hx hb dX6_gives_19 (by decide) ?_
      exact ih_2 (j + 1) M_3 H locs (by omega) (by omega) (by omega) (by rw [eM_3, h2]; exact (congrArg (fun x => upd2 (givM M 4 64 j) 4 x (M 22 (64 + j))) (Int.zero_add j).symm).trans (rowS_s M 4 0 (fun i => M 22 (64 + i)) h0)) hIM_3 hP hD hS ls (lv_sub hl [1, 2, 3, 0] rfl)
  exact lp_2 (16 - 0 + 1 : Int).toNat 0 M s.heap [] (by omega) (by omega) (by omega) (rowS_0 _ _ _ _) hI hP hD hS ls (lv_sub hl [1, 2, 3, 0] rfl)
set_option maxHeartbeats 4000000 in
set_option maxRecDepth 100000 in
theorem m_saves_6 {l : Launch} {D : va_G} {cI : ClassId} {B : Nat → Nat} {A : Nat → Prop} {M : St} (hI : InvM M)   : Met l yX6_saves (ws_ yX6_saves cX6_saves 4 (some .int)) (rmk 1 0 0) (va_Pc [.ref (B 7), .ref (B 23), .int (iv (80))] (mUS D cI A (mW cI B M))) (va_Qi (fun r M1 => r = iv 85 ∧ M1 = savM M 6 80 5 ∧ InvM M1) (mB D cI B A) A) 0 0 A := by
  refine r_met (by decide) _ rfl (Nat.le_of_ble_eq_true rfl) ?_
  intro p e s m args below meth c Q ls hx hb hr hlk hml hown hts hpre hQ hl
  obtain ⟨hP, hD, hK⟩ := hpre
  have hS : va_S A s.heap s.heap [] := va_S.rf
  have hown : s.vm.findClass RX6 = some m.cls := hown
  have hl : lv_has ls 4 [(0, .ref (B 7)), (1, .ref (B 23)), (2, .int (iv (80)))] := hl
  refine r_iconst hx hb dX6_saves_0 ?_
  refine lv_istore_n (lv' := [(3, .int (iv (0))), (0, .ref (B 7)), (1, .ref (B 23)), (2, .int (iv (80)))]) hx hb dX6_saves_1 rfl hl (by decide) rfl (fun ls hl => ?_)
  have lp_2 : ∀ (n_2 : Nat) (j : Int) (Mw : St) (H : Heap) (locs : List Loc), 5 - j < (n_2 : Int) → (0 ≤ j) → (j ≤ 5) → (Mw = savM M 6 80 j) → InvM Mw → wP D vwCl (mW cI B Mw) H → wD A (mW cI B Mw) → va_S A s.heap H locs → ∀ (ls : Array Slot), lv_has ls 4 [(0, .ref (B 7)), (1, .ref (B 23)), (2, .int (iv (80))), (3, .int (iv (j)))] → W p l e (rmk 1 0 0) s m args below meth c H locs 0 0 Q (F0 m 2 ls []) := by
    intro n_2
    induction n_2 with
    | zero =>
      intro j Mw H locs hn_2 h0 h1 h2 hIMw hP hD hS ls hl
      exfalso
      omega
    | succ n_2 ih_2 =>
      intro j Mw H locs hn_2 h0 h1 h2 hIMw hP hD hS ls hl
      refine lv_iload_n hx hb dX6_saves_2 rfl (lv_at hl 3 rfl) ?_
      refine lv_aload_n hx hb dX6_saves_3 rfl (lv_at hl 0 rfl) ?_
      refine m_alen hx hb hK hP 6 (n := 5) rfl (by decide) dX6_saves_4 ?_
      refine r_icmp_ge (tgt := 22) hx hb dX6_saves_5 (by decide) (by omega) (by omega) (fun c_1 => ?_) (fun c_1 => ?_)
      · refine lv_iload_n hx hb dX6_saves_22 rfl (lv_at hl 2 rfl) ?_
        refine lv_aload_n hx hb dX6_saves_23 rfl (lv_at hl 0 rfl) ?_
        refine m_alen hx hb hK hP 6 (n := 5) rfl (by decide) dX6_saves_24 ?_
        refine r_iadd hx hb dX6_saves_25 ?_
        exact r_iretS hx hb hr hlk hQ Mw ⟨rfl, by have e := h2; rw [show j = 5 by omega] at e; exact e, hIMw⟩ (fun t ht _ => ⟨by rw [ht]; exact hP, hD⟩) hS dX6_saves_26
      refine lv_aload_n hx hb dX6_saves_8 rfl (lv_at hl 1 rfl) ?_
      refine lv_iload_n hx hb dX6_saves_9 rfl (lv_at hl 2 rfl) ?_
      refine lv_iload_n hx hb dX6_saves_10 rfl (lv_at hl 3 rfl) ?_
      refine r_iadd hx hb dX6_saves_11 ?_
      refine lv_aload_n hx hb dX6_saves_12 rfl (lv_at hl 0 rfl) ?_
      refine lv_iload_n hx hb dX6_saves_13 rfl (lv_at hl 3 rfl) ?_
      refine m_ald hx hb hK hP 6 (n := 5) rfl (by decide) (by omega) dX6_saves_14 ?_
      refine r_top (congrFun ((show Mw 6 = M 6 from (show eqx [22] M Mw by rw [h2]; exact savM_22 _ _ _ _) 6 (by decide))) _) ?_
      have b_2 := iM_6 (M := M) hI (j)
      refine m_ast hx hb hK hP hD hS 22 (n := 200) rfl (by decide) (by omega) dX6_saves_15 (fun M_3 eM_3 H locs hP hD hS => ?_)
      have hIM_3 : InvM M_3 := iMs_22 hIMw eM_3 (by omega)
      refine lv_iinc (v := iv (j + 1)) (lv' := [(3, .int (iv (j + 1))), (0, .ref (B 7)), (1, .ref (B 23)), (2, .int (iv (80)))]) hx hb dX6_saves_16 hl (k := 3) rfl (iv_add _ _) (by decide) rfl (fun ls hl => ?_)
      refine lv_goto (tgt := 2) hx hb dX6_saves_19 (by decide) ?_
      exact ih_2 (j + 1) M_3 H locs (by omega) (by omega) (by omega) (by rw [eM_3, h2]; exact rowS_s M 22 80 (M 6) h0) hIM_3 hP hD hS ls (lv_sub hl [1, 2, 3, 0] rfl)
  exact lp_2 (5 - 0 + 1 : Int).toNat 0 M s.heap [] (by omega) (by omega) (by omega) (rowS_0 _ _ _ _) hI hP hD hS ls (lv_sub hl [1, 2, 3, 0] rfl)
set_option maxHeartbeats 4000000 in
set_option maxRecDepth 100000 in
theorem m_gives_6 {l : Launch} {D : va_G} {cI : ClassId} {B : Nat → Nat} {A : Nat → Prop} {M : St} (hI : InvM M)   : Met l yX6_gives (ws_ yX6_gives cX6_gives 4 (some .int)) (rmk 1 0 0) (va_Pc [.ref (B 23), .int (iv (80)), .ref (B 7)] (mUS D cI A (mW cI B M))) (va_Qi (fun r M1 => r = iv 85 ∧ M1 = givM M 6 80 5 ∧ InvM M1) (mB D cI B A) A) 0 0 A := by
  refine r_met (by decide) _ rfl (Nat.le_of_ble_eq_true rfl) ?_
  intro p e s m args below meth c Q ls hx hb hr hlk hml hown hts hpre hQ hl
  obtain ⟨hP, hD, hK⟩ := hpre
  have hS : va_S A s.heap s.heap [] := va_S.rf
  have hown : s.vm.findClass RX6 = some m.cls := hown
  have hl : lv_has ls 4 [(0, .ref (B 23)), (1, .int (iv (80))), (2, .ref (B 7))] := hl
  refine r_iconst hx hb dX6_gives_0 ?_
  refine lv_istore_n (lv' := [(3, .int (iv (0))), (0, .ref (B 23)), (1, .int (iv (80))), (2, .ref (B 7))]) hx hb dX6_gives_1 rfl hl (by decide) rfl (fun ls hl => ?_)
  have lp_2 : ∀ (n_2 : Nat) (j : Int) (Mw : St) (H : Heap) (locs : List Loc), 5 - j < (n_2 : Int) → (0 ≤ j) → (j ≤ 5) → (Mw = givM M 6 80 j) → InvM Mw → wP D vwCl (mW cI B Mw) H → wD A (mW cI B Mw) → va_S A s.heap H locs → ∀ (ls : Array Slot), lv_has ls 4 [(0, .ref (B 23)), (1, .int (iv (80))), (2, .ref (B 7)), (3, .int (iv (j)))] → W p l e (rmk 1 0 0) s m args below meth c H locs 0 0 Q (F0 m 2 ls []) := by
    intro n_2
    induction n_2 with
    | zero =>
      intro j Mw H locs hn_2 h0 h1 h2 hIMw hP hD hS ls hl
      exfalso
      omega
    | succ n_2 ih_2 =>
      intro j Mw H locs hn_2 h0 h1 h2 hIMw hP hD hS ls hl
      refine lv_iload_n hx hb dX6_gives_2 rfl (lv_at hl 3 rfl) ?_
      refine lv_aload_n hx hb dX6_gives_3 rfl (lv_at hl 2 rfl) ?_
      refine m_alen hx hb hK hP 6 (n := 5) rfl (by decide) dX6_gives_4 ?_
      refine r_icmp_ge (tgt := 22) hx hb dX6_gives_5 (by decide) (by omega) (by omega) (fun c_1 => ?_) (fun c_1 => ?_)
      · refine lv_iload_n hx hb dX6_gives_22 rfl (lv_at hl 1 rfl) ?_
        refine lv_aload_n hx hb dX6_gives_23 rfl (lv_at hl 2 rfl) ?_
        refine m_alen hx hb hK hP 6 (n := 5) rfl (by decide) dX6_gives_24 ?_
        refine r_iadd hx hb dX6_gives_25 ?_
        exact r_iretS hx hb hr hlk hQ Mw ⟨rfl, by have e := h2; rw [show j = 5 by omega] at e; exact e, hIMw⟩ (fun t ht _ => ⟨by rw [ht]; exact hP, hD⟩) hS dX6_gives_26
      refine lv_aload_n hx hb dX6_gives_8 rfl (lv_at hl 2 rfl) ?_
      refine lv_iload_n hx hb dX6_gives_9 rfl (lv_at hl 3 rfl) ?_
      refine lv_aload_n hx hb dX6_gives_10 rfl (lv_at hl 0 rfl) ?_
      refine lv_iload_n hx hb dX6_gives_11 rfl (lv_at hl 1 rfl) ?_
      refine lv_iload_n hx hb dX6_gives_12 rfl (lv_at hl 3 rfl) ?_
      refine r_iadd hx hb dX6_gives_13 ?_
      refine m_ald hx hb hK hP 22 (n := 200) rfl (by decide) (by omega) dX6_gives_14 ?_
      refine r_top (congrFun ((show Mw 22 = M 22 from (show eqx [6] M Mw by rw [h2]; exact givM_k _ _ _ _) 22 (by decide))) _) ?_
      have b_2 := iM_22b (M := M) hI (80 + j)
      refine m_ast hx hb hK hP hD hS 6 (n := 5) rfl (by decide) (by omega) dX6_gives_15 (fun M_3 eM_3 H locs hP hD hS => ?_)
      have hIM_3 : InvM M_3 := iMs_6 hIMw eM_3 (by omega)
      refine lv_iinc (v := iv (j + 1)) (lv' := [(3, .int (iv (j + 1))), (0, .ref (B 23)), (1, .int (iv (80))), (2, .ref (B 7))]) hx hb dX6_gives_16 hl (k := 3) rfl (iv_add _ _) (by decide) rfl (fun ls hl => ?_)
      refine lv_goto (tgt := 2) hx hb dX6_gives_19 (by decide) ?_
      exact ih_2 (j + 1) M_3 H locs (by omega) (by omega) (by omega) (by rw [eM_3, h2]; exact (congrArg (fun x => upd2 (givM M 6 80 j) 6 x (M 22 (80 + j))) (Int.zero_add j).symm).trans (rowS_s M 6 0 (fun i => M 22 (80 + i)) h0)) hIM_3 hP hD hS ls (lv_sub hl [1, 2, 3, 0] rfl)
  exact lp_2 (5 - 0 + 1 : Int).toNat 0 M s.heap [] (by omega) (by omega) (by omega) (rowS_0 _ _ _ _) hI hP hD hS ls (lv_sub hl [1, 2, 3, 0] rfl)
set_option maxHeartbeats 4000000 in
set_option maxRecDepth 100000 in
theorem m_saves_8 {l : Launch} {D : va_G} {cI : ClassId} {B : Nat → Nat} {A : Nat → Prop} {M : St} (hI : InvM M)   : Met l yX6_saves (ws_ yX6_saves cX6_saves 4 (some .int)) (rmk 1 0 0) (va_Pc [.ref (B 9), .ref (B 23), .int (iv (85))] (mUS D cI A (mW cI B M))) (va_Qi (fun r M1 => r = iv 109 ∧ M1 = savM M 8 85 24 ∧ InvM M1) (mB D cI B A) A) 0 0 A := by
  refine r_met (by decide) _ rfl (Nat.le_of_ble_eq_true rfl) ?_
  intro p e s m args below meth c Q ls hx hb hr hlk hml hown hts hpre hQ hl
  obtain ⟨hP, hD, hK⟩ := hpre
  have hS : va_S A s.heap s.heap [] := va_S.rf
  have hown : s.vm.findClass RX6 = some m.cls := hown
  have hl : lv_has ls 4 [(0, .ref (B 9)), (1, .ref (B 23)), (2, .int (iv (85)))] := hl
  refine r_iconst hx hb dX6_saves_0 ?_
  refine lv_istore_n (lv' := [(3, .int (iv (0))), (0, .ref (B 9)), (1, .ref (B 23)), (2, .int (iv (85)))]) hx hb dX6_saves_1 rfl hl (by decide) rfl (fun ls hl => ?_)
  have lp_2 : ∀ (n_2 : Nat) (j : Int) (Mw : St) (H : Heap) (locs : List Loc), 24 - j < (n_2 : Int) → (0 ≤ j) → (j ≤ 24) → (Mw = savM M 8 85 j) → InvM Mw → wP D vwCl (mW cI B Mw) H → wD A (mW cI B Mw) → va_S A s.heap H locs → ∀ (ls : Array Slot), lv_has ls 4 [(0, .ref (B 9)), (1, .ref (B 23)), (2, .int (iv (85))), (3, .int (iv (j)))] → W p l e (rmk 1 0 0) s m args below meth c H locs 0 0 Q (F0 m 2 ls []) := by
    intro n_2
    induction n_2 with
    | zero =>
      intro j Mw H locs hn_2 h0 h1 h2 hIMw hP hD hS ls hl
      exfalso
      omega
    | succ n_2 ih_2 =>
      intro j Mw H locs hn_2 h0 h1 h2 hIMw hP hD hS ls hl
      refine lv_iload_n hx hb dX6_saves_2 rfl (lv_at hl 3 rfl) ?_
      refine lv_aload_n hx hb dX6_saves_3 rfl (lv_at hl 0 rfl) ?_
      refine m_alen hx hb hK hP 8 (n := 24) rfl (by decide) dX6_saves_4 ?_
      refine r_icmp_ge (tgt := 22) hx hb dX6_saves_5 (by decide) (by omega) (by omega) (fun c_1 => ?_) (fun c_1 => ?_)
      · refine lv_iload_n hx hb dX6_saves_22 rfl (lv_at hl 2 rfl) ?_
        refine lv_aload_n hx hb dX6_saves_23 rfl (lv_at hl 0 rfl) ?_
        refine m_alen hx hb hK hP 8 (n := 24) rfl (by decide) dX6_saves_24 ?_
        refine r_iadd hx hb dX6_saves_25 ?_
        exact r_iretS hx hb hr hlk hQ Mw ⟨rfl, by have e := h2; rw [show j = 24 by omega] at e; exact e, hIMw⟩ (fun t ht _ => ⟨by rw [ht]; exact hP, hD⟩) hS dX6_saves_26
      refine lv_aload_n hx hb dX6_saves_8 rfl (lv_at hl 1 rfl) ?_
      refine lv_iload_n hx hb dX6_saves_9 rfl (lv_at hl 2 rfl) ?_
      refine lv_iload_n hx hb dX6_saves_10 rfl (lv_at hl 3 rfl) ?_
      refine r_iadd hx hb dX6_saves_11 ?_
      refine lv_aload_n hx hb dX6_saves_12 rfl (lv_at hl 0 rfl) ?_
      refine lv_iload_n hx hb dX6_saves_13 rfl (lv_at hl 3 rfl) ?_
      refine m_ald hx hb hK hP 8 (n := 24) rfl (by decide) (by omega) dX6_saves_14 ?_
      refine r_top (congrFun ((show Mw 8 = M 8 from (show eqx [22] M Mw by rw [h2]; exact savM_22 _ _ _ _) 8 (by decide))) _) ?_
      have b_2 := iM_8 (M := M) hI (j)
      refine m_ast hx hb hK hP hD hS 22 (n := 200) rfl (by decide) (by omega) dX6_saves_15 (fun M_3 eM_3 H locs hP hD hS => ?_)
      have hIM_3 : InvM M_3 := iMs_22 hIMw eM_3 (by omega)
      refine lv_iinc (v := iv (j + 1)) (lv' := [(3, .int (iv (j + 1))), (0, .ref (B 9)), (1, .ref (B 23)), (2, .int (iv (85)))]) hx hb dX6_saves_16 hl (k := 3) rfl (iv_add _ _) (by decide) rfl (fun ls hl => ?_)
      refine lv_goto (tgt := 2) hx hb dX6_saves_19 (by decide) ?_
      exact ih_2 (j + 1) M_3 H locs (by omega) (by omega) (by omega) (by rw [eM_3, h2]; exact rowS_s M 22 85 (M 8) h0) hIM_3 hP hD hS ls (lv_sub hl [1, 2, 3, 0] rfl)
  exact lp_2 (24 - 0 + 1 : Int).toNat 0 M s.heap [] (by omega) (by omega) (by omega) (rowS_0 _ _ _ _) hI hP hD hS ls (lv_sub hl [1, 2, 3, 0] rfl)
set_option maxHeartbeats 4000000 in
set_option maxRecDepth 100000 in
theorem m_gives_8 {l : Launch} {D : va_G} {cI : ClassId} {B : Nat → Nat} {A : Nat → Prop} {M : St} (hI : InvM M)   : Met l yX6_gives (ws_ yX6_gives cX6_gives 4 (some .int)) (rmk 1 0 0) (va_Pc [.ref (B 23), .int (iv (85)), .ref (B 9)] (mUS D cI A (mW cI B M))) (va_Qi (fun r M1 => r = iv 109 ∧ M1 = givM M 8 85 24 ∧ InvM M1) (mB D cI B A) A) 0 0 A := by
  refine r_met (by decide) _ rfl (Nat.le_of_ble_eq_true rfl) ?_
  intro p e s m args below meth c Q ls hx hb hr hlk hml hown hts hpre hQ hl
  obtain ⟨hP, hD, hK⟩ := hpre
  have hS : va_S A s.heap s.heap [] := va_S.rf
  have hown : s.vm.findClass RX6 = some m.cls := hown
  have hl : lv_has ls 4 [(0, .ref (B 23)), (1, .int (iv (85))), (2, .ref (B 9))] := hl
  refine r_iconst hx hb dX6_gives_0 ?_
  refine lv_istore_n (lv' := [(3, .int (iv (0))), (0, .ref (B 23)), (1, .int (iv (85))), (2, .ref (B 9))]) hx hb dX6_gives_1 rfl hl (by decide) rfl (fun ls hl => ?_)
  have lp_2 : ∀ (n_2 : Nat) (j : Int) (Mw : St) (H : Heap) (locs : List Loc), 24 - j < (n_2 : Int) → (0 ≤ j) → (j ≤ 24) → (Mw = givM M 8 85 j) → InvM Mw → wP D vwCl (mW cI B Mw) H → wD A (mW cI B Mw) → va_S A s.heap H locs → ∀ (ls : Array Slot), lv_has ls 4 [(0, .ref (B 23)), (1, .int (iv (85))), (2, .ref (B 9)), (3, .int (iv (j)))] → W p l e (rmk 1 0 0) s m args below meth c H locs 0 0 Q (F0 m 2 ls []) := by
    intro n_2
    induction n_2 with
    | zero =>
      intro j Mw H locs hn_2 h0 h1 h2 hIMw hP hD hS ls hl
      exfalso
      omega
    | succ n_2 ih_2 =>
      intro j Mw H locs hn_2 h0 h1 h2 hIMw hP hD hS ls hl
      refine lv_iload_n hx hb dX6_gives_2 rfl (lv_at hl 3 rfl) ?_
      refine lv_aload_n hx hb dX6_gives_3 rfl (lv_at hl 2 rfl) ?_
      refine m_alen hx hb hK hP 8 (n := 24) rfl (by decide) dX6_gives_4 ?_
      refine r_icmp_ge (tgt := 22) hx hb dX6_gives_5 (by decide) (by omega) (by omega) (fun c_1 => ?_) (fun c_1 => ?_)
      · refine lv_iload_n hx hb dX6_gives_22 rfl (lv_at hl 1 rfl) ?_
        refine lv_aload_n hx hb dX6_gives_23 rfl (lv_at hl 2 rfl) ?_
        refine m_alen hx hb hK hP 8 (n := 24) rfl (by decide) dX6_gives_24 ?_
        refine r_iadd hx hb dX6_gives_25 ?_
        exact r_iretS hx hb hr hlk hQ Mw ⟨rfl, by have e := h2; rw [show j = 24 by omega] at e; exact e, hIMw⟩ (fun t ht _ => ⟨by rw [ht]; exact hP, hD⟩) hS dX6_gives_26
      refine lv_aload_n hx hb dX6_gives_8 rfl (lv_at hl 2 rfl) ?_
      refine lv_iload_n hx hb dX6_gives_9 rfl (lv_at hl 3 rfl) ?_
      refine lv_aload_n hx hb dX6_gives_10 rfl (lv_at hl 0 rfl) ?_
      refine lv_iload_n hx hb dX6_gives_11 rfl (lv_at hl 1 rfl) ?_
      refine lv_iload_n hx hb dX6_gives_12 rfl (lv_at hl 3 rfl) ?_
      refine r_iadd hx hb dX6_gives_13 ?_
      refine m_ald hx hb hK hP 22 (n := 200) rfl (by decide) (by omega) dX6_gives_14 ?_
      refine r_top (congrFun ((show Mw 22 = M 22 from (show eqx [8] M Mw by rw [h2]; exact givM_k _ _ _ _) 22 (by decide))) _) ?_
      have b_2 := iM_22b (M := M) hI (85 + j)
      refine m_ast hx hb hK hP hD hS 8 (n := 24) rfl (by decide) (by omega) dX6_gives_15 (fun M_3 eM_3 H locs hP hD hS => ?_)
      have hIM_3 : InvM M_3 := iMs_8 hIMw eM_3 (by omega)
      refine lv_iinc (v := iv (j + 1)) (lv' := [(3, .int (iv (j + 1))), (0, .ref (B 23)), (1, .int (iv (85))), (2, .ref (B 9))]) hx hb dX6_gives_16 hl (k := 3) rfl (iv_add _ _) (by decide) rfl (fun ls hl => ?_)
      refine lv_goto (tgt := 2) hx hb dX6_gives_19 (by decide) ?_
      exact ih_2 (j + 1) M_3 H locs (by omega) (by omega) (by omega) (by rw [eM_3, h2]; exact (congrArg (fun x => upd2 (givM M 8 85 j) 8 x (M 22 (85 + j))) (Int.zero_add j).symm).trans (rowS_s M 8 0 (fun i => M 22 (85 + i)) h0)) hIM_3 hP hD hS ls (lv_sub hl [1, 2, 3, 0] rfl)
  exact lp_2 (24 - 0 + 1 : Int).toNat 0 M s.heap [] (by omega) (by omega) (by omega) (rowS_0 _ _ _ _) hI hP hD hS ls (lv_sub hl [1, 2, 3, 0] rfl)
set_option maxHeartbeats 4000000 in
set_option maxRecDepth 100000 in
theorem m_saves_17 {l : Launch} {D : va_G} {cI : ClassId} {B : Nat → Nat} {A : Nat → Prop} {M : St} (hI : InvM M)   : Met l yX6_saves (ws_ yX6_saves cX6_saves 4 (some .int)) (rmk 1 0 0) (va_Pc [.ref (B 18), .ref (B 23), .int (iv (109))] (mUS D cI A (mW cI B M))) (va_Qi (fun r M1 => r = iv 141 ∧ M1 = savM M 17 109 32 ∧ InvM M1) (mB D cI B A) A) 0 0 A := by
  refine r_met (by decide) _ rfl (Nat.le_of_ble_eq_true rfl) ?_
  intro p e s m args below meth c Q ls hx hb hr hlk hml hown hts hpre hQ hl
  obtain ⟨hP, hD, hK⟩ := hpre
  have hS : va_S A s.heap s.heap [] := va_S.rf
  have hown : s.vm.findClass RX6 = some m.cls := hown
  have hl : lv_has ls 4 [(0, .ref (B 18)), (1, .ref (B 23)), (2, .int (iv (109)))] := hl
  refine r_iconst hx hb dX6_saves_0 ?_
  refine lv_istore_n (lv' := [(3, .int (iv (0))), (0, .ref (B 18)), (1, .ref (B 23)), (2, .int (iv (109)))]) hx hb dX6_saves_1 rfl hl (by decide) rfl (fun ls hl => ?_)
  have lp_2 : ∀ (n_2 : Nat) (j : Int) (Mw : St) (H : Heap) (locs : List Loc), 32 - j < (n_2 : Int) → (0 ≤ j) → (j ≤ 32) → (Mw = savM M 17 109 j) → InvM Mw → wP D vwCl (mW cI B Mw) H → wD A (mW cI B Mw) → va_S A s.heap H locs → ∀ (ls : Array Slot), lv_has ls 4 [(0, .ref (B 18)), (1, .ref (B 23)), (2, .int (iv (109))), (3, .int (iv (j)))] → W p l e (rmk 1 0 0) s m args below meth c H locs 0 0 Q (F0 m 2 ls []) := by
    intro n_2
    induction n_2 with
    | zero =>
      intro j Mw H locs hn_2 h0 h1 h2 hIMw hP hD hS ls hl
      exfalso
      omega
    | succ n_2 ih_2 =>
      intro j Mw H locs hn_2 h0 h1 h2 hIMw hP hD hS ls hl
      refine lv_iload_n hx hb dX6_saves_2 rfl (lv_at hl 3 rfl) ?_
      refine lv_aload_n hx hb dX6_saves_3 rfl (lv_at hl 0 rfl) ?_
      refine m_alen hx hb hK hP 17 (n := 32) rfl (by decide) dX6_saves_4 ?_
      refine r_icmp_ge (tgt := 22) hx hb dX6_saves_5 (by decide) (by omega) (by omega) (fun c_1 => ?_) (fun c_1 => ?_)
      · refine lv_iload_n hx hb dX6_saves_22 rfl (lv_at hl 2 rfl) ?_
        refine lv_aload_n hx hb dX6_saves_23 rfl (lv_at hl 0 rfl) ?_
        refine m_alen hx hb hK hP 17 (n := 32) rfl (by decide) dX6_saves_24 ?_
        refine r_iadd hx hb dX6_saves_25 ?_
        exact r_iretS hx hb hr hlk hQ Mw ⟨rfl, by have e := h2; rw [show j = 32 by omega] at e; exact e, hIMw⟩ (fun t ht _ => ⟨by rw [ht]; exact hP, hD⟩) hS dX6_saves_26
      refine lv_aload_n hx hb dX6_saves_8 rfl (lv_at hl 1 rfl) ?_
      refine lv_iload_n hx hb dX6_saves_9 rfl (lv_at hl 2 rfl) ?_
      refine lv_iload_n hx hb dX6_saves_10 rfl (lv_at hl 3 rfl) ?_
      refine r_iadd hx hb dX6_saves_11 ?_
      refine lv_aload_n hx hb dX6_saves_12 rfl (lv_at hl 0 rfl) ?_
      refine lv_iload_n hx hb dX6_saves_13 rfl (lv_at hl 3 rfl) ?_
      refine m_ald hx hb hK hP 17 (n := 32) rfl (by decide) (by omega) dX6_saves_14 ?_
      refine r_top (congrFun ((show Mw 17 = M 17 from (show eqx [22] M Mw by rw [h2]; exact savM_22 _ _ _ _) 17 (by decide))) _) ?_
      have b_2 := iM_17 (M := M) hI (j)
      refine m_ast hx hb hK hP hD hS 22 (n := 200) rfl (by decide) (by omega) dX6_saves_15 (fun M_3 eM_3 H locs hP hD hS => ?_)
      have hIM_3 : InvM M_3 := iMs_22 hIMw eM_3 (by omega)
      refine lv_iinc (v := iv (j + 1)) (lv' := [(3, .int (iv (j + 1))), (0, .ref (B 18)), (1, .ref (B 23)), (2, .int (iv (109)))]) hx hb dX6_saves_16 hl (k := 3) rfl (iv_add _ _) (by decide) rfl (fun ls hl => ?_)
      refine lv_goto (tgt := 2) hx hb dX6_saves_19 (by decide) ?_
      exact ih_2 (j + 1) M_3 H locs (by omega) (by omega) (by omega) (by rw [eM_3, h2]; exact rowS_s M 22 109 (M 17) h0) hIM_3 hP hD hS ls (lv_sub hl [1, 2, 3, 0] rfl)
  exact lp_2 (32 - 0 + 1 : Int).toNat 0 M s.heap [] (by omega) (by omega) (by omega) (rowS_0 _ _ _ _) hI hP hD hS ls (lv_sub hl [1, 2, 3, 0] rfl)
set_option maxHeartbeats 4000000 in
set_option maxRecDepth 100000 in
theorem m_gives_17 {l : Launch} {D : va_G} {cI : ClassId} {B : Nat → Nat} {A : Nat → Prop} {M : St} (hI : InvM M)   : Met l yX6_gives (ws_ yX6_gives cX6_gives 4 (some .int)) (rmk 1 0 0) (va_Pc [.ref (B 23), .int (iv (109)), .ref (B 18)] (mUS D cI A (mW cI B M))) (va_Qi (fun r M1 => r = iv 141 ∧ M1 = givM M 17 109 32 ∧ InvM M1) (mB D cI B A) A) 0 0 A := by
  refine r_met (by decide) _ rfl (Nat.le_of_ble_eq_true rfl) ?_
  intro p e s m args below meth c Q ls hx hb hr hlk hml hown hts hpre hQ hl
  obtain ⟨hP, hD, hK⟩ := hpre
  have hS : va_S A s.heap s.heap [] := va_S.rf
  have hown : s.vm.findClass RX6 = some m.cls := hown
  have hl : lv_has ls 4 [(0, .ref (B 23)), (1, .int (iv (109))), (2, .ref (B 18))] := hl
  refine r_iconst hx hb dX6_gives_0 ?_
  refine lv_istore_n (lv' := [(3, .int (iv (0))), (0, .ref (B 23)), (1, .int (iv (109))), (2, .ref (B 18))]) hx hb dX6_gives_1 rfl hl (by decide) rfl (fun ls hl => ?_)
  have lp_2 : ∀ (n_2 : Nat) (j : Int) (Mw : St) (H : Heap) (locs : List Loc), 32 - j < (n_2 : Int) → (0 ≤ j) → (j ≤ 32) → (Mw = givM M 17 109 j) → InvM Mw → wP D vwCl (mW cI B Mw) H → wD A (mW cI B Mw) → va_S A s.heap H locs → ∀ (ls : Array Slot), lv_has ls 4 [(0, .ref (B 23)), (1, .int (iv (109))), (2, .ref (B 18)), (3, .int (iv (j)))] → W p l e (rmk 1 0 0) s m args below meth c H locs 0 0 Q (F0 m 2 ls []) := by
    intro n_2
    induction n_2 with
    | zero =>
      intro j Mw H locs hn_2 h0 h1 h2 hIMw hP hD hS ls hl
      exfalso
      omega
    | succ n_2 ih_2 =>
      intro j Mw H locs hn_2 h0 h1 h2 hIMw hP hD hS ls hl
      refine lv_iload_n hx hb dX6_gives_2 rfl (lv_at hl 3 rfl) ?_
      refine lv_aload_n hx hb dX6_gives_3 rfl (lv_at hl 2 rfl) ?_
      refine m_alen hx hb hK hP 17 (n := 32) rfl (by decide) dX6_gives_4 ?_
      refine r_icmp_ge (tgt := 22) hx hb dX6_gives_5 (by decide) (by omega) (by omega) (fun c_1 => ?_) (fun c_1 => ?_)
      · refine lv_iload_n hx hb dX6_gives_22 rfl (lv_at hl 1 rfl) ?_
        refine lv_aload_n hx hb dX6_gives_23 rfl (lv_at hl 2 rfl) ?_
        refine m_alen hx hb hK hP 17 (n := 32) rfl (by decide) dX6_gives_24 ?_
        refine r_iadd hx hb dX6_gives_25 ?_
        exact r_iretS hx hb hr hlk hQ Mw ⟨rfl, by have e := h2; rw [show j = 32 by omega] at e; exact e, hIMw⟩ (fun t ht _ => ⟨by rw [ht]; exact hP, hD⟩) hS dX6_gives_26
      refine lv_aload_n hx hb dX6_gives_8 rfl (lv_at hl 2 rfl) ?_
      refine lv_iload_n hx hb dX6_gives_9 rfl (lv_at hl 3 rfl) ?_
      refine lv_aload_n hx hb dX6_gives_10 rfl (lv_at hl 0 rfl) ?_
      refine lv_iload_n hx hb dX6_gives_11 rfl (lv_at hl 1 rfl) ?_
      refine lv_iload_n hx hb dX6_gives_12 rfl (lv_at hl 3 rfl) ?_
      refine r_iadd hx hb dX6_gives_13 ?_
      refine m_ald hx hb hK hP 22 (n := 200) rfl (by decide) (by omega) dX6_gives_14 ?_
      refine r_top (congrFun ((show Mw 22 = M 22 from (show eqx [17] M Mw by rw [h2]; exact givM_k _ _ _ _) 22 (by decide))) _) ?_
      have b_2 := iM_22b (M := M) hI (109 + j)
      refine m_ast hx hb hK hP hD hS 17 (n := 32) rfl (by decide) (by omega) dX6_gives_15 (fun M_3 eM_3 H locs hP hD hS => ?_)
      have hIM_3 : InvM M_3 := iMs_17 hIMw eM_3 (by omega)
      refine lv_iinc (v := iv (j + 1)) (lv' := [(3, .int (iv (j + 1))), (0, .ref (B 23)), (1, .int (iv (109))), (2, .ref (B 18))]) hx hb dX6_gives_16 hl (k := 3) rfl (iv_add _ _) (by decide) rfl (fun ls hl => ?_)
      refine lv_goto (tgt := 2) hx hb dX6_gives_19 (by decide) ?_
      exact ih_2 (j + 1) M_3 H locs (by omega) (by omega) (by omega) (by rw [eM_3, h2]; exact (congrArg (fun x => upd2 (givM M 17 109 j) 17 x (M 22 (109 + j))) (Int.zero_add j).symm).trans (rowS_s M 17 0 (fun i => M 22 (109 + i)) h0)) hIM_3 hP hD hS ls (lv_sub hl [1, 2, 3, 0] rfl)
  exact lp_2 (32 - 0 + 1 : Int).toNat 0 M s.heap [] (by omega) (by omega) (by omega) (rowS_0 _ _ _ _) hI hP hD hS ls (lv_sub hl [1, 2, 3, 0] rfl)
set_option maxHeartbeats 4000000 in
set_option maxRecDepth 100000 in
theorem m_saves_20 {l : Launch} {D : va_G} {cI : ClassId} {B : Nat → Nat} {A : Nat → Prop} {M : St} (hI : InvM M)   : Met l yX6_saves (ws_ yX6_saves cX6_saves 4 (some .int)) (rmk 1 0 0) (va_Pc [.ref (B 21), .ref (B 23), .int (iv (141))] (mUS D cI A (mW cI B M))) (va_Qi (fun r M1 => r = iv 165 ∧ M1 = savM M 20 141 24 ∧ InvM M1) (mB D cI B A) A) 0 0 A := by
  refine r_met (by decide) _ rfl (Nat.le_of_ble_eq_true rfl) ?_
  intro p e s m args below meth c Q ls hx hb hr hlk hml hown hts hpre hQ hl
  obtain ⟨hP, hD, hK⟩ := hpre
  have hS : va_S A s.heap s.heap [] := va_S.rf
  have hown : s.vm.findClass RX6 = some m.cls := hown
  have hl : lv_has ls 4 [(0, .ref (B 21)), (1, .ref (B 23)), (2, .int (iv (141)))] := hl
  refine r_iconst hx hb dX6_saves_0 ?_
  refine lv_istore_n (lv' := [(3, .int (iv (0))), (0, .ref (B 21)), (1, .ref (B 23)), (2, .int (iv (141)))]) hx hb dX6_saves_1 rfl hl (by decide) rfl (fun ls hl => ?_)
  have lp_2 : ∀ (n_2 : Nat) (j : Int) (Mw : St) (H : Heap) (locs : List Loc), 24 - j < (n_2 : Int) → (0 ≤ j) → (j ≤ 24) → (Mw = savM M 20 141 j) → InvM Mw → wP D vwCl (mW cI B Mw) H → wD A (mW cI B Mw) → va_S A s.heap H locs → ∀ (ls : Array Slot), lv_has ls 4 [(0, .ref (B 21)), (1, .ref (B 23)), (2, .int (iv (141))), (3, .int (iv (j)))] → W p l e (rmk 1 0 0) s m args below meth c H locs 0 0 Q (F0 m 2 ls []) := by
    intro n_2
    induction n_2 with
    | zero =>
      intro j Mw H locs hn_2 h0 h1 h2 hIMw hP hD hS ls hl
      exfalso
      omega
    | succ n_2 ih_2 =>
      intro j Mw H locs hn_2 h0 h1 h2 hIMw hP hD hS ls hl
      refine lv_iload_n hx hb dX6_saves_2 rfl (lv_at hl 3 rfl) ?_
      refine lv_aload_n hx hb dX6_saves_3 rfl (lv_at hl 0 rfl) ?_
      refine m_alen hx hb hK hP 20 (n := 24) rfl (by decide) dX6_saves_4 ?_
      refine r_icmp_ge (tgt := 22) hx hb dX6_saves_5 (by decide) (by omega) (by omega) (fun c_1 => ?_) (fun c_1 => ?_)
      · refine lv_iload_n hx hb dX6_saves_22 rfl (lv_at hl 2 rfl) ?_
        refine lv_aload_n hx hb dX6_saves_23 rfl (lv_at hl 0 rfl) ?_
        refine m_alen hx hb hK hP 20 (n := 24) rfl (by decide) dX6_saves_24 ?_
        refine r_iadd hx hb dX6_saves_25 ?_
        exact r_iretS hx hb hr hlk hQ Mw ⟨rfl, by have e := h2; rw [show j = 24 by omega] at e; exact e, hIMw⟩ (fun t ht _ => ⟨by rw [ht]; exact hP, hD⟩) hS dX6_saves_26
      refine lv_aload_n hx hb dX6_saves_8 rfl (lv_at hl 1 rfl) ?_
      refine lv_iload_n hx hb dX6_saves_9 rfl (lv_at hl 2 rfl) ?_
      refine lv_iload_n hx hb dX6_saves_10 rfl (lv_at hl 3 rfl) ?_
      refine r_iadd hx hb dX6_saves_11 ?_
      refine lv_aload_n hx hb dX6_saves_12 rfl (lv_at hl 0 rfl) ?_
      refine lv_iload_n hx hb dX6_saves_13 rfl (lv_at hl 3 rfl) ?_
      refine m_ald hx hb hK hP 20 (n := 24) rfl (by decide) (by omega) dX6_saves_14 ?_
      refine r_top (congrFun ((show Mw 20 = M 20 from (show eqx [22] M Mw by rw [h2]; exact savM_22 _ _ _ _) 20 (by decide))) _) ?_
      have b_2 := iM_20 (M := M) hI (j)
      refine m_ast hx hb hK hP hD hS 22 (n := 200) rfl (by decide) (by omega) dX6_saves_15 (fun M_3 eM_3 H locs hP hD hS => ?_)
      have hIM_3 : InvM M_3 := iMs_22 hIMw eM_3 (by omega)
      refine lv_iinc (v := iv (j + 1)) (lv' := [(3, .int (iv (j + 1))), (0, .ref (B 21)), (1, .ref (B 23)), (2, .int (iv (141)))]) hx hb dX6_saves_16 hl (k := 3) rfl (iv_add _ _) (by decide) rfl (fun ls hl => ?_)
      refine lv_goto (tgt := 2) hx hb dX6_saves_19 (by decide) ?_
      exact ih_2 (j + 1) M_3 H locs (by omega) (by omega) (by omega) (by rw [eM_3, h2]; exact rowS_s M 22 141 (M 20) h0) hIM_3 hP hD hS ls (lv_sub hl [1, 2, 3, 0] rfl)
  exact lp_2 (24 - 0 + 1 : Int).toNat 0 M s.heap [] (by omega) (by omega) (by omega) (rowS_0 _ _ _ _) hI hP hD hS ls (lv_sub hl [1, 2, 3, 0] rfl)
set_option maxHeartbeats 4000000 in
set_option maxRecDepth 100000 in
theorem m_gives_20 {l : Launch} {D : va_G} {cI : ClassId} {B : Nat → Nat} {A : Nat → Prop} {M : St} (hI : InvM M)   : Met l yX6_gives (ws_ yX6_gives cX6_gives 4 (some .int)) (rmk 1 0 0) (va_Pc [.ref (B 23), .int (iv (141)), .ref (B 21)] (mUS D cI A (mW cI B M))) (va_Qi (fun r M1 => r = iv 165 ∧ M1 = givM M 20 141 24 ∧ InvM M1) (mB D cI B A) A) 0 0 A := by
  refine r_met (by decide) _ rfl (Nat.le_of_ble_eq_true rfl) ?_
  intro p e s m args below meth c Q ls hx hb hr hlk hml hown hts hpre hQ hl
  obtain ⟨hP, hD, hK⟩ := hpre
  have hS : va_S A s.heap s.heap [] := va_S.rf
  have hown : s.vm.findClass RX6 = some m.cls := hown
  have hl : lv_has ls 4 [(0, .ref (B 23)), (1, .int (iv (141))), (2, .ref (B 21))] := hl
  refine r_iconst hx hb dX6_gives_0 ?_
  refine lv_istore_n (lv' := [(3, .int (iv (0))), (0, .ref (B 23)), (1, .int (iv (141))), (2, .ref (B 21))]) hx hb dX6_gives_1 rfl hl (by decide) rfl (fun ls hl => ?_)
  have lp_2 : ∀ (n_2 : Nat) (j : Int) (Mw : St) (H : Heap) (locs : List Loc), 24 - j < (n_2 : Int) → (0 ≤ j) → (j ≤ 24) → (Mw = givM M 20 141 j) → InvM Mw → wP D vwCl (mW cI B Mw) H → wD A (mW cI B Mw) → va_S A s.heap H locs → ∀ (ls : Array Slot), lv_has ls 4 [(0, .ref (B 23)), (1, .int (iv (141))), (2, .ref (B 21)), (3, .int (iv (j)))] → W p l e (rmk 1 0 0) s m args below meth c H locs 0 0 Q (F0 m 2 ls []) := by
    intro n_2
    induction n_2 with
    | zero =>
      intro j Mw H locs hn_2 h0 h1 h2 hIMw hP hD hS ls hl
      exfalso
      omega
    | succ n_2 ih_2 =>
      intro j Mw H locs hn_2 h0 h1 h2 hIMw hP hD hS ls hl
      refine lv_iload_n hx hb dX6_gives_2 rfl (lv_at hl 3 rfl) ?_
      refine lv_aload_n hx hb dX6_gives_3 rfl (lv_at hl 2 rfl) ?_
      refine m_alen hx hb hK hP 20 (n := 24) rfl (by decide) dX6_gives_4 ?_
      refine r_icmp_ge (tgt := 22) hx hb dX6_gives_5 (by decide) (by omega) (by omega) (fun c_1 => ?_) (fun c_1 => ?_)
      · refine lv_iload_n hx hb dX6_gives_22 rfl (lv_at hl 1 rfl) ?_
        refine lv_aload_n hx hb dX6_gives_23 rfl (lv_at hl 2 rfl) ?_
        refine m_alen hx hb hK hP 20 (n := 24) rfl (by decide) dX6_gives_24 ?_
        refine r_iadd hx hb dX6_gives_25 ?_
        exact r_iretS hx hb hr hlk hQ Mw ⟨rfl, by have e := h2; rw [show j = 24 by omega] at e; exact e, hIMw⟩ (fun t ht _ => ⟨by rw [ht]; exact hP, hD⟩) hS dX6_gives_26
      refine lv_aload_n hx hb dX6_gives_8 rfl (lv_at hl 2 rfl) ?_
      refine lv_iload_n hx hb dX6_gives_9 rfl (lv_at hl 3 rfl) ?_
      refine lv_aload_n hx hb dX6_gives_10 rfl (lv_at hl 0 rfl) ?_
      refine lv_iload_n hx hb dX6_gives_11 rfl (lv_at hl 1 rfl) ?_
      refine lv_iload_n hx hb dX6_gives_12 rfl (lv_at hl 3 rfl) ?_
      refine r_iadd hx hb dX6_gives_13 ?_
      refine m_ald hx hb hK hP 22 (n := 200) rfl (by decide) (by omega) dX6_gives_14 ?_
      refine r_top (congrFun ((show Mw 22 = M 22 from (show eqx [20] M Mw by rw [h2]; exact givM_k _ _ _ _) 22 (by decide))) _) ?_
      have b_2 := iM_22b (M := M) hI (141 + j)
      refine m_ast hx hb hK hP hD hS 20 (n := 24) rfl (by decide) (by omega) dX6_gives_15 (fun M_3 eM_3 H locs hP hD hS => ?_)
      have hIM_3 : InvM M_3 := iMs_20 hIMw eM_3 (by omega)
      refine lv_iinc (v := iv (j + 1)) (lv' := [(3, .int (iv (j + 1))), (0, .ref (B 23)), (1, .int (iv (141))), (2, .ref (B 21))]) hx hb dX6_gives_16 hl (k := 3) rfl (iv_add _ _) (by decide) rfl (fun ls hl => ?_)
      refine lv_goto (tgt := 2) hx hb dX6_gives_19 (by decide) ?_
      exact ih_2 (j + 1) M_3 H locs (by omega) (by omega) (by omega) (by rw [eM_3, h2]; exact (congrArg (fun x => upd2 (givM M 20 141 j) 20 x (M 22 (141 + j))) (Int.zero_add j).symm).trans (rowS_s M 20 0 (fun i => M 22 (141 + i)) h0)) hIM_3 hP hD hS ls (lv_sub hl [1, 2, 3, 0] rfl)
  exact lp_2 (24 - 0 + 1 : Int).toNat 0 M s.heap [] (by omega) (by omega) (by omega) (rowS_0 _ _ _ _) hI hP hD hS ls (lv_sub hl [1, 2, 3, 0] rfl)
set_option maxHeartbeats 4000000 in
set_option maxRecDepth 100000 in
theorem m_saves_21 {l : Launch} {D : va_G} {cI : ClassId} {B : Nat → Nat} {A : Nat → Prop} {M : St} (hI : InvM M)   : Met l yX6_saves (ws_ yX6_saves cX6_saves 4 (some .int)) (rmk 1 0 0) (va_Pc [.ref (B 22), .ref (B 23), .int (iv (165))] (mUS D cI A (mW cI B M))) (va_Qi (fun r M1 => r = iv 189 ∧ M1 = savM M 21 165 24 ∧ InvM M1) (mB D cI B A) A) 0 0 A := by
  refine r_met (by decide) _ rfl (Nat.le_of_ble_eq_true rfl) ?_
  intro p e s m args below meth c Q ls hx hb hr hlk hml hown hts hpre hQ hl
  obtain ⟨hP, hD, hK⟩ := hpre
  have hS : va_S A s.heap s.heap [] := va_S.rf
  have hown : s.vm.findClass RX6 = some m.cls := hown
  have hl : lv_has ls 4 [(0, .ref (B 22)), (1, .ref (B 23)), (2, .int (iv (165)))] := hl
  refine r_iconst hx hb dX6_saves_0 ?_
  refine lv_istore_n (lv' := [(3, .int (iv (0))), (0, .ref (B 22)), (1, .ref (B 23)), (2, .int (iv (165)))]) hx hb dX6_saves_1 rfl hl (by decide) rfl (fun ls hl => ?_)
  have lp_2 : ∀ (n_2 : Nat) (j : Int) (Mw : St) (H : Heap) (locs : List Loc), 24 - j < (n_2 : Int) → (0 ≤ j) → (j ≤ 24) → (Mw = savM M 21 165 j) → InvM Mw → wP D vwCl (mW cI B Mw) H → wD A (mW cI B Mw) → va_S A s.heap H locs → ∀ (ls : Array Slot), lv_has ls 4 [(0, .ref (B 22)), (1, .ref (B 23)), (2, .int (iv (165))), (3, .int (iv (j)))] → W p l e (rmk 1 0 0) s m args below meth c H locs 0 0 Q (F0 m 2 ls []) := by
    intro n_2
    induction n_2 with
    | zero =>
      intro j Mw H locs hn_2 h0 h1 h2 hIMw hP hD hS ls hl
      exfalso
      omega
    | succ n_2 ih_2 =>
      intro j Mw H locs hn_2 h0 h1 h2 hIMw hP hD hS ls hl
      refine lv_iload_n hx hb dX6_saves_2 rfl (lv_at hl 3 rfl) ?_
      refine lv_aload_n hx hb dX6_saves_3 rfl (lv_at hl 0 rfl) ?_
      refine m_alen hx hb hK hP 21 (n := 24) rfl (by decide) dX6_saves_4 ?_
      refine r_icmp_ge (tgt := 22) hx hb dX6_saves_5 (by decide) (by omega) (by omega) (fun c_1 => ?_) (fun c_1 => ?_)
      · refine lv_iload_n hx hb dX6_saves_22 rfl (lv_at hl 2 rfl) ?_
        refine lv_aload_n hx hb dX6_saves_23 rfl (lv_at hl 0 rfl) ?_
        refine m_alen hx hb hK hP 21 (n := 24) rfl (by decide) dX6_saves_24 ?_
        refine r_iadd hx hb dX6_saves_25 ?_
        exact r_iretS hx hb hr hlk hQ Mw ⟨rfl, by have e := h2; rw [show j = 24 by omega] at e; exact e, hIMw⟩ (fun t ht _ => ⟨by rw [ht]; exact hP, hD⟩) hS dX6_saves_26
      refine lv_aload_n hx hb dX6_saves_8 rfl (lv_at hl 1 rfl) ?_
      refine lv_iload_n hx hb dX6_saves_9 rfl (lv_at hl 2 rfl) ?_
      refine lv_iload_n hx hb dX6_saves_10 rfl (lv_at hl 3 rfl) ?_
      refine r_iadd hx hb dX6_saves_11 ?_
      refine lv_aload_n hx hb dX6_saves_12 rfl (lv_at hl 0 rfl) ?_
      refine lv_iload_n hx hb dX6_saves_13 rfl (lv_at hl 3 rfl) ?_
      refine m_ald hx hb hK hP 21 (n := 24) rfl (by decide) (by omega) dX6_saves_14 ?_
      refine r_top (congrFun ((show Mw 21 = M 21 from (show eqx [22] M Mw by rw [h2]; exact savM_22 _ _ _ _) 21 (by decide))) _) ?_
      have b_2 := iM_21 (M := M) hI (j)
      refine m_ast hx hb hK hP hD hS 22 (n := 200) rfl (by decide) (by omega) dX6_saves_15 (fun M_3 eM_3 H locs hP hD hS => ?_)
      have hIM_3 : InvM M_3 := iMs_22 hIMw eM_3 (by omega)
      refine lv_iinc (v := iv (j + 1)) (lv' := [(3, .int (iv (j + 1))), (0, .ref (B 22)), (1, .ref (B 23)), (2, .int (iv (165)))]) hx hb dX6_saves_16 hl (k := 3) rfl (iv_add _ _) (by decide) rfl (fun ls hl => ?_)
      refine lv_goto (tgt := 2) hx hb dX6_saves_19 (by decide) ?_
      exact ih_2 (j + 1) M_3 H locs (by omega) (by omega) (by omega) (by rw [eM_3, h2]; exact rowS_s M 22 165 (M 21) h0) hIM_3 hP hD hS ls (lv_sub hl [1, 2, 3, 0] rfl)
  exact lp_2 (24 - 0 + 1 : Int).toNat 0 M s.heap [] (by omega) (by omega) (by omega) (rowS_0 _ _ _ _) hI hP hD hS ls (lv_sub hl [1, 2, 3, 0] rfl)
set_option maxHeartbeats 4000000 in
set_option maxRecDepth 100000 in
theorem m_gives_21 {l : Launch} {D : va_G} {cI : ClassId} {B : Nat → Nat} {A : Nat → Prop} {M : St} (hI : InvM M)   : Met l yX6_gives (ws_ yX6_gives cX6_gives 4 (some .int)) (rmk 1 0 0) (va_Pc [.ref (B 23), .int (iv (165)), .ref (B 22)] (mUS D cI A (mW cI B M))) (va_Qi (fun r M1 => r = iv 189 ∧ M1 = givM M 21 165 24 ∧ InvM M1) (mB D cI B A) A) 0 0 A := by
  refine r_met (by decide) _ rfl (Nat.le_of_ble_eq_true rfl) ?_
  intro p e s m args below meth c Q ls hx hb hr hlk hml hown hts hpre hQ hl
  obtain ⟨hP, hD, hK⟩ := hpre
  have hS : va_S A s.heap s.heap [] := va_S.rf
  have hown : s.vm.findClass RX6 = some m.cls := hown
  have hl : lv_has ls 4 [(0, .ref (B 23)), (1, .int (iv (165))), (2, .ref (B 22))] := hl
  refine r_iconst hx hb dX6_gives_0 ?_
  refine lv_istore_n (lv' := [(3, .int (iv (0))), (0, .ref (B 23)), (1, .int (iv (165))), (2, .ref (B 22))]) hx hb dX6_gives_1 rfl hl (by decide) rfl (fun ls hl => ?_)
  have lp_2 : ∀ (n_2 : Nat) (j : Int) (Mw : St) (H : Heap) (locs : List Loc), 24 - j < (n_2 : Int) → (0 ≤ j) → (j ≤ 24) → (Mw = givM M 21 165 j) → InvM Mw → wP D vwCl (mW cI B Mw) H → wD A (mW cI B Mw) → va_S A s.heap H locs → ∀ (ls : Array Slot), lv_has ls 4 [(0, .ref (B 23)), (1, .int (iv (165))), (2, .ref (B 22)), (3, .int (iv (j)))] → W p l e (rmk 1 0 0) s m args below meth c H locs 0 0 Q (F0 m 2 ls []) := by
    intro n_2
    induction n_2 with
    | zero =>
      intro j Mw H locs hn_2 h0 h1 h2 hIMw hP hD hS ls hl
      exfalso
      omega
    | succ n_2 ih_2 =>
      intro j Mw H locs hn_2 h0 h1 h2 hIMw hP hD hS ls hl
      refine lv_iload_n hx hb dX6_gives_2 rfl (lv_at hl 3 rfl) ?_
      refine lv_aload_n hx hb dX6_gives_3 rfl (lv_at hl 2 rfl) ?_
      refine m_alen hx hb hK hP 21 (n := 24) rfl (by decide) dX6_gives_4 ?_
      refine r_icmp_ge (tgt := 22) hx hb dX6_gives_5 (by decide) (by omega) (by omega) (fun c_1 => ?_) (fun c_1 => ?_)
      · refine lv_iload_n hx hb dX6_gives_22 rfl (lv_at hl 1 rfl) ?_
        refine lv_aload_n hx hb dX6_gives_23 rfl (lv_at hl 2 rfl) ?_
        refine m_alen hx hb hK hP 21 (n := 24) rfl (by decide) dX6_gives_24 ?_
        refine r_iadd hx hb dX6_gives_25 ?_
        exact r_iretS hx hb hr hlk hQ Mw ⟨rfl, by have e := h2; rw [show j = 24 by omega] at e; exact e, hIMw⟩ (fun t ht _ => ⟨by rw [ht]; exact hP, hD⟩) hS dX6_gives_26
      refine lv_aload_n hx hb dX6_gives_8 rfl (lv_at hl 2 rfl) ?_
      refine lv_iload_n hx hb dX6_gives_9 rfl (lv_at hl 3 rfl) ?_
      refine lv_aload_n hx hb dX6_gives_10 rfl (lv_at hl 0 rfl) ?_
      refine lv_iload_n hx hb dX6_gives_11 rfl (lv_at hl 1 rfl) ?_
      refine lv_iload_n hx hb dX6_gives_12 rfl (lv_at hl 3 rfl) ?_
      refine r_iadd hx hb dX6_gives_13 ?_
      refine m_ald hx hb hK hP 22 (n := 200) rfl (by decide) (by omega) dX6_gives_14 ?_
      refine r_top (congrFun ((show Mw 22 = M 22 from (show eqx [21] M Mw by rw [h2]; exact givM_k _ _ _ _) 22 (by decide))) _) ?_
      have b_2 := iM_22b (M := M) hI (165 + j)
      refine m_ast hx hb hK hP hD hS 21 (n := 24) rfl (by decide) (by omega) dX6_gives_15 (fun M_3 eM_3 H locs hP hD hS => ?_)
      have hIM_3 : InvM M_3 := iMs_21 hIMw eM_3 (by omega)
      refine lv_iinc (v := iv (j + 1)) (lv' := [(3, .int (iv (j + 1))), (0, .ref (B 23)), (1, .int (iv (165))), (2, .ref (B 22))]) hx hb dX6_gives_16 hl (k := 3) rfl (iv_add _ _) (by decide) rfl (fun ls hl => ?_)
      refine lv_goto (tgt := 2) hx hb dX6_gives_19 (by decide) ?_
      exact ih_2 (j + 1) M_3 H locs (by omega) (by omega) (by omega) (by rw [eM_3, h2]; exact (congrArg (fun x => upd2 (givM M 21 165 j) 21 x (M 22 (165 + j))) (Int.zero_add j).symm).trans (rowS_s M 21 0 (fun i => M 22 (165 + i)) h0)) hIM_3 hP hD hS ls (lv_sub hl [1, 2, 3, 0] rfl)
  exact lp_2 (24 - 0 + 1 : Int).toNat 0 M s.heap [] (by omega) (by omega) (by omega) (rowS_0 _ _ _ _) hI hP hD hS ls (lv_sub hl [1, 2, 3, 0] rfl)
set_option maxHeartbeats 4000000 in
set_option maxRecDepth 100000 in
theorem m_image {l : Launch} {D : va_G} {cI : ClassId} {B : Nat → Nat} {A : Nat → Prop} {M : St} (hI : InvM M)   : Met l yX6_image (ws_ yX6_image cX6_image 2 (some .int)) (rmk 2 0 0) (va_Pc [.ref (B 0)] (mUS D cI A (mW cI B M))) (va_Qi (fun r M1 => r = iv 1 ∧ M1 = imgM M ∧ InvM M1) (mB D cI B A) A) 0 0 A := by
  refine r_met (by decide) _ rfl (Nat.le_of_ble_eq_true rfl) ?_
  intro p e s m args below meth c Q ls hx hb hr hlk hml hown hts hpre hQ hl
  obtain ⟨hP, hD, hK⟩ := hpre
  have hS : va_S A s.heap s.heap [] := va_S.rf
  have hown : s.vm.findClass RX6 = some m.cls := hown
  have hl : lv_has ls 2 [(0, .ref (B 0))] := hl
  refine lv_aload_n hx hb dX6_image_0 rfl (lv_at hl 0 rfl) ?_
  refine mg_0 hx hb hts hown hK hP dX6_image_1 ?_
  refine lv_aload_n hx hb dX6_image_4 rfl (lv_at hl 0 rfl) ?_
  refine mg_22 hx hb hts hown hK hP dX6_image_5 ?_
  refine r_iconst hx hb dX6_image_8 ?_
  refine s_cI ⟨hx, hb, hml, hown, hts⟩ (m_saves_0 hI) (va_cwS 3 hts (lw_S q1336 q1337 q60 q1338) rfl rfl rfl hdS_X6_saves ⟨Nat.le_of_ble_eq_true rfl, Nat.le_of_ble_eq_true rfl⟩) hK hP hD hS rfl hl.1 rfl (Nat.le_of_ble_eq_true rfl) ⟨Nat.le_of_ble_eq_true rfl, Nat.le_of_ble_eq_true rfl⟩ dX6_image_9 (fun r_2 M_1 H locs hq hP hD hS => ?_)
  obtain ⟨er_2, eM_1, hIM_1⟩ := hq
  subst er_2
  refine lv_istore_n (lv' := [(1, .int (iv (16))), (0, .ref (B 0))]) hx hb dX6_image_12 rfl hl (by decide) rfl (fun ls hl => ?_)
  refine lv_aload_n hx hb dX6_image_13 rfl (lv_at hl 1 rfl) ?_
  refine mg_1 hx hb hts hown hK hP dX6_image_14 ?_
  refine lv_aload_n hx hb dX6_image_17 rfl (lv_at hl 1 rfl) ?_
  refine mg_22 hx hb hts hown hK hP dX6_image_18 ?_
  refine lv_iload_n hx hb dX6_image_21 rfl (lv_at hl 0 rfl) ?_
  refine s_cI ⟨hx, hb, hml, hown, hts⟩ (m_saves_1 hIM_1) (va_cwS 3 hts (lw_S q1336 q1337 q60 q1338) rfl rfl rfl hdS_X6_saves ⟨Nat.le_of_ble_eq_true rfl, Nat.le_of_ble_eq_true rfl⟩) hK hP hD hS rfl hl.1 rfl (Nat.le_of_ble_eq_true rfl) ⟨Nat.le_of_ble_eq_true rfl, Nat.le_of_ble_eq_true rfl⟩ dX6_image_22 (fun r_4 M_3 H locs hq hP hD hS => ?_)
  obtain ⟨er_4, eM_3, hIM_3⟩ := hq
  subst er_4
  refine lv_istore_n (lv' := [(1, .int (iv (32))), (0, .ref (B 0))]) hx hb dX6_image_25 rfl hl (by decide) rfl (fun ls hl => ?_)
  refine lv_aload_n hx hb dX6_image_26 rfl (lv_at hl 1 rfl) ?_
  refine mg_2 hx hb hts hown hK hP dX6_image_27 ?_
  refine lv_aload_n hx hb dX6_image_30 rfl (lv_at hl 1 rfl) ?_
  refine mg_22 hx hb hts hown hK hP dX6_image_31 ?_
  refine lv_iload_n hx hb dX6_image_34 rfl (lv_at hl 0 rfl) ?_
  refine s_cI ⟨hx, hb, hml, hown, hts⟩ (m_saves_2 hIM_3) (va_cwS 3 hts (lw_S q1336 q1337 q60 q1338) rfl rfl rfl hdS_X6_saves ⟨Nat.le_of_ble_eq_true rfl, Nat.le_of_ble_eq_true rfl⟩) hK hP hD hS rfl hl.1 rfl (Nat.le_of_ble_eq_true rfl) ⟨Nat.le_of_ble_eq_true rfl, Nat.le_of_ble_eq_true rfl⟩ dX6_image_35 (fun r_6 M_5 H locs hq hP hD hS => ?_)
  obtain ⟨er_6, eM_5, hIM_5⟩ := hq
  subst er_6
  refine lv_istore_n (lv' := [(1, .int (iv (48))), (0, .ref (B 0))]) hx hb dX6_image_38 rfl hl (by decide) rfl (fun ls hl => ?_)
  refine lv_aload_n hx hb dX6_image_39 rfl (lv_at hl 1 rfl) ?_
  refine mg_3 hx hb hts hown hK hP dX6_image_40 ?_
  refine lv_aload_n hx hb dX6_image_43 rfl (lv_at hl 1 rfl) ?_
  refine mg_22 hx hb hts hown hK hP dX6_image_44 ?_
  refine lv_iload_n hx hb dX6_image_47 rfl (lv_at hl 0 rfl) ?_
  refine s_cI ⟨hx, hb, hml, hown, hts⟩ (m_saves_3 hIM_5) (va_cwS 3 hts (lw_S q1336 q1337 q60 q1338) rfl rfl rfl hdS_X6_saves ⟨Nat.le_of_ble_eq_true rfl, Nat.le_of_ble_eq_true rfl⟩) hK hP hD hS rfl hl.1 rfl (Nat.le_of_ble_eq_true rfl) ⟨Nat.le_of_ble_eq_true rfl, Nat.le_of_ble_eq_true rfl⟩ dX6_image_48 (fun r_8 M_7 H locs hq hP hD hS => ?_)
  obtain ⟨er_8, eM_7, hIM_7⟩ := hq
  subst er_8
  refine lv_istore_n (lv' := [(1, .int (iv (64))), (0, .ref (B 0))]) hx hb dX6_image_51 rfl hl (by decide) rfl (fun ls hl => ?_)
  refine lv_aload_n hx hb dX6_image_52 rfl (lv_at hl 1 rfl) ?_
  refine mg_4 hx hb hts hown hK hP dX6_image_53 ?_
  refine lv_aload_n hx hb dX6_image_56 rfl (lv_at hl 1 rfl) ?_
  refine mg_22 hx hb hts hown hK hP dX6_image_57 ?_
  refine lv_iload_n hx hb dX6_image_60 rfl (lv_at hl 0 rfl) ?_
  refine s_cI ⟨hx, hb, hml, hown, hts⟩ (m_saves_4 hIM_7) (va_cwS 3 hts (lw_S q1336 q1337 q60 q1338) rfl rfl rfl hdS_X6_saves ⟨Nat.le_of_ble_eq_true rfl, Nat.le_of_ble_eq_true rfl⟩) hK hP hD hS rfl hl.1 rfl (Nat.le_of_ble_eq_true rfl) ⟨Nat.le_of_ble_eq_true rfl, Nat.le_of_ble_eq_true rfl⟩ dX6_image_61 (fun r_10 M_9 H locs hq hP hD hS => ?_)
  obtain ⟨er_10, eM_9, hIM_9⟩ := hq
  subst er_10
  refine lv_istore_n (lv' := [(1, .int (iv (80))), (0, .ref (B 0))]) hx hb dX6_image_64 rfl hl (by decide) rfl (fun ls hl => ?_)
  refine lv_aload_n hx hb dX6_image_65 rfl (lv_at hl 1 rfl) ?_
  refine mg_6 hx hb hts hown hK hP dX6_image_66 ?_
  refine lv_aload_n hx hb dX6_image_69 rfl (lv_at hl 1 rfl) ?_
  refine mg_22 hx hb hts hown hK hP dX6_image_70 ?_
  refine lv_iload_n hx hb dX6_image_73 rfl (lv_at hl 0 rfl) ?_
  refine s_cI ⟨hx, hb, hml, hown, hts⟩ (m_saves_6 hIM_9) (va_cwS 3 hts (lw_S q1336 q1337 q60 q1338) rfl rfl rfl hdS_X6_saves ⟨Nat.le_of_ble_eq_true rfl, Nat.le_of_ble_eq_true rfl⟩) hK hP hD hS rfl hl.1 rfl (Nat.le_of_ble_eq_true rfl) ⟨Nat.le_of_ble_eq_true rfl, Nat.le_of_ble_eq_true rfl⟩ dX6_image_74 (fun r_12 M_11 H locs hq hP hD hS => ?_)
  obtain ⟨er_12, eM_11, hIM_11⟩ := hq
  subst er_12
  refine lv_istore_n (lv' := [(1, .int (iv (85))), (0, .ref (B 0))]) hx hb dX6_image_77 rfl hl (by decide) rfl (fun ls hl => ?_)
  refine lv_aload_n hx hb dX6_image_78 rfl (lv_at hl 1 rfl) ?_
  refine mg_8 hx hb hts hown hK hP dX6_image_79 ?_
  refine lv_aload_n hx hb dX6_image_82 rfl (lv_at hl 1 rfl) ?_
  refine mg_22 hx hb hts hown hK hP dX6_image_83 ?_
  refine lv_iload_n hx hb dX6_image_86 rfl (lv_at hl 0 rfl) ?_
  refine s_cI ⟨hx, hb, hml, hown, hts⟩ (m_saves_8 hIM_11) (va_cwS 3 hts (lw_S q1336 q1337 q60 q1338) rfl rfl rfl hdS_X6_saves ⟨Nat.le_of_ble_eq_true rfl, Nat.le_of_ble_eq_true rfl⟩) hK hP hD hS rfl hl.1 rfl (Nat.le_of_ble_eq_true rfl) ⟨Nat.le_of_ble_eq_true rfl, Nat.le_of_ble_eq_true rfl⟩ dX6_image_87 (fun r_14 M_13 H locs hq hP hD hS => ?_)
  obtain ⟨er_14, eM_13, hIM_13⟩ := hq
  subst er_14
  refine lv_istore_n (lv' := [(1, .int (iv (109))), (0, .ref (B 0))]) hx hb dX6_image_90 rfl hl (by decide) rfl (fun ls hl => ?_)
  refine lv_aload_n hx hb dX6_image_91 rfl (lv_at hl 1 rfl) ?_
  refine mg_17 hx hb hts hown hK hP dX6_image_92 ?_
  refine lv_aload_n hx hb dX6_image_95 rfl (lv_at hl 1 rfl) ?_
  refine mg_22 hx hb hts hown hK hP dX6_image_96 ?_
  refine lv_iload_n hx hb dX6_image_99 rfl (lv_at hl 0 rfl) ?_
  refine s_cI ⟨hx, hb, hml, hown, hts⟩ (m_saves_17 hIM_13) (va_cwS 3 hts (lw_S q1336 q1337 q60 q1338) rfl rfl rfl hdS_X6_saves ⟨Nat.le_of_ble_eq_true rfl, Nat.le_of_ble_eq_true rfl⟩) hK hP hD hS rfl hl.1 rfl (Nat.le_of_ble_eq_true rfl) ⟨Nat.le_of_ble_eq_true rfl, Nat.le_of_ble_eq_true rfl⟩ dX6_image_100 (fun r_16 M_15 H locs hq hP hD hS => ?_)
  obtain ⟨er_16, eM_15, hIM_15⟩ := hq
  subst er_16
  refine lv_istore_n (lv' := [(1, .int (iv (141))), (0, .ref (B 0))]) hx hb dX6_image_103 rfl hl (by decide) rfl (fun ls hl => ?_)
  refine lv_aload_n hx hb dX6_image_104 rfl (lv_at hl 1 rfl) ?_
  refine mg_20 hx hb hts hown hK hP dX6_image_105 ?_
  refine lv_aload_n hx hb dX6_image_108 rfl (lv_at hl 1 rfl) ?_
  refine mg_22 hx hb hts hown hK hP dX6_image_109 ?_
  refine lv_iload_n hx hb dX6_image_112 rfl (lv_at hl 0 rfl) ?_
  refine s_cI ⟨hx, hb, hml, hown, hts⟩ (m_saves_20 hIM_15) (va_cwS 3 hts (lw_S q1336 q1337 q60 q1338) rfl rfl rfl hdS_X6_saves ⟨Nat.le_of_ble_eq_true rfl, Nat.le_of_ble_eq_true rfl⟩) hK hP hD hS rfl hl.1 rfl (Nat.le_of_ble_eq_true rfl) ⟨Nat.le_of_ble_eq_true rfl, Nat.le_of_ble_eq_true rfl⟩ dX6_image_113 (fun r_18 M_17 H locs hq hP hD hS => ?_)
  obtain ⟨er_18, eM_17, hIM_17⟩ := hq
  subst er_18
  refine lv_istore_n (lv' := [(1, .int (iv (165))), (0, .ref (B 0))]) hx hb dX6_image_116 rfl hl (by decide) rfl (fun ls hl => ?_)
  refine lv_aload_n hx hb dX6_image_117 rfl (lv_at hl 1 rfl) ?_
  refine mg_21 hx hb hts hown hK hP dX6_image_118 ?_
  refine lv_aload_n hx hb dX6_image_121 rfl (lv_at hl 1 rfl) ?_
  refine mg_22 hx hb hts hown hK hP dX6_image_122 ?_
  refine lv_iload_n hx hb dX6_image_125 rfl (lv_at hl 0 rfl) ?_
  refine s_cI ⟨hx, hb, hml, hown, hts⟩ (m_saves_21 hIM_17) (va_cwS 3 hts (lw_S q1336 q1337 q60 q1338) rfl rfl rfl hdS_X6_saves ⟨Nat.le_of_ble_eq_true rfl, Nat.le_of_ble_eq_true rfl⟩) hK hP hD hS rfl hl.1 rfl (Nat.le_of_ble_eq_true rfl) ⟨Nat.le_of_ble_eq_true rfl, Nat.le_of_ble_eq_true rfl⟩ dX6_image_126 (fun r_20 M_19 H locs hq hP hD hS => ?_)
  obtain ⟨er_20, eM_19, hIM_19⟩ := hq
  subst er_20
  refine lv_istore_n (lv' := [(1, .int (iv (189))), (0, .ref (B 0))]) hx hb dX6_image_129 rfl hl (by decide) rfl (fun ls hl => ?_)
  refine lv_aload_n hx hb dX6_image_130 rfl (lv_at hl 1 rfl) ?_
  refine mg_22 hx hb hts hown hK hP dX6_image_131 ?_
  refine lv_iload_n hx hb dX6_image_134 rfl (lv_at hl 0 rfl) ?_
  refine lv_aload_n hx hb dX6_image_135 rfl (lv_at hl 1 rfl) ?_
  refine mg_5 hx hb hts hown hK hP dX6_image_136 ?_
  have b_21 := iM_5 (M := M_19) hIM_19 (0)
  refine m_ast hx hb hK hP hD hS 22 (n := 200) rfl (by decide) (by omega) dX6_image_139 (fun M_22 eM_22 H locs hP hD hS => ?_)
  have hIM_22 : InvM M_22 := iMs_22 hIM_19 eM_22 (by omega)
  refine lv_aload_n hx hb dX6_image_140 rfl (lv_at hl 1 rfl) ?_
  refine mg_22 hx hb hts hown hK hP dX6_image_141 ?_
  refine lv_iload_n hx hb dX6_image_144 rfl (lv_at hl 0 rfl) ?_
  refine r_iconst hx hb dX6_image_145 ?_
  refine r_iadd hx hb dX6_image_146 ?_
  refine lv_aload_n hx hb dX6_image_147 rfl (lv_at hl 1 rfl) ?_
  refine mg_7 hx hb hts hown hK hP dX6_image_148 ?_
  refine r_top (congrFun ((show M_22 7 = M_19 7 from by rw [eM_22]; exact upd2_k (by decide))) 0) ?_
  have b_24 := iM_7 (M := M_19) hIM_19 (0)
  refine m_ast hx hb hK hP hD hS 22 (n := 200) rfl (by decide) (by omega) dX6_image_151 (fun M_25 eM_25 H locs hP hD hS => ?_)
  have hIM_25 : InvM M_25 := iMs_22 hIM_22 eM_25 (by omega)
  refine lv_aload_n hx hb dX6_image_152 rfl (lv_at hl 1 rfl) ?_
  refine mg_22 hx hb hts hown hK hP dX6_image_153 ?_
  refine lv_iload_n hx hb dX6_image_156 rfl (lv_at hl 0 rfl) ?_
  refine r_iconst hx hb dX6_image_157 ?_
  refine r_iadd hx hb dX6_image_158 ?_
  refine lv_aload_n hx hb dX6_image_159 rfl (lv_at hl 1 rfl) ?_
  refine mg_16 hx hb hts hown hK hP dX6_image_160 ?_
  refine r_top (congrFun (((show M_25 16 = M_22 16 from by rw [eM_25]; exact upd2_k (by decide))).trans (show M_22 16 = M_19 16 from by rw [eM_22]; exact upd2_k (by decide))) 0) ?_
  have b_27 := iM_16 (M := M_19) hIM_19 (0)
  refine m_ast hx hb hK hP hD hS 22 (n := 200) rfl (by decide) (by omega) dX6_image_163 (fun M_28 eM_28 H locs hP hD hS => ?_)
  have hIM_28 : InvM M_28 := iMs_22 hIM_25 eM_28 (by omega)
  refine lv_aload_n hx hb dX6_image_164 rfl (lv_at hl 1 rfl) ?_
  refine mg_22 hx hb hts hown hK hP dX6_image_165 ?_
  refine lv_iload_n hx hb dX6_image_168 rfl (lv_at hl 0 rfl) ?_
  refine r_iconst hx hb dX6_image_169 ?_
  refine r_iadd hx hb dX6_image_170 ?_
  refine lv_aload_n hx hb dX6_image_171 rfl (lv_at hl 1 rfl) ?_
  refine mg_19 hx hb hts hown hK hP dX6_image_172 ?_
  refine r_top (congrFun ((((show M_28 19 = M_25 19 from by rw [eM_28]; exact upd2_k (by decide))).trans (show M_25 19 = M_22 19 from by rw [eM_25]; exact upd2_k (by decide))).trans (show M_22 19 = M_19 19 from by rw [eM_22]; exact upd2_k (by decide))) 0) ?_
  have b_30 := iM_19 (M := M_19) hIM_19 (0)
  refine m_ast hx hb hK hP hD hS 22 (n := 200) rfl (by decide) (by omega) dX6_image_175 (fun M_31 eM_31 H locs hP hD hS => ?_)
  have hIM_31 : InvM M_31 := iMs_22 hIM_28 eM_31 (by omega)
  refine lv_aload_n hx hb dX6_image_176 rfl (lv_at hl 1 rfl) ?_
  refine r_iconst hx hb dX6_image_177 ?_
  refine mp_23 hx hb hts hown hK hP hD hS (by decide) dX6_image_178 (fun M_32 eM_32 H locs hP hD hS => ?_)
  have hIM_32 : InvM M_32 := iMs_23 hIM_31 eM_32 (by omega)
  refine r_iconst hx hb dX6_image_181 ?_
  exact r_iretS hx hb hr hlk hQ M_32 ⟨rfl, by unfold imgM imgM' im10; rw [← eM_1, ← eM_3, ← eM_5, ← eM_7, ← eM_9, ← eM_11, ← eM_13, ← eM_15, ← eM_17, ← eM_19]; rw [eM_32, eM_31, eM_28, eM_25, eM_22]; rfl, hIM_32⟩ (fun t ht _ => ⟨by rw [ht]; exact hP, hD⟩) hS dX6_image_182
set_option maxHeartbeats 4000000 in
set_option maxRecDepth 100000 in
theorem m_restore {l : Launch} {D : va_G} {cI : ClassId} {B : Nat → Nat} {A : Nat → Prop} {M : St} (hI : InvM M)   : Met l yX6_restore (ws_ yX6_restore cX6_restore 2 (some .int)) (rmk 2 0 0) (va_Pc [.ref (B 0)] (mUS D cI A (mW cI B M))) (va_Qi (fun r M1 => r = iv (if M 23 0 = 0 then -4 else 1) ∧ M1 = (if M 23 0 = 0 then M else resM M) ∧ InvM M1) (mB D cI B A) A) 0 0 A := by
  refine r_met (by decide) _ rfl (Nat.le_of_ble_eq_true rfl) ?_
  intro p e s m args below meth c Q ls hx hb hr hlk hml hown hts hpre hQ hl
  obtain ⟨hP, hD, hK⟩ := hpre
  have hS : va_S A s.heap s.heap [] := va_S.rf
  have hown : s.vm.findClass RX6 = some m.cls := hown
  have hl : lv_has ls 2 [(0, .ref (B 0))] := hl
  refine lv_aload_n hx hb dX6_restore_0 rfl (lv_at hl 0 rfl) ?_
  refine mg_23 hx hb hts hown hK hP dX6_restore_1 ?_
  have b_1 := iM_23 (M := M) hI (0)
  refine r_if_ne (tgt := 10) hx hb dX6_restore_4 (by decide) (by omega) (fun c_2 => ?_) (fun c_2 => ?_)
  rotate_left
  · refine r_bipush hx hb (by decide) dX6_restore_7 ?_
    exact r_iretS hx hb hr hlk hQ M ⟨congrArg iv (if_pos (by omega)).symm, (if_pos (by omega)).symm, hI⟩ (fun t ht _ => ⟨by rw [ht]; exact hP, hD⟩) hS dX6_restore_9
  refine lv_aload_n hx hb dX6_restore_10 rfl (lv_at hl 0 rfl) ?_
  refine mg_22 hx hb hts hown hK hP dX6_restore_11 ?_
  refine r_iconst hx hb dX6_restore_14 ?_
  refine lv_aload_n hx hb dX6_restore_15 rfl (lv_at hl 0 rfl) ?_
  refine mg_0 hx hb hts hown hK hP dX6_restore_16 ?_
  refine s_cI ⟨hx, hb, hml, hown, hts⟩ (m_gives_0 hI) (va_cwS 3 hts (lw_S q1343 q1344 q60 q1345) rfl rfl rfl hdS_X6_gives ⟨Nat.le_of_ble_eq_true rfl, Nat.le_of_ble_eq_true rfl⟩) hK hP hD hS rfl hl.1 rfl (Nat.le_of_ble_eq_true rfl) ⟨Nat.le_of_ble_eq_true rfl, Nat.le_of_ble_eq_true rfl⟩ dX6_restore_19 (fun r_4 M_3 H locs hq hP hD hS => ?_)
  obtain ⟨er_4, eM_3, hIM_3⟩ := hq
  subst er_4
  refine lv_istore_n (lv' := [(1, .int (iv (16))), (0, .ref (B 0))]) hx hb dX6_restore_22 rfl hl (by decide) rfl (fun ls hl => ?_)
  refine lv_aload_n hx hb dX6_restore_23 rfl (lv_at hl 1 rfl) ?_
  refine mg_22 hx hb hts hown hK hP dX6_restore_24 ?_
  refine lv_iload_n hx hb dX6_restore_27 rfl (lv_at hl 0 rfl) ?_
  refine lv_aload_n hx hb dX6_restore_28 rfl (lv_at hl 1 rfl) ?_
  refine mg_1 hx hb hts hown hK hP dX6_restore_29 ?_
  refine s_cI ⟨hx, hb, hml, hown, hts⟩ (m_gives_1 hIM_3) (va_cwS 3 hts (lw_S q1343 q1344 q60 q1345) rfl rfl rfl hdS_X6_gives ⟨Nat.le_of_ble_eq_true rfl, Nat.le_of_ble_eq_true rfl⟩) hK hP hD hS rfl hl.1 rfl (Nat.le_of_ble_eq_true rfl) ⟨Nat.le_of_ble_eq_true rfl, Nat.le_of_ble_eq_true rfl⟩ dX6_restore_32 (fun r_6 M_5 H locs hq hP hD hS => ?_)
  obtain ⟨er_6, eM_5, hIM_5⟩ := hq
  subst er_6
  refine lv_istore_n (lv' := [(1, .int (iv (32))), (0, .ref (B 0))]) hx hb dX6_restore_35 rfl hl (by decide) rfl (fun ls hl => ?_)
  refine lv_aload_n hx hb dX6_restore_36 rfl (lv_at hl 1 rfl) ?_
  refine mg_22 hx hb hts hown hK hP dX6_restore_37 ?_
  refine lv_iload_n hx hb dX6_restore_40 rfl (lv_at hl 0 rfl) ?_
  refine lv_aload_n hx hb dX6_restore_41 rfl (lv_at hl 1 rfl) ?_
  refine mg_2 hx hb hts hown hK hP dX6_restore_42 ?_
  refine s_cI ⟨hx, hb, hml, hown, hts⟩ (m_gives_2 hIM_5) (va_cwS 3 hts (lw_S q1343 q1344 q60 q1345) rfl rfl rfl hdS_X6_gives ⟨Nat.le_of_ble_eq_true rfl, Nat.le_of_ble_eq_true rfl⟩) hK hP hD hS rfl hl.1 rfl (Nat.le_of_ble_eq_true rfl) ⟨Nat.le_of_ble_eq_true rfl, Nat.le_of_ble_eq_true rfl⟩ dX6_restore_45 (fun r_8 M_7 H locs hq hP hD hS => ?_)
  obtain ⟨er_8, eM_7, hIM_7⟩ := hq
  subst er_8
  refine lv_istore_n (lv' := [(1, .int (iv (48))), (0, .ref (B 0))]) hx hb dX6_restore_48 rfl hl (by decide) rfl (fun ls hl => ?_)
  refine lv_aload_n hx hb dX6_restore_49 rfl (lv_at hl 1 rfl) ?_
  refine mg_22 hx hb hts hown hK hP dX6_restore_50 ?_
  refine lv_iload_n hx hb dX6_restore_53 rfl (lv_at hl 0 rfl) ?_
  refine lv_aload_n hx hb dX6_restore_54 rfl (lv_at hl 1 rfl) ?_
  refine mg_3 hx hb hts hown hK hP dX6_restore_55 ?_
  refine s_cI ⟨hx, hb, hml, hown, hts⟩ (m_gives_3 hIM_7) (va_cwS 3 hts (lw_S q1343 q1344 q60 q1345) rfl rfl rfl hdS_X6_gives ⟨Nat.le_of_ble_eq_true rfl, Nat.le_of_ble_eq_true rfl⟩) hK hP hD hS rfl hl.1 rfl (Nat.le_of_ble_eq_true rfl) ⟨Nat.le_of_ble_eq_true rfl, Nat.le_of_ble_eq_true rfl⟩ dX6_restore_58 (fun r_10 M_9 H locs hq hP hD hS => ?_)
  obtain ⟨er_10, eM_9, hIM_9⟩ := hq
  subst er_10
  refine lv_istore_n (lv' := [(1, .int (iv (64))), (0, .ref (B 0))]) hx hb dX6_restore_61 rfl hl (by decide) rfl (fun ls hl => ?_)
  refine lv_aload_n hx hb dX6_restore_62 rfl (lv_at hl 1 rfl) ?_
  refine mg_22 hx hb hts hown hK hP dX6_restore_63 ?_
  refine lv_iload_n hx hb dX6_restore_66 rfl (lv_at hl 0 rfl) ?_
  refine lv_aload_n hx hb dX6_restore_67 rfl (lv_at hl 1 rfl) ?_
  refine mg_4 hx hb hts hown hK hP dX6_restore_68 ?_
  refine s_cI ⟨hx, hb, hml, hown, hts⟩ (m_gives_4 hIM_9) (va_cwS 3 hts (lw_S q1343 q1344 q60 q1345) rfl rfl rfl hdS_X6_gives ⟨Nat.le_of_ble_eq_true rfl, Nat.le_of_ble_eq_true rfl⟩) hK hP hD hS rfl hl.1 rfl (Nat.le_of_ble_eq_true rfl) ⟨Nat.le_of_ble_eq_true rfl, Nat.le_of_ble_eq_true rfl⟩ dX6_restore_71 (fun r_12 M_11 H locs hq hP hD hS => ?_)
  obtain ⟨er_12, eM_11, hIM_11⟩ := hq
  subst er_12
  refine lv_istore_n (lv' := [(1, .int (iv (80))), (0, .ref (B 0))]) hx hb dX6_restore_74 rfl hl (by decide) rfl (fun ls hl => ?_)
  refine lv_aload_n hx hb dX6_restore_75 rfl (lv_at hl 1 rfl) ?_
  refine mg_22 hx hb hts hown hK hP dX6_restore_76 ?_
  refine lv_iload_n hx hb dX6_restore_79 rfl (lv_at hl 0 rfl) ?_
  refine lv_aload_n hx hb dX6_restore_80 rfl (lv_at hl 1 rfl) ?_
  refine mg_6 hx hb hts hown hK hP dX6_restore_81 ?_
  refine s_cI ⟨hx, hb, hml, hown, hts⟩ (m_gives_6 hIM_11) (va_cwS 3 hts (lw_S q1343 q1344 q60 q1345) rfl rfl rfl hdS_X6_gives ⟨Nat.le_of_ble_eq_true rfl, Nat.le_of_ble_eq_true rfl⟩) hK hP hD hS rfl hl.1 rfl (Nat.le_of_ble_eq_true rfl) ⟨Nat.le_of_ble_eq_true rfl, Nat.le_of_ble_eq_true rfl⟩ dX6_restore_84 (fun r_14 M_13 H locs hq hP hD hS => ?_)
  obtain ⟨er_14, eM_13, hIM_13⟩ := hq
  subst er_14
  refine lv_istore_n (lv' := [(1, .int (iv (85))), (0, .ref (B 0))]) hx hb dX6_restore_87 rfl hl (by decide) rfl (fun ls hl => ?_)
  refine lv_aload_n hx hb dX6_restore_88 rfl (lv_at hl 1 rfl) ?_
  refine mg_22 hx hb hts hown hK hP dX6_restore_89 ?_
  refine lv_iload_n hx hb dX6_restore_92 rfl (lv_at hl 0 rfl) ?_
  refine lv_aload_n hx hb dX6_restore_93 rfl (lv_at hl 1 rfl) ?_
  refine mg_8 hx hb hts hown hK hP dX6_restore_94 ?_
  refine s_cI ⟨hx, hb, hml, hown, hts⟩ (m_gives_8 hIM_13) (va_cwS 3 hts (lw_S q1343 q1344 q60 q1345) rfl rfl rfl hdS_X6_gives ⟨Nat.le_of_ble_eq_true rfl, Nat.le_of_ble_eq_true rfl⟩) hK hP hD hS rfl hl.1 rfl (Nat.le_of_ble_eq_true rfl) ⟨Nat.le_of_ble_eq_true rfl, Nat.le_of_ble_eq_true rfl⟩ dX6_restore_97 (fun r_16 M_15 H locs hq hP hD hS => ?_)
  obtain ⟨er_16, eM_15, hIM_15⟩ := hq
  subst er_16
  refine lv_istore_n (lv' := [(1, .int (iv (109))), (0, .ref (B 0))]) hx hb dX6_restore_100 rfl hl (by decide) rfl (fun ls hl => ?_)
  refine lv_aload_n hx hb dX6_restore_101 rfl (lv_at hl 1 rfl) ?_
  refine mg_22 hx hb hts hown hK hP dX6_restore_102 ?_
  refine lv_iload_n hx hb dX6_restore_105 rfl (lv_at hl 0 rfl) ?_
  refine lv_aload_n hx hb dX6_restore_106 rfl (lv_at hl 1 rfl) ?_
  refine mg_17 hx hb hts hown hK hP dX6_restore_107 ?_
  refine s_cI ⟨hx, hb, hml, hown, hts⟩ (m_gives_17 hIM_15) (va_cwS 3 hts (lw_S q1343 q1344 q60 q1345) rfl rfl rfl hdS_X6_gives ⟨Nat.le_of_ble_eq_true rfl, Nat.le_of_ble_eq_true rfl⟩) hK hP hD hS rfl hl.1 rfl (Nat.le_of_ble_eq_true rfl) ⟨Nat.le_of_ble_eq_true rfl, Nat.le_of_ble_eq_true rfl⟩ dX6_restore_110 (fun r_18 M_17 H locs hq hP hD hS => ?_)
  obtain ⟨er_18, eM_17, hIM_17⟩ := hq
  subst er_18
  refine lv_istore_n (lv' := [(1, .int (iv (141))), (0, .ref (B 0))]) hx hb dX6_restore_113 rfl hl (by decide) rfl (fun ls hl => ?_)
  refine lv_aload_n hx hb dX6_restore_114 rfl (lv_at hl 1 rfl) ?_
  refine mg_22 hx hb hts hown hK hP dX6_restore_115 ?_
  refine lv_iload_n hx hb dX6_restore_118 rfl (lv_at hl 0 rfl) ?_
  refine lv_aload_n hx hb dX6_restore_119 rfl (lv_at hl 1 rfl) ?_
  refine mg_20 hx hb hts hown hK hP dX6_restore_120 ?_
  refine s_cI ⟨hx, hb, hml, hown, hts⟩ (m_gives_20 hIM_17) (va_cwS 3 hts (lw_S q1343 q1344 q60 q1345) rfl rfl rfl hdS_X6_gives ⟨Nat.le_of_ble_eq_true rfl, Nat.le_of_ble_eq_true rfl⟩) hK hP hD hS rfl hl.1 rfl (Nat.le_of_ble_eq_true rfl) ⟨Nat.le_of_ble_eq_true rfl, Nat.le_of_ble_eq_true rfl⟩ dX6_restore_123 (fun r_20 M_19 H locs hq hP hD hS => ?_)
  obtain ⟨er_20, eM_19, hIM_19⟩ := hq
  subst er_20
  refine lv_istore_n (lv' := [(1, .int (iv (165))), (0, .ref (B 0))]) hx hb dX6_restore_126 rfl hl (by decide) rfl (fun ls hl => ?_)
  refine lv_aload_n hx hb dX6_restore_127 rfl (lv_at hl 1 rfl) ?_
  refine mg_22 hx hb hts hown hK hP dX6_restore_128 ?_
  refine lv_iload_n hx hb dX6_restore_131 rfl (lv_at hl 0 rfl) ?_
  refine lv_aload_n hx hb dX6_restore_132 rfl (lv_at hl 1 rfl) ?_
  refine mg_21 hx hb hts hown hK hP dX6_restore_133 ?_
  refine s_cI ⟨hx, hb, hml, hown, hts⟩ (m_gives_21 hIM_19) (va_cwS 3 hts (lw_S q1343 q1344 q60 q1345) rfl rfl rfl hdS_X6_gives ⟨Nat.le_of_ble_eq_true rfl, Nat.le_of_ble_eq_true rfl⟩) hK hP hD hS rfl hl.1 rfl (Nat.le_of_ble_eq_true rfl) ⟨Nat.le_of_ble_eq_true rfl, Nat.le_of_ble_eq_true rfl⟩ dX6_restore_136 (fun r_22 M_21 H locs hq hP hD hS => ?_)
  obtain ⟨er_22, eM_21, hIM_21⟩ := hq
  subst er_22
  refine lv_istore_n (lv' := [(1, .int (iv (189))), (0, .ref (B 0))]) hx hb dX6_restore_139 rfl hl (by decide) rfl (fun ls hl => ?_)
  refine lv_aload_n hx hb dX6_restore_140 rfl (lv_at hl 1 rfl) ?_
  refine lv_aload_n hx hb dX6_restore_141 rfl (lv_at hl 1 rfl) ?_
  refine mg_22 hx hb hts hown hK hP dX6_restore_142 ?_
  refine lv_iload_n hx hb dX6_restore_145 rfl (lv_at hl 0 rfl) ?_
  refine m_ald hx hb hK hP 22 (n := 200) rfl (by decide) (by omega) dX6_restore_146 ?_
  have b_23 := iM_22b (M := M_21) hIM_21 (189)
  refine mp_5 hx hb hts hown hK hP hD hS dX6_restore_147 (fun M_24 eM_24 H locs hP hD hS => ?_)
  have hIM_24 : InvM M_24 := iMs_5 hIM_21 eM_24 (by omega)
  refine lv_aload_n hx hb dX6_restore_150 rfl (lv_at hl 1 rfl) ?_
  refine lv_aload_n hx hb dX6_restore_151 rfl (lv_at hl 1 rfl) ?_
  refine mg_22 hx hb hts hown hK hP dX6_restore_152 ?_
  refine lv_iload_n hx hb dX6_restore_155 rfl (lv_at hl 0 rfl) ?_
  refine r_iconst hx hb dX6_restore_156 ?_
  refine r_iadd hx hb dX6_restore_157 ?_
  refine m_ald hx hb hK hP 22 (n := 200) rfl (by decide) (by omega) dX6_restore_158 ?_
  refine r_top (congrFun ((show M_24 22 = M_21 22 from by rw [eM_24]; exact upd2_k (by decide))) _) ?_
  have b_25 := iM_22b (M := M_21) hIM_21 (189 + 1)
  refine mp_7 hx hb hts hown hK hP hD hS dX6_restore_159 (fun M_26 eM_26 H locs hP hD hS => ?_)
  have hIM_26 : InvM M_26 := iMs_7 hIM_24 eM_26 (by omega)
  refine lv_aload_n hx hb dX6_restore_162 rfl (lv_at hl 1 rfl) ?_
  refine lv_aload_n hx hb dX6_restore_163 rfl (lv_at hl 1 rfl) ?_
  refine mg_22 hx hb hts hown hK hP dX6_restore_164 ?_
  refine lv_iload_n hx hb dX6_restore_167 rfl (lv_at hl 0 rfl) ?_
  refine r_iconst hx hb dX6_restore_168 ?_
  refine r_iadd hx hb dX6_restore_169 ?_
  refine m_ald hx hb hK hP 22 (n := 200) rfl (by decide) (by omega) dX6_restore_170 ?_
  refine r_top (congrFun (((show M_26 22 = M_24 22 from by rw [eM_26]; exact upd2_k (by decide))).trans (show M_24 22 = M_21 22 from by rw [eM_24]; exact upd2_k (by decide))) _) ?_
  have b_27 := iM_22b (M := M_21) hIM_21 (189 + 2)
  refine mp_16 hx hb hts hown hK hP hD hS dX6_restore_171 (fun M_28 eM_28 H locs hP hD hS => ?_)
  have hIM_28 : InvM M_28 := iMs_16 hIM_26 eM_28 (by omega)
  refine lv_aload_n hx hb dX6_restore_174 rfl (lv_at hl 1 rfl) ?_
  refine lv_aload_n hx hb dX6_restore_175 rfl (lv_at hl 1 rfl) ?_
  refine mg_22 hx hb hts hown hK hP dX6_restore_176 ?_
  refine lv_iload_n hx hb dX6_restore_179 rfl (lv_at hl 0 rfl) ?_
  refine r_iconst hx hb dX6_restore_180 ?_
  refine r_iadd hx hb dX6_restore_181 ?_
  refine m_ald hx hb hK hP 22 (n := 200) rfl (by decide) (by omega) dX6_restore_182 ?_
  refine r_top (congrFun ((((show M_28 22 = M_26 22 from by rw [eM_28]; exact upd2_k (by decide))).trans (show M_26 22 = M_24 22 from by rw [eM_26]; exact upd2_k (by decide))).trans (show M_24 22 = M_21 22 from by rw [eM_24]; exact upd2_k (by decide))) _) ?_
  have b_29 := iM_22b (M := M_21) hIM_21 (189 + 3)
  refine mp_19 hx hb hts hown hK hP hD hS dX6_restore_183 (fun M_30 eM_30 H locs hP hD hS => ?_)
  have hIM_30 : InvM M_30 := iMs_19 hIM_28 eM_30 (by omega)
  refine r_iconst hx hb dX6_restore_186 ?_
  exact r_iretS hx hb hr hlk hQ M_30 ⟨congrArg iv (if_neg (by omega)).symm, by rw [if_neg (by omega)]; unfold resM resM' re10; rw [← eM_3, ← eM_5, ← eM_7, ← eM_9, ← eM_11, ← eM_13, ← eM_15, ← eM_17, ← eM_19, ← eM_21]; rw [eM_30, eM_28, eM_26, eM_24]; rfl, hIM_30⟩ (fun t ht _ => ⟨by rw [ht]; exact hP, hD⟩) hS dX6_restore_187
set_option maxHeartbeats 4000000 in
set_option maxRecDepth 100000 in
theorem m_eyes {l : Launch} {D : va_G} {cI : ClassId} {B : Nat → Nat} {A : Nat → Prop} {M : St} (hI : InvM M) {beat : Int} {sheet : Int} {lane : Int} {i : Int} {n : Int} (g_beat : -2147483648 ≤ beat ∧ beat ≤ 2147483647) (g_sheet : -2147483648 ≤ sheet ∧ sheet ≤ 2147483647) (g_lane : -2147483648 ≤ lane ∧ lane ≤ 2147483647) (g_i : -2147483648 ≤ i ∧ i ≤ 2147483647) (g_n : -2147483648 ≤ n ∧ n ≤ 2147483647) : Met l yX6_eyes (ws_ yX6_eyes cX6_eyes 10 (some .int)) (rmk 3 0 0) (va_Pc [.ref (B 0), .int (iv beat), .int (iv sheet), .int (iv lane), .int (iv i), .int (iv n)] (mUS D cI A (mW cI B M))) (va_Qi (fun r M1 => r = iv (eyR M beat sheet lane i n) ∧ M1 = eyM M beat sheet lane i n ∧ InvM M1) (mB D cI B A) A) 0 0 A := by
  refine r_met (by decide) _ rfl (Nat.le_of_ble_eq_true rfl) ?_
  intro p e s m args below meth c Q ls hx hb hr hlk hml hown hts hpre hQ hl
  obtain ⟨hP, hD, hK⟩ := hpre
  have hS : va_S A s.heap s.heap [] := va_S.rf
  have hown : s.vm.findClass RX6 = some m.cls := hown
  have hl : lv_has ls 10 [(0, .ref (B 0)), (1, .int (iv (beat))), (2, .int (iv (sheet))), (3, .int (iv (lane))), (4, .int (iv (i))), (5, .int (iv (n)))] := hl
  have b19 := iM_19 hI 0
  refine lv_iload_n hx hb dX6_eyes_0 rfl (lv_at hl 1 rfl) ?_
  refine s_cR ⟨hx, hb, hml, hown, hts⟩ (m_isBeat (b := beat) (by omega)) (va_cwS 1 hts (lw_S q1107 q1108 q60 q1109) rfl rfl rfl hdS_X6_isBeat ⟨Nat.le_of_ble_eq_true rfl, Nat.le_of_ble_eq_true rfl⟩) rfl hl.1 rfl (Nat.le_of_ble_eq_true rfl) ⟨Nat.le_of_ble_eq_true rfl, Nat.le_of_ble_eq_true rfl⟩ dX6_eyes_1 ?_
  refine r_ifz_eq (tgt := 43) hx hb dX6_eyes_4 (by decide) (fun c_1 => ?_) (fun c_1 => ?_)
  · refine r_iconst hx hb dX6_eyes_43 ?_
    exact r_iretS hx hb hr hlk hQ M ⟨congrArg iv (by unfold eyR; exact (if_neg (by omega)).symm), (by unfold eyM; exact (if_neg (by omega)).symm), hI⟩ (fun t ht _ => ⟨by rw [ht]; exact hP, hD⟩) hS dX6_eyes_44
  refine lv_iload_n hx hb dX6_eyes_7 rfl (lv_at hl 2 rfl) ?_
  refine s_cR ⟨hx, hb, hml, hown, hts⟩ (m_isSheet (q := sheet) (by omega)) (va_cwS 1 hts (lw_S q1350 q1351 q60 q1352) rfl rfl rfl hdS_X6_isSheet ⟨Nat.le_of_ble_eq_true rfl, Nat.le_of_ble_eq_true rfl⟩) rfl hl.1 rfl (Nat.le_of_ble_eq_true rfl) ⟨Nat.le_of_ble_eq_true rfl, Nat.le_of_ble_eq_true rfl⟩ dX6_eyes_8 ?_
  refine r_ifz_eq (tgt := 43) hx hb dX6_eyes_11 (by decide) (fun c_2 => ?_) (fun c_2 => ?_)
  · refine r_iconst hx hb dX6_eyes_43 ?_
    exact r_iretS hx hb hr hlk hQ M ⟨congrArg iv (by unfold eyR; exact (if_neg (by omega)).symm), (by unfold eyM; exact (if_neg (by omega)).symm), hI⟩ (fun t ht _ => ⟨by rw [ht]; exact hP, hD⟩) hS dX6_eyes_44
  refine lv_iload_n hx hb dX6_eyes_14 rfl (lv_at hl 3 rfl) ?_
  refine s_cR ⟨hx, hb, hml, hown, hts⟩ (m_isLane (q := lane) (by omega)) (va_cwS 1 hts (lw_S q1353 q1354 q60 q1355) rfl rfl rfl hdS_X6_isLane ⟨Nat.le_of_ble_eq_true rfl, Nat.le_of_ble_eq_true rfl⟩) rfl hl.1 rfl (Nat.le_of_ble_eq_true rfl) ⟨Nat.le_of_ble_eq_true rfl, Nat.le_of_ble_eq_true rfl⟩ dX6_eyes_15 ?_
  refine r_ifz_eq (tgt := 43) hx hb dX6_eyes_18 (by decide) (fun c_3 => ?_) (fun c_3 => ?_)
  · refine r_iconst hx hb dX6_eyes_43 ?_
    exact r_iretS hx hb hr hlk hQ M ⟨congrArg iv (by unfold eyR; exact (if_neg (by omega)).symm), (by unfold eyM; exact (if_neg (by omega)).symm), hI⟩ (fun t ht _ => ⟨by rw [ht]; exact hP, hD⟩) hS dX6_eyes_44
  refine lv_iload hx hb dX6_eyes_21 (lv_at hl 5 rfl) ?_
  refine r_i2l hx hb (by omega) dX6_eyes_23 ?_
  refine r_lconst hx hb 1 (by decide) dX6_eyes_24 ?_
  refine r_ldc2 hx hb (16) (by decide) hown (hts _ q1356) dX6_eyes_25 ?_
  refine s_cR ⟨hx, hb, hml, hown, hts⟩ (m_in (v := n) (low := 1) (high := 16) (by omega) (by decide) (by decide)) (va_cwS 3 hts (lw_S q1111 q1112 q60 q1113) rfl rfl rfl hdS_X6_in ⟨Nat.le_of_ble_eq_true rfl, Nat.le_of_ble_eq_true rfl⟩) rfl hl.1 rfl (Nat.le_of_ble_eq_true rfl) ⟨Nat.le_of_ble_eq_true rfl, Nat.le_of_ble_eq_true rfl⟩ dX6_eyes_28 ?_
  refine r_ifz_eq (tgt := 43) hx hb dX6_eyes_31 (by decide) (fun c_4 => ?_) (fun c_4 => ?_)
  · refine r_iconst hx hb dX6_eyes_43 ?_
    exact r_iretS hx hb hr hlk hQ M ⟨congrArg iv (by unfold eyR; exact (if_neg (by omega)).symm), (by unfold eyM; exact (if_neg (by omega)).symm), hI⟩ (fun t ht _ => ⟨by rw [ht]; exact hP, hD⟩) hS dX6_eyes_44
  refine lv_iload_n hx hb dX6_eyes_34 rfl (lv_at hl 1 rfl) ?_
  refine lv_iload hx hb dX6_eyes_35 (lv_at hl 5 rfl) ?_
  refine r_iadd hx hb dX6_eyes_37 ?_
  refine r_bipush hx hb (by decide) dX6_eyes_38 ?_
  refine r_icmp_le (tgt := 45) hx hb dX6_eyes_40 (by decide) (by omega) (by omega) (fun c_5 => ?_) (fun c_5 => ?_)
  rotate_left
  · refine r_iconst hx hb dX6_eyes_43 ?_
    exact r_iretS hx hb hr hlk hQ M ⟨congrArg iv (by unfold eyR; exact (if_neg (by omega)).symm), (by unfold eyM; exact (if_neg (by omega)).symm), hI⟩ (fun t ht _ => ⟨by rw [ht]; exact hP, hD⟩) hS dX6_eyes_44
  refine lv_aload_n hx hb dX6_eyes_45 rfl (lv_at hl 0 rfl) ?_
  refine lv_iload_n hx hb dX6_eyes_46 rfl (lv_at hl 2 rfl) ?_
  refine lv_iload_n hx hb dX6_eyes_47 rfl (lv_at hl 3 rfl) ?_
  refine lv_iload hx hb dX6_eyes_48 (lv_at hl 4 rfl) ?_
  refine lv_iload hx hb dX6_eyes_50 (lv_at hl 5 rfl) ?_
  refine m_cR ⟨hx, hb, hml, hown, hts⟩ (m_finds hI (sheet := sheet) (lane := lane) (i := i) (n := n) (by omega) (by omega) (by omega) (by omega)) (cwV 4 hts (lw_V q1357 q1359 qs47 q60 q1360) rfl rfl rfl hdV_X6_finds ⟨Nat.le_of_ble_eq_true rfl, Nat.le_of_ble_eq_true rfl⟩) hK hP rfl hl.1 rfl (Nat.le_of_ble_eq_true rfl) ⟨Nat.le_of_ble_eq_true rfl, Nat.le_of_ble_eq_true rfl⟩ dX6_eyes_52 ?_
  have f_6 := findsV_r M sheet lane i n
  have f_7 := iM_25 hI sheet
  refine lv_istore (lv' := [(6, .int (iv (findsV M sheet lane i n))), (0, .ref (B 0)), (1, .int (iv (beat))), (2, .int (iv (sheet))), (3, .int (iv (lane))), (4, .int (iv (i))), (5, .int (iv (n)))]) hx hb dX6_eyes_55 hl (by decide) rfl (fun ls hl => ?_)
  refine lv_iload hx hb dX6_eyes_57 (lv_at hl 0 rfl) ?_
  refine r_if_ge (tgt := 65) hx hb dX6_eyes_59 (by decide) (by omega) (fun c_8 => ?_) (fun c_8 => ?_)
  rotate_left
  · refine lv_iload hx hb dX6_eyes_62 (lv_at hl 0 rfl) ?_
    exact r_iretS hx hb hr hlk hQ M ⟨congrArg iv (by unfold eyR; rw [if_pos (by omega), if_pos (by omega)]), (by unfold eyM; rw [if_pos (by omega), if_pos (by omega)]), hI⟩ (fun t ht _ => ⟨by rw [ht]; exact hP, hD⟩) hS dX6_eyes_64
  refine r_iconst hx hb dX6_eyes_65 ?_
  refine lv_istore (lv' := [(7, .int (iv (0))), (6, .int (iv (findsV M sheet lane i n))), (0, .ref (B 0)), (1, .int (iv (beat))), (2, .int (iv (sheet))), (3, .int (iv (lane))), (4, .int (iv (i))), (5, .int (iv (n)))]) hx hb dX6_eyes_66 hl (by decide) rfl (fun ls hl => ?_)
  refine r_iconst hx hb dX6_eyes_68 ?_
  refine lv_istore (lv' := [(8, .int (iv (0))), (7, .int (iv (0))), (6, .int (iv (findsV M sheet lane i n))), (0, .ref (B 0)), (1, .int (iv (beat))), (2, .int (iv (sheet))), (3, .int (iv (lane))), (4, .int (iv (i))), (5, .int (iv (n)))]) hx hb dX6_eyes_69 hl (by decide) rfl (fun ls hl => ?_)
  have lp_71 : ∀ (n_71 : Nat) (many : Int) (k : Int), n - k < (n_71 : Int) → (0 ≤ k) → (k ≤ n) → (∀ j, 0 ≤ j → j < k → -1 ≤ M 26 ((16 * sheet + i) + j) ∧ M 26 ((16 * sheet + i) + j) ≤ 3) → (many = eyV (M 26) (16 * sheet + i) k) → (0 ≤ many ∧ many ≤ k) → ∀ (ls : Array Slot), lv_has ls 10 [(0, .ref (B 0)), (1, .int (iv (beat))), (2, .int (iv (sheet))), (3, .int (iv (lane))), (4, .int (iv (i))), (5, .int (iv (n))), (6, .int (iv (findsV M sheet lane i n))), (7, .int (iv (many))), (8, .int (iv (k)))] → W p l e (rmk 3 0 0) s m args below meth c s.heap [] 0 0 Q (F0 m 71 ls []) := by
    intro n_71
    induction n_71 with
    | zero =>
      intro many k hn_71 h0 h1 h2 h3 h4 ls hl
      exfalso
      omega
    | succ n_71 ih_71 =>
      intro many k hn_71 h0 h1 h2 h3 h4 ls hl
      refine lv_iload hx hb dX6_eyes_71 (lv_at hl 8 rfl) ?_
      refine lv_iload hx hb dX6_eyes_73 (lv_at hl 5 rfl) ?_
      refine r_icmp_ge (tgt := 134) hx hb dX6_eyes_75 (by decide) (by omega) (by omega) (fun c_9 => ?_) (fun c_9 => ?_)
      rotate_left
      · refine lv_aload_n hx hb dX6_eyes_78 rfl (lv_at hl 0 rfl) ?_
        refine mg_26 hx hb hts hown hK hP dX6_eyes_79 ?_
        refine r_bipush hx hb (by decide) dX6_eyes_82 ?_
        refine lv_iload_n hx hb dX6_eyes_84 rfl (lv_at hl 2 rfl) ?_
        refine r_imul hx hb dX6_eyes_85 ?_
        refine lv_iload hx hb dX6_eyes_86 (lv_at hl 4 rfl) ?_
        refine r_iadd hx hb dX6_eyes_88 ?_
        refine lv_iload hx hb dX6_eyes_89 (lv_at hl 8 rfl) ?_
        refine r_iadd hx hb dX6_eyes_91 ?_
        refine m_ald hx hb hK hP 26 (n := 64) rfl (by decide) (by omega) dX6_eyes_92 ?_
        have b_18 := iM_26 (M := M) hI (((16 * sheet) + i) + k)
        refine lv_istore (lv' := [(9, .int (iv (M 26 (((16 * sheet) + i) + k)))), (0, .ref (B 0)), (1, .int (iv (beat))), (2, .int (iv (sheet))), (3, .int (iv (lane))), (4, .int (iv (i))), (5, .int (iv (n))), (6, .int (iv (findsV M sheet lane i n))), (7, .int (iv (many))), (8, .int (iv (k)))]) hx hb dX6_eyes_93 hl (by decide) rfl (fun ls hl => ?_)
        refine lv_iload hx hb dX6_eyes_95 (lv_at hl 0 rfl) ?_
        refine r_i2l hx hb (by omega) dX6_eyes_97 ?_
        refine r_ldc2 hx hb (-1) (by decide) hown (hts _ q1124) dX6_eyes_98 ?_
        refine r_ldc2 hx hb (3) (by decide) hown (hts _ q1117) dX6_eyes_101 ?_
        refine s_cR ⟨hx, hb, hml, hown, hts⟩ (m_in (v := M 26 (((16 * sheet) + i) + k)) (low := -1) (high := 3) (by omega) (by decide) (by decide)) (va_cwS 3 hts (lw_S q1111 q1112 q60 q1113) rfl rfl rfl hdS_X6_in ⟨Nat.le_of_ble_eq_true rfl, Nat.le_of_ble_eq_true rfl⟩) rfl hl.1 rfl (Nat.le_of_ble_eq_true rfl) ⟨Nat.le_of_ble_eq_true rfl, Nat.le_of_ble_eq_true rfl⟩ dX6_eyes_104 ?_
        refine r_ifz_ne (tgt := 113) hx hb dX6_eyes_107 (by decide) (fun c_19 => ?_) (fun c_19 => ?_)
        rotate_left
        · have hbad : ¬ eyOK (M 26) (16 * sheet + i) n := fun h => (by have := h k (by omega) (by omega); omega)
          refine r_bipush hx hb (by decide) dX6_eyes_110 ?_
          exact r_iretS hx hb hr hlk hQ M ⟨congrArg iv (by unfold eyR; rw [if_pos (by omega), if_neg (by omega), eyIf_neg hbad]), (by unfold eyM; rw [if_pos (by omega), if_neg (by omega), eyIf_neg hbad]), hI⟩ (fun t ht _ => ⟨by rw [ht]; exact hP, hD⟩) hS dX6_eyes_112
        refine lv_iload hx hb dX6_eyes_113 (lv_at hl 8 rfl) ?_
        refine lv_iload hx hb dX6_eyes_115 (lv_at hl 0 rfl) ?_
        refine r_if_lt (tgt := 124) hx hb dX6_eyes_117 (by decide) (by omega) (fun c_20 => ?_) (fun c_20 => ?_)
        · refine r_iconst hx hb dX6_eyes_124 ?_
          refine r_iadd hx hb dX6_eyes_125 ?_
          refine lv_istore (lv' := [(7, .int (iv (many + 0))), (9, .int (iv (M 26 (((16 * sheet) + i) + k)))), (0, .ref (B 0)), (1, .int (iv (beat))), (2, .int (iv (sheet))), (3, .int (iv (lane))), (4, .int (iv (i))), (5, .int (iv (n))), (6, .int (iv (findsV M sheet lane i n))), (8, .int (iv (k)))]) hx hb dX6_eyes_126 hl (by decide) rfl (fun ls hl => ?_)
          refine lv_iinc (v := iv (k + 1)) (lv' := [(8, .int (iv (k + 1))), (7, .int (iv (many + 0))), (9, .int (iv (M 26 (((16 * sheet) + i) + k)))), (0, .ref (B 0)), (1, .int (iv (beat))), (2, .int (iv (sheet))), (3, .int (iv (lane))), (4, .int (iv (i))), (5, .int (iv (n))), (6, .int (iv (findsV M sheet lane i n)))]) hx hb dX6_eyes_128 hl (k := 9) rfl (iv_add _ _) (by decide) rfl (fun ls hl => ?_)
          refine lv_goto (tgt := 71) hx hb dX6_eyes_131 (by decide) ?_
          exact ih_71 (many + 0) (k + 1) (by omega) (by omega) (by omega) (fun j q1 q2 => (by rcases (show j < k ∨ j = k by omega) with q | q; exact h2 j q1 q; subst q; constructor <;> omega)) (by rw [eyV_s _ _ h0, ← h3]; first | rw [if_pos (by omega)] | rw [if_neg (by omega)]) (by omega) ls (lv_sub hl [3, 4, 5, 6, 7, 8, 9, 1, 0] rfl)
        refine r_iconst hx hb dX6_eyes_120 ?_
        refine lv_goto (tgt := 125) hx hb dX6_eyes_121 (by decide) ?_
        refine r_iadd hx hb dX6_eyes_125 ?_
        refine lv_istore (lv' := [(7, .int (iv (many + 1))), (9, .int (iv (M 26 (((16 * sheet) + i) + k)))), (0, .ref (B 0)), (1, .int (iv (beat))), (2, .int (iv (sheet))), (3, .int (iv (lane))), (4, .int (iv (i))), (5, .int (iv (n))), (6, .int (iv (findsV M sheet lane i n))), (8, .int (iv (k)))]) hx hb dX6_eyes_126 hl (by decide) rfl (fun ls hl => ?_)
        refine lv_iinc (v := iv (k + 1)) (lv' := [(8, .int (iv (k + 1))), (7, .int (iv (many + 1))), (9, .int (iv (M 26 (((16 * sheet) + i) + k)))), (0, .ref (B 0)), (1, .int (iv (beat))), (2, .int (iv (sheet))), (3, .int (iv (lane))), (4, .int (iv (i))), (5, .int (iv (n))), (6, .int (iv (findsV M sheet lane i n)))]) hx hb dX6_eyes_128 hl (k := 9) rfl (iv_add _ _) (by decide) rfl (fun ls hl => ?_)
        refine lv_goto (tgt := 71) hx hb dX6_eyes_131 (by decide) ?_
        exact ih_71 (many + 1) (k + 1) (by omega) (by omega) (by omega) (fun j q1 q2 => (by rcases (show j < k ∨ j = k by omega) with q | q; exact h2 j q1 q; subst q; constructor <;> omega)) (by rw [eyV_s _ _ h0, ← h3]; first | rw [if_pos (by omega)] | rw [if_neg (by omega)]) (by omega) ls (lv_sub hl [3, 4, 5, 6, 7, 8, 9, 1, 0] rfl)
      have ekn : k = n := by omega
      have hok : eyOK (M 26) (16 * sheet + i) n := fun j q1 q2 => h2 j q1 (by omega)
      have em : many = eyV (M 26) (16 * sheet + i) n := by rw [← ekn]; exact h3
      refine lv_aload_n hx hb dX6_eyes_134 rfl (lv_at hl 0 rfl) ?_
      refine mg_19 hx hb hts hown hK hP dX6_eyes_135 ?_
      have b_10 := iM_19 (M := M) hI (0)
      refine lv_iload hx hb dX6_eyes_138 (lv_at hl 7 rfl) ?_
      refine r_iadd hx hb dX6_eyes_140 ?_
      refine r_bipush hx hb (by decide) dX6_eyes_141 ?_
      refine r_icmp_le (tgt := 149) hx hb dX6_eyes_143 (by decide) (by omega) (by omega) (fun c_11 => ?_) (fun c_11 => ?_)
      rotate_left
      · refine r_bipush hx hb (by decide) dX6_eyes_146 ?_
        exact r_iretS hx hb hr hlk hQ M ⟨congrArg iv (by unfold eyR; rw [if_pos (by omega), if_neg (by omega), eyIf_pos hok, if_pos (by omega)]), (by unfold eyM; rw [if_pos (by omega), if_neg (by omega), eyIf_pos hok, if_pos (by omega)]), hI⟩ (fun t ht _ => ⟨by rw [ht]; exact hP, hD⟩) hS dX6_eyes_148
      refine r_iconst hx hb dX6_eyes_149 ?_
      refine lv_istore (lv' := [(8, .int (iv (0))), (0, .ref (B 0)), (1, .int (iv (beat))), (2, .int (iv (sheet))), (3, .int (iv (lane))), (4, .int (iv (i))), (5, .int (iv (n))), (6, .int (iv (findsV M sheet lane i n))), (7, .int (iv (many)))]) hx hb dX6_eyes_150 hl (by decide) rfl (fun ls hl => ?_)
      have lp_152 : ∀ (n_152 : Nat) (k2 : Int) (Mw : St) (H : Heap) (locs : List Loc), n - k2 < (n_152 : Int) → (0 ≤ k2) → (k2 ≤ n) → (Mw = ptsM M (M 26) beat (16 * sheet + i) k2) → (Mw 19 0 = M 19 0 + eyV (M 26) (16 * sheet + i) k2) → InvM Mw → wP D vwCl (mW cI B Mw) H → wD A (mW cI B Mw) → va_S A s.heap H locs → ∀ (ls : Array Slot), lv_has ls 10 [(0, .ref (B 0)), (1, .int (iv (beat))), (2, .int (iv (sheet))), (3, .int (iv (lane))), (4, .int (iv (i))), (5, .int (iv (n))), (6, .int (iv (findsV M sheet lane i n))), (7, .int (iv (many))), (8, .int (iv (k2)))] → W p l e (rmk 3 0 0) s m args below meth c H locs 0 0 Q (F0 m 152 ls []) := by
        intro n_152
        induction n_152 with
        | zero =>
          intro k2 Mw H locs hn_152 g0 g1 g2 g3 hIMw hP hD hS ls hl
          exfalso
          omega
        | succ n_152 ih_152 =>
          intro k2 Mw H locs hn_152 g0 g1 g2 g3 hIMw hP hD hS ls hl
          have hle := eyV_le (M 26) (16 * sheet + i) (i := k2 + 1) (j := n)
          refine lv_iload hx hb dX6_eyes_152 (lv_at hl 8 rfl) ?_
          refine lv_iload hx hb dX6_eyes_154 (lv_at hl 5 rfl) ?_
          refine r_icmp_ge (tgt := 206) hx hb dX6_eyes_156 (by decide) (by omega) (by omega) (fun c_12 => ?_) (fun c_12 => ?_)
          · refine lv_iload hx hb dX6_eyes_206 (lv_at hl 7 rfl) ?_
            exact r_iretS hx hb hr hlk hQ Mw ⟨congrArg iv (by unfold eyR; rw [if_pos (by omega), if_neg (by omega), eyIf_pos hok, if_neg (by omega)]; exact em), (by unfold eyM; rw [if_pos (by omega), if_neg (by omega), eyIf_pos hok, if_neg (by omega)]; have e := g2; rw [show k2 = n by omega] at e; exact e), hIMw⟩ (fun t ht _ => ⟨by rw [ht]; exact hP, hD⟩) hS dX6_eyes_208
          refine lv_aload_n hx hb dX6_eyes_159 rfl (lv_at hl 0 rfl) ?_
          refine mg_26 hx hb hts hown hK hP dX6_eyes_160 ?_
          refine r_bipush hx hb (by decide) dX6_eyes_163 ?_
          refine lv_iload_n hx hb dX6_eyes_165 rfl (lv_at hl 2 rfl) ?_
          refine r_imul hx hb dX6_eyes_166 ?_
          refine lv_iload hx hb dX6_eyes_167 (lv_at hl 4 rfl) ?_
          refine r_iadd hx hb dX6_eyes_169 ?_
          refine lv_iload hx hb dX6_eyes_170 (lv_at hl 8 rfl) ?_
          refine r_iadd hx hb dX6_eyes_172 ?_
          refine m_ald hx hb hK hP 26 (n := 64) rfl (by decide) (by omega) dX6_eyes_173 ?_
          refine r_top (congrFun ((show Mw 26 = M 26 from (show eqx [19, 20, 21] M Mw by rw [g2]; exact ptsM_x _ _ _ _ _) 26 (by decide))) _) ?_
          have b_13 := iM_26 (M := M) hI (((16 * sheet) + i) + k2)
          refine r_if_lt (tgt := 200) hx hb dX6_eyes_174 (by decide) (by omega) (fun c_14 => ?_) (fun c_14 => ?_)
          · refine lv_iinc (v := iv (k2 + 1)) (lv' := [(8, .int (iv (k2 + 1))), (0, .ref (B 0)), (1, .int (iv (beat))), (2, .int (iv (sheet))), (3, .int (iv (lane))), (4, .int (iv (i))), (5, .int (iv (n))), (6, .int (iv (findsV M sheet lane i n))), (7, .int (iv (many)))]) hx hb dX6_eyes_200 hl (k := 8) rfl (iv_add _ _) (by decide) rfl (fun ls hl => ?_)
            refine lv_goto (tgt := 152) hx hb dX6_eyes_203 (by decide) ?_
            exact ih_152 (k2 + 1) Mw H locs (by omega) (by omega) (by omega) (by rw [ptsM_s _ _ _ _ g0, if_neg (by omega)]; exact g2) (by rw [eyV_s _ _ g0, if_neg (by omega)]; omega) hIMw hP hD hS ls (lv_sub hl [1, 2, 3, 4, 5, 6, 7, 8, 0] rfl)
          have hk2 := eyV_s (M 26) (16 * sheet + i) g0
          rw [if_pos (by omega)] at hk2
          have hok2 := hok k2 (by omega) (by omega)
          refine lv_aload_n hx hb dX6_eyes_177 rfl (lv_at hl 0 rfl) ?_
          refine lv_iload_n hx hb dX6_eyes_178 rfl (lv_at hl 1 rfl) ?_
          refine lv_iload hx hb dX6_eyes_179 (lv_at hl 8 rfl) ?_
          refine r_iadd hx hb dX6_eyes_181 ?_
          refine lv_aload_n hx hb dX6_eyes_182 rfl (lv_at hl 0 rfl) ?_
          refine mg_26 hx hb hts hown hK hP dX6_eyes_183 ?_
          refine r_bipush hx hb (by decide) dX6_eyes_186 ?_
          refine lv_iload_n hx hb dX6_eyes_188 rfl (lv_at hl 2 rfl) ?_
          refine r_imul hx hb dX6_eyes_189 ?_
          refine lv_iload hx hb dX6_eyes_190 (lv_at hl 4 rfl) ?_
          refine r_iadd hx hb dX6_eyes_192 ?_
          refine lv_iload hx hb dX6_eyes_193 (lv_at hl 8 rfl) ?_
          refine r_iadd hx hb dX6_eyes_195 ?_
          refine m_ald hx hb hK hP 26 (n := 64) rfl (by decide) (by omega) dX6_eyes_196 ?_
          refine r_top (congrFun ((show Mw 26 = M 26 from (show eqx [19, 20, 21] M Mw by rw [g2]; exact ptsM_x _ _ _ _ _) 26 (by decide))) _) ?_
          have b_15 := iM_26 (M := M) hI (((16 * sheet) + i) + k2)
          refine m_cV ⟨hx, hb, hml, hown, hts⟩ (m_pointed hIMw (beat := beat + k2) (place := M 26 (((16 * sheet) + i) + k2)) (by omega) (by omega) (by omega)) (cwV 2 hts (lw_V q1313 q1315 qs46 q60 q1316) rfl rfl rfl hdV_X6_pointed ⟨Nat.le_of_ble_eq_true rfl, Nat.le_of_ble_eq_true rfl⟩) hK hP hD hS rfl hl.1 rfl (Nat.le_of_ble_eq_true rfl) ⟨Nat.le_of_ble_eq_true rfl, Nat.le_of_ble_eq_true rfl⟩ dX6_eyes_197 (fun M_16 H locs hq hP hD hS => ?_)
          obtain ⟨eM_16, hIM_16⟩ := hq
          refine lv_iinc (v := iv (k2 + 1)) (lv' := [(8, .int (iv (k2 + 1))), (0, .ref (B 0)), (1, .int (iv (beat))), (2, .int (iv (sheet))), (3, .int (iv (lane))), (4, .int (iv (i))), (5, .int (iv (n))), (6, .int (iv (findsV M sheet lane i n))), (7, .int (iv (many)))]) hx hb dX6_eyes_200 hl (k := 8) rfl (iv_add _ _) (by decide) rfl (fun ls hl => ?_)
          refine lv_goto (tgt := 152) hx hb dX6_eyes_203 (by decide) ?_
          exact ih_152 (k2 + 1) M_16 H locs (by omega) (by omega) (by omega) (by rw [eM_16, g2, ptsM_s _ _ _ _ g0, if_pos (by omega)]) (by rw [eM_16, pointedM_19, eyV_s _ _ g0, if_pos (by omega)]; omega) hIM_16 hP hD hS ls (lv_sub hl [1, 2, 3, 4, 5, 6, 7, 8, 0] rfl)
      exact lp_152 (n - 0 + 1 : Int).toNat 0 M s.heap [] (by omega) (by omega) (by omega) (ptsM_0 _ _ _ _) (by rw [← eyV_0]; exact (Int.add_zero _).symm) hI hP hD hS ls (lv_sub hl [1, 2, 3, 4, 5, 6, 7, 8, 0] rfl)
  exact lp_71 (n - 0 + 1 : Int).toNat 0 0 (by omega) (by omega) (by omega) (fun j q1 q2 => (by omega)) (eyV_0 _ _) (by omega) ls (lv_sub hl [3, 4, 5, 6, 7, 8, 2, 1, 0] rfl)
set_option maxHeartbeats 4000000 in
set_option maxRecDepth 100000 in
theorem m_copy {l : Launch} {D : va_G} {cI : ClassId} {B : Nat → Nat} {A : Nat → Prop} {M : St} (hI : InvM M) {fr : Int} {i : Int} {to_ : Int} {j : Int} {n : Int} (g_fr : -2147483648 ≤ fr ∧ fr ≤ 2147483647) (g_i : -2147483648 ≤ i ∧ i ≤ 2147483647) (g_to_ : -2147483648 ≤ to_ ∧ to_ ≤ 2147483647) (g_j : -2147483648 ≤ j ∧ j ≤ 2147483647) (g_n : -2147483648 ≤ n ∧ n ≤ 2147483647) : Met l yX6_copy (ws_ yX6_copy cX6_copy 7 (some .int)) (rmk 3 0 0) (va_Pc [.ref (B 0), .int (iv fr), .int (iv i), .int (iv to_), .int (iv j), .int (iv n)] (mUS D cI A (mW cI B M))) (va_Qi (fun r M1 => r = iv (cpR M fr i to_ j n) ∧ M1 = cpM M fr i to_ j n ∧ InvM M1) (mB D cI B A) A) 0 0 A := by
  refine r_met (by decide) _ rfl (Nat.le_of_ble_eq_true rfl) ?_
  intro p e s m args below meth c Q ls hx hb hr hlk hml hown hts hpre hQ hl
  obtain ⟨hP, hD, hK⟩ := hpre
  have hS : va_S A s.heap s.heap [] := va_S.rf
  have hown : s.vm.findClass RX6 = some m.cls := hown
  have hl : lv_has ls 7 [(0, .ref (B 0)), (1, .int (iv (fr))), (2, .int (iv (i))), (3, .int (iv (to_))), (4, .int (iv (j))), (5, .int (iv (n)))] := hl
  refine lv_iload_n hx hb dX6_copy_0 rfl (lv_at hl 1 rfl) ?_
  refine s_cR ⟨hx, hb, hml, hown, hts⟩ (m_isSheet (q := fr) (by omega)) (va_cwS 1 hts (lw_S q1350 q1351 q60 q1352) rfl rfl rfl hdS_X6_isSheet ⟨Nat.le_of_ble_eq_true rfl, Nat.le_of_ble_eq_true rfl⟩) rfl hl.1 rfl (Nat.le_of_ble_eq_true rfl) ⟨Nat.le_of_ble_eq_true rfl, Nat.le_of_ble_eq_true rfl⟩ dX6_copy_1 ?_
  refine r_ifz_eq (tgt := 14) hx hb dX6_copy_4 (by decide) (fun c_1 => ?_) (fun c_1 => ?_)
  · refine r_iconst hx hb dX6_copy_14 ?_
    exact r_iretS hx hb hr hlk hQ M ⟨congrArg iv (by unfold cpR; first | exact (if_neg (by omega)).symm | exact ((if_pos (by omega)).trans (if_pos (by omega))).symm | exact ((if_pos (by omega)).trans ((if_neg (by omega)).trans (if_neg (by omega)))).symm | exact ((if_pos (by omega)).trans ((if_neg (by omega)).trans ((if_pos (by omega)).trans (if_pos (by omega))))).symm), (by unfold cpM; first | exact (if_neg (by omega)).symm | exact ((if_pos (by omega)).trans (if_pos (by omega))).symm | exact ((if_pos (by omega)).trans ((if_neg (by omega)).trans (if_neg (by omega)))).symm | exact ((if_pos (by omega)).trans ((if_neg (by omega)).trans ((if_pos (by omega)).trans (if_pos (by omega))))).symm), hI⟩ (fun t ht _ => ⟨by rw [ht]; exact hP, hD⟩) hS dX6_copy_15
  refine lv_iload_n hx hb dX6_copy_7 rfl (lv_at hl 3 rfl) ?_
  refine s_cR ⟨hx, hb, hml, hown, hts⟩ (m_isSheet (q := to_) (by omega)) (va_cwS 1 hts (lw_S q1350 q1351 q60 q1352) rfl rfl rfl hdS_X6_isSheet ⟨Nat.le_of_ble_eq_true rfl, Nat.le_of_ble_eq_true rfl⟩) rfl hl.1 rfl (Nat.le_of_ble_eq_true rfl) ⟨Nat.le_of_ble_eq_true rfl, Nat.le_of_ble_eq_true rfl⟩ dX6_copy_8 ?_
  refine r_ifz_ne (tgt := 16) hx hb dX6_copy_11 (by decide) (fun c_2 => ?_) (fun c_2 => ?_)
  rotate_left
  · refine r_iconst hx hb dX6_copy_14 ?_
    exact r_iretS hx hb hr hlk hQ M ⟨congrArg iv (by unfold cpR; first | exact (if_neg (by omega)).symm | exact ((if_pos (by omega)).trans (if_pos (by omega))).symm | exact ((if_pos (by omega)).trans ((if_neg (by omega)).trans (if_neg (by omega)))).symm | exact ((if_pos (by omega)).trans ((if_neg (by omega)).trans ((if_pos (by omega)).trans (if_pos (by omega))))).symm), (by unfold cpM; first | exact (if_neg (by omega)).symm | exact ((if_pos (by omega)).trans (if_pos (by omega))).symm | exact ((if_pos (by omega)).trans ((if_neg (by omega)).trans (if_neg (by omega)))).symm | exact ((if_pos (by omega)).trans ((if_neg (by omega)).trans ((if_pos (by omega)).trans (if_pos (by omega))))).symm), hI⟩ (fun t ht _ => ⟨by rw [ht]; exact hP, hD⟩) hS dX6_copy_15
  refine lv_aload_n hx hb dX6_copy_16 rfl (lv_at hl 0 rfl) ?_
  refine mg_24 hx hb hts hown hK hP dX6_copy_17 ?_
  refine lv_iload_n hx hb dX6_copy_20 rfl (lv_at hl 1 rfl) ?_
  refine m_ald hx hb hK hP 24 (n := 4) rfl (by decide) (by omega) dX6_copy_21 ?_
  have b_3 := iM_24 (M := M) hI (fr)
  refine r_if_lt (tgt := 34) hx hb dX6_copy_22 (by decide) (by omega) (fun c_4 => ?_) (fun c_4 => ?_)
  · refine r_bipush hx hb (by decide) dX6_copy_34 ?_
    exact r_iretS hx hb hr hlk hQ M ⟨congrArg iv (by unfold cpR; first | exact (if_neg (by omega)).symm | exact ((if_pos (by omega)).trans (if_pos (by omega))).symm | exact ((if_pos (by omega)).trans ((if_neg (by omega)).trans (if_neg (by omega)))).symm | exact ((if_pos (by omega)).trans ((if_neg (by omega)).trans ((if_pos (by omega)).trans (if_pos (by omega))))).symm), (by unfold cpM; first | exact (if_neg (by omega)).symm | exact ((if_pos (by omega)).trans (if_pos (by omega))).symm | exact ((if_pos (by omega)).trans ((if_neg (by omega)).trans (if_neg (by omega)))).symm | exact ((if_pos (by omega)).trans ((if_neg (by omega)).trans ((if_pos (by omega)).trans (if_pos (by omega))))).symm), hI⟩ (fun t ht _ => ⟨by rw [ht]; exact hP, hD⟩) hS dX6_copy_36
  refine lv_aload_n hx hb dX6_copy_25 rfl (lv_at hl 0 rfl) ?_
  refine mg_24 hx hb hts hown hK hP dX6_copy_26 ?_
  refine lv_iload_n hx hb dX6_copy_29 rfl (lv_at hl 3 rfl) ?_
  refine m_ald hx hb hK hP 24 (n := 4) rfl (by decide) (by omega) dX6_copy_30 ?_
  have b_5 := iM_24 (M := M) hI (to_)
  refine r_if_ge (tgt := 37) hx hb dX6_copy_31 (by decide) (by omega) (fun c_6 => ?_) (fun c_6 => ?_)
  rotate_left
  · refine r_bipush hx hb (by decide) dX6_copy_34 ?_
    exact r_iretS hx hb hr hlk hQ M ⟨congrArg iv (by unfold cpR; first | exact (if_neg (by omega)).symm | exact ((if_pos (by omega)).trans (if_pos (by omega))).symm | exact ((if_pos (by omega)).trans ((if_neg (by omega)).trans (if_neg (by omega)))).symm | exact ((if_pos (by omega)).trans ((if_neg (by omega)).trans ((if_pos (by omega)).trans (if_pos (by omega))))).symm), (by unfold cpM; first | exact (if_neg (by omega)).symm | exact ((if_pos (by omega)).trans (if_pos (by omega))).symm | exact ((if_pos (by omega)).trans ((if_neg (by omega)).trans (if_neg (by omega)))).symm | exact ((if_pos (by omega)).trans ((if_neg (by omega)).trans ((if_pos (by omega)).trans (if_pos (by omega))))).symm), hI⟩ (fun t ht _ => ⟨by rw [ht]; exact hP, hD⟩) hS dX6_copy_36
  refine lv_aload_n hx hb dX6_copy_37 rfl (lv_at hl 0 rfl) ?_
  refine mg_24 hx hb hts hown hK hP dX6_copy_38 ?_
  refine lv_iload_n hx hb dX6_copy_41 rfl (lv_at hl 1 rfl) ?_
  refine m_ald hx hb hK hP 24 (n := 4) rfl (by decide) (by omega) dX6_copy_42 ?_
  have b_7 := iM_24 (M := M) hI (fr)
  refine lv_aload_n hx hb dX6_copy_43 rfl (lv_at hl 0 rfl) ?_
  refine mg_24 hx hb hts hown hK hP dX6_copy_44 ?_
  refine lv_iload_n hx hb dX6_copy_47 rfl (lv_at hl 3 rfl) ?_
  refine m_ald hx hb hK hP 24 (n := 4) rfl (by decide) (by omega) dX6_copy_48 ?_
  have b_8 := iM_24 (M := M) hI (to_)
  refine r_icmp_eq (tgt := 55) hx hb dX6_copy_49 (by decide) (by omega) (by omega) (fun c_9 => ?_) (fun c_9 => ?_)
  rotate_left
  · refine r_bipush hx hb (by decide) dX6_copy_52 ?_
    exact r_iretS hx hb hr hlk hQ M ⟨congrArg iv (by unfold cpR; first | exact (if_neg (by omega)).symm | exact ((if_pos (by omega)).trans (if_pos (by omega))).symm | exact ((if_pos (by omega)).trans ((if_neg (by omega)).trans (if_neg (by omega)))).symm | exact ((if_pos (by omega)).trans ((if_neg (by omega)).trans ((if_pos (by omega)).trans (if_pos (by omega))))).symm), (by unfold cpM; first | exact (if_neg (by omega)).symm | exact ((if_pos (by omega)).trans (if_pos (by omega))).symm | exact ((if_pos (by omega)).trans ((if_neg (by omega)).trans (if_neg (by omega)))).symm | exact ((if_pos (by omega)).trans ((if_neg (by omega)).trans ((if_pos (by omega)).trans (if_pos (by omega))))).symm), hI⟩ (fun t ht _ => ⟨by rw [ht]; exact hP, hD⟩) hS dX6_copy_54
  refine lv_iload hx hb dX6_copy_55 (lv_at hl 5 rfl) ?_
  refine r_if_lt (tgt := 95) hx hb dX6_copy_57 (by decide) (by omega) (fun c_10 => ?_) (fun c_10 => ?_)
  · refine r_bipush hx hb (by decide) dX6_copy_95 ?_
    exact r_iretS hx hb hr hlk hQ M ⟨congrArg iv (by unfold cpR; first | exact (if_neg (by omega)).symm | exact ((if_pos (by omega)).trans (if_pos (by omega))).symm | exact ((if_pos (by omega)).trans ((if_neg (by omega)).trans (if_neg (by omega)))).symm | exact ((if_pos (by omega)).trans ((if_neg (by omega)).trans ((if_pos (by omega)).trans (if_pos (by omega))))).symm), (by unfold cpM; first | exact (if_neg (by omega)).symm | exact ((if_pos (by omega)).trans (if_pos (by omega))).symm | exact ((if_pos (by omega)).trans ((if_neg (by omega)).trans (if_neg (by omega)))).symm | exact ((if_pos (by omega)).trans ((if_neg (by omega)).trans ((if_pos (by omega)).trans (if_pos (by omega))))).symm), hI⟩ (fun t ht _ => ⟨by rw [ht]; exact hP, hD⟩) hS dX6_copy_97
  refine lv_aload_n hx hb dX6_copy_60 rfl (lv_at hl 0 rfl) ?_
  refine lv_iload_n hx hb dX6_copy_61 rfl (lv_at hl 1 rfl) ?_
  refine lv_aload_n hx hb dX6_copy_62 rfl (lv_at hl 0 rfl) ?_
  refine mg_24 hx hb hts hown hK hP dX6_copy_63 ?_
  refine lv_iload_n hx hb dX6_copy_66 rfl (lv_at hl 1 rfl) ?_
  refine m_ald hx hb hK hP 24 (n := 4) rfl (by decide) (by omega) dX6_copy_67 ?_
  have b_11 := iM_24 (M := M) hI (fr)
  refine lv_iload_n hx hb dX6_copy_68 rfl (lv_at hl 2 rfl) ?_
  refine lv_iload hx hb dX6_copy_69 (lv_at hl 5 rfl) ?_
  refine m_cR ⟨hx, hb, hml, hown, hts⟩ (m_finds hI (sheet := fr) (lane := M 24 fr) (i := i) (n := n) (by omega) (by omega) (by omega) (by omega)) (cwV 4 hts (lw_V q1357 q1359 qs47 q60 q1360) rfl rfl rfl hdV_X6_finds ⟨Nat.le_of_ble_eq_true rfl, Nat.le_of_ble_eq_true rfl⟩) hK hP rfl hl.1 rfl (Nat.le_of_ble_eq_true rfl) ⟨Nat.le_of_ble_eq_true rfl, Nat.le_of_ble_eq_true rfl⟩ dX6_copy_71 ?_
  have f_12 := findsV_r M fr (M 24 fr) i n
  have f_13 := iM_25 hI fr
  refine r_if_lt (tgt := 95) hx hb dX6_copy_74 (by decide) (by omega) (fun c_14 => ?_) (fun c_14 => ?_)
  · refine r_bipush hx hb (by decide) dX6_copy_95 ?_
    exact r_iretS hx hb hr hlk hQ M ⟨congrArg iv (by unfold cpR; first | exact (if_neg (by omega)).symm | exact ((if_pos (by omega)).trans (if_pos (by omega))).symm | exact ((if_pos (by omega)).trans ((if_neg (by omega)).trans (if_neg (by omega)))).symm | exact ((if_pos (by omega)).trans ((if_neg (by omega)).trans ((if_pos (by omega)).trans (if_pos (by omega))))).symm), (by unfold cpM; first | exact (if_neg (by omega)).symm | exact ((if_pos (by omega)).trans (if_pos (by omega))).symm | exact ((if_pos (by omega)).trans ((if_neg (by omega)).trans (if_neg (by omega)))).symm | exact ((if_pos (by omega)).trans ((if_neg (by omega)).trans ((if_pos (by omega)).trans (if_pos (by omega))))).symm), hI⟩ (fun t ht _ => ⟨by rw [ht]; exact hP, hD⟩) hS dX6_copy_97
  refine lv_aload_n hx hb dX6_copy_77 rfl (lv_at hl 0 rfl) ?_
  refine lv_iload_n hx hb dX6_copy_78 rfl (lv_at hl 3 rfl) ?_
  refine lv_aload_n hx hb dX6_copy_79 rfl (lv_at hl 0 rfl) ?_
  refine mg_24 hx hb hts hown hK hP dX6_copy_80 ?_
  refine lv_iload_n hx hb dX6_copy_83 rfl (lv_at hl 3 rfl) ?_
  refine m_ald hx hb hK hP 24 (n := 4) rfl (by decide) (by omega) dX6_copy_84 ?_
  have b_15 := iM_24 (M := M) hI (to_)
  refine lv_iload hx hb dX6_copy_85 (lv_at hl 4 rfl) ?_
  refine lv_iload hx hb dX6_copy_87 (lv_at hl 5 rfl) ?_
  refine m_cR ⟨hx, hb, hml, hown, hts⟩ (m_finds hI (sheet := to_) (lane := M 24 to_) (i := j) (n := n) (by omega) (by omega) (by omega) (by omega)) (cwV 4 hts (lw_V q1357 q1359 qs47 q60 q1360) rfl rfl rfl hdV_X6_finds ⟨Nat.le_of_ble_eq_true rfl, Nat.le_of_ble_eq_true rfl⟩) hK hP rfl hl.1 rfl (Nat.le_of_ble_eq_true rfl) ⟨Nat.le_of_ble_eq_true rfl, Nat.le_of_ble_eq_true rfl⟩ dX6_copy_89 ?_
  have f_16 := findsV_r M to_ (M 24 to_) j n
  have f_17 := iM_25 hI to_
  refine r_if_ge (tgt := 98) hx hb dX6_copy_92 (by decide) (by omega) (fun c_18 => ?_) (fun c_18 => ?_)
  rotate_left
  · refine r_bipush hx hb (by decide) dX6_copy_95 ?_
    exact r_iretS hx hb hr hlk hQ M ⟨congrArg iv (by unfold cpR; first | exact (if_neg (by omega)).symm | exact ((if_pos (by omega)).trans (if_pos (by omega))).symm | exact ((if_pos (by omega)).trans ((if_neg (by omega)).trans (if_neg (by omega)))).symm | exact ((if_pos (by omega)).trans ((if_neg (by omega)).trans ((if_pos (by omega)).trans (if_pos (by omega))))).symm), (by unfold cpM; first | exact (if_neg (by omega)).symm | exact ((if_pos (by omega)).trans (if_pos (by omega))).symm | exact ((if_pos (by omega)).trans ((if_neg (by omega)).trans (if_neg (by omega)))).symm | exact ((if_pos (by omega)).trans ((if_neg (by omega)).trans ((if_pos (by omega)).trans (if_pos (by omega))))).symm), hI⟩ (fun t ht _ => ⟨by rw [ht]; exact hP, hD⟩) hS dX6_copy_97
  refine r_iconst hx hb dX6_copy_98 ?_
  refine lv_istore (lv' := [(6, .int (iv (0))), (0, .ref (B 0)), (1, .int (iv (fr))), (2, .int (iv (i))), (3, .int (iv (to_))), (4, .int (iv (j))), (5, .int (iv (n)))]) hx hb dX6_copy_99 hl (by decide) rfl (fun ls hl => ?_)
  have lp_101 : ∀ (n_101 : Nat) (k : Int) (Mw : St) (H : Heap) (locs : List Loc), n - k < (n_101 : Int) → (0 ≤ k) → (k ≤ n) → (Mw = rowS M 27 (cpy (M 27) 0 (fun x => M 26 (16 * fr + i + x)) k)) → InvM Mw → wP D vwCl (mW cI B Mw) H → wD A (mW cI B Mw) → va_S A s.heap H locs → ∀ (ls : Array Slot), lv_has ls 7 [(0, .ref (B 0)), (1, .int (iv (fr))), (2, .int (iv (i))), (3, .int (iv (to_))), (4, .int (iv (j))), (5, .int (iv (n))), (6, .int (iv (k)))] → W p l e (rmk 3 0 0) s m args below meth c H locs 0 0 Q (F0 m 101 ls []) := by
    intro n_101
    induction n_101 with
    | zero =>
      intro k Mw H locs hn_101 h0 h1 h2 hIMw hP hD hS ls hl
      exfalso
      omega
    | succ n_101 ih_101 =>
      intro k Mw H locs hn_101 h0 h1 h2 hIMw hP hD hS ls hl
      refine lv_iload hx hb dX6_copy_101 (lv_at hl 6 rfl) ?_
      refine lv_iload hx hb dX6_copy_103 (lv_at hl 5 rfl) ?_
      refine r_icmp_ge (tgt := 135) hx hb dX6_copy_105 (by decide) (by omega) (by omega) (fun c_19 => ?_) (fun c_19 => ?_)
      rotate_left
      · refine lv_aload_n hx hb dX6_copy_108 rfl (lv_at hl 0 rfl) ?_
        refine mg_27 hx hb hts hown hK hP dX6_copy_109 ?_
        refine lv_iload hx hb dX6_copy_112 (lv_at hl 6 rfl) ?_
        refine lv_aload_n hx hb dX6_copy_114 rfl (lv_at hl 0 rfl) ?_
        refine mg_26 hx hb hts hown hK hP dX6_copy_115 ?_
        refine r_bipush hx hb (by decide) dX6_copy_118 ?_
        refine lv_iload_n hx hb dX6_copy_120 rfl (lv_at hl 1 rfl) ?_
        refine r_imul hx hb dX6_copy_121 ?_
        refine lv_iload_n hx hb dX6_copy_122 rfl (lv_at hl 2 rfl) ?_
        refine r_iadd hx hb dX6_copy_123 ?_
        refine lv_iload hx hb dX6_copy_124 (lv_at hl 6 rfl) ?_
        refine r_iadd hx hb dX6_copy_126 ?_
        refine m_ald hx hb hK hP 26 (n := 64) rfl (by decide) (by omega) dX6_copy_127 ?_
        refine r_top (congrFun ((show Mw 26 = M 26 from (show eqx [27] M Mw by rw [h2]; exact rowS_x _ _ _ (by decide)) 26 (by decide))) _) ?_
        have b_23 := iM_26 (M := M) hI (((16 * fr) + i) + k)
        refine m_ast hx hb hK hP hD hS 27 (n := 16) rfl (by decide) (by omega) dX6_copy_128 (fun M_24 eM_24 H locs hP hD hS => ?_)
        have hIM_24 : InvM M_24 := iMs_27 hIMw eM_24 (by omega)
        refine lv_iinc (v := iv (k + 1)) (lv' := [(6, .int (iv (k + 1))), (0, .ref (B 0)), (1, .int (iv (fr))), (2, .int (iv (i))), (3, .int (iv (to_))), (4, .int (iv (j))), (5, .int (iv (n)))]) hx hb dX6_copy_129 hl (k := 6) rfl (iv_add _ _) (by decide) rfl (fun ls hl => ?_)
        refine lv_goto (tgt := 101) hx hb dX6_copy_132 (by decide) ?_
        exact ih_101 (k + 1) M_24 H locs (by omega) (by omega) (by omega) (by rw [eM_24, h2]; exact (congrArg (fun x => upd2 _ 27 x _) (Int.zero_add k).symm).trans (rowS_s M 27 0 (fun x => M 26 (16 * fr + i + x)) h0)) hIM_24 hP hD hS ls (lv_sub hl [1, 2, 3, 4, 5, 6, 0] rfl)
      have ek : k = n := by omega
      refine r_iconst hx hb dX6_copy_135 ?_
      refine lv_istore (lv' := [(6, .int (iv (0))), (0, .ref (B 0)), (1, .int (iv (fr))), (2, .int (iv (i))), (3, .int (iv (to_))), (4, .int (iv (j))), (5, .int (iv (n)))]) hx hb dX6_copy_136 hl (by decide) rfl (fun ls hl => ?_)
      have lp_138 : ∀ (n_138 : Nat) (k2 : Int) (Mw138 : St) (H : Heap) (locs : List Loc), n - k2 < (n_138 : Int) → (0 ≤ k2) → (k2 ≤ n) → (Mw138 = rowS Mw 26 (cpy (Mw 26) (16 * to_ + j) (Mw 27) k2)) → InvM Mw138 → wP D vwCl (mW cI B Mw138) H → wD A (mW cI B Mw138) → va_S A s.heap H locs → ∀ (ls : Array Slot), lv_has ls 7 [(0, .ref (B 0)), (1, .int (iv (fr))), (2, .int (iv (i))), (3, .int (iv (to_))), (4, .int (iv (j))), (5, .int (iv (n))), (6, .int (iv (k2)))] → W p l e (rmk 3 0 0) s m args below meth c H locs 0 0 Q (F0 m 138 ls []) := by
        intro n_138
        induction n_138 with
        | zero =>
          intro k2 Mw138 H locs hn_138 g0 g1 g2 hIMw138 hP hD hS ls hl
          exfalso
          omega
        | succ n_138 ih_138 =>
          intro k2 Mw138 H locs hn_138 g0 g1 g2 hIMw138 hP hD hS ls hl
          refine lv_iload hx hb dX6_copy_138 (lv_at hl 6 rfl) ?_
          refine lv_iload hx hb dX6_copy_140 (lv_at hl 5 rfl) ?_
          refine r_icmp_ge (tgt := 173) hx hb dX6_copy_142 (by decide) (by omega) (by omega) (fun c_20 => ?_) (fun c_20 => ?_)
          · refine lv_iload hx hb dX6_copy_173 (lv_at hl 5 rfl) ?_
            exact r_iretS hx hb hr hlk hQ Mw138 ⟨congrArg iv (by unfold cpR; rw [if_pos (by omega), if_neg (by omega), if_pos (by omega), if_neg (by omega)]), (by unfold cpM; rw [if_pos (by omega), if_neg (by omega), if_pos (by omega), if_neg (by omega)]; have e := g2; rw [ek] at h2; rw [h2, show k2 = n by omega] at e; rw [e]; unfold cpM'; exact cp_end M _ _ n _ rfl), hIMw138⟩ (fun t ht _ => ⟨by rw [ht]; exact hP, hD⟩) hS dX6_copy_175
          refine lv_aload_n hx hb dX6_copy_145 rfl (lv_at hl 0 rfl) ?_
          refine mg_26 hx hb hts hown hK hP dX6_copy_146 ?_
          refine r_bipush hx hb (by decide) dX6_copy_149 ?_
          refine lv_iload_n hx hb dX6_copy_151 rfl (lv_at hl 3 rfl) ?_
          refine r_imul hx hb dX6_copy_152 ?_
          refine lv_iload hx hb dX6_copy_153 (lv_at hl 4 rfl) ?_
          refine r_iadd hx hb dX6_copy_155 ?_
          refine lv_iload hx hb dX6_copy_156 (lv_at hl 6 rfl) ?_
          refine r_iadd hx hb dX6_copy_158 ?_
          refine lv_aload_n hx hb dX6_copy_159 rfl (lv_at hl 0 rfl) ?_
          refine mg_27 hx hb hts hown hK hP dX6_copy_160 ?_
          refine lv_iload hx hb dX6_copy_163 (lv_at hl 6 rfl) ?_
          refine m_ald hx hb hK hP 27 (n := 16) rfl (by decide) (by omega) dX6_copy_165 ?_
          refine r_top (congrFun ((show Mw138 27 = Mw 27 from (show eqx [26] Mw Mw138 by rw [g2]; exact rowS_x _ _ _ (by decide)) 27 (by decide))) _) ?_
          have b_21 := iM_27 (M := Mw) hIMw (k2)
          refine m_ast hx hb hK hP hD hS 26 (n := 64) rfl (by decide) (by omega) dX6_copy_166 (fun M_22 eM_22 H locs hP hD hS => ?_)
          have hIM_22 : InvM M_22 := iMs_26 hIMw138 eM_22 (by omega)
          refine lv_iinc (v := iv (k2 + 1)) (lv' := [(6, .int (iv (k2 + 1))), (0, .ref (B 0)), (1, .int (iv (fr))), (2, .int (iv (i))), (3, .int (iv (to_))), (4, .int (iv (j))), (5, .int (iv (n)))]) hx hb dX6_copy_167 hl (k := 6) rfl (iv_add _ _) (by decide) rfl (fun ls hl => ?_)
          refine lv_goto (tgt := 138) hx hb dX6_copy_170 (by decide) ?_
          exact ih_138 (k2 + 1) M_22 H locs (by omega) (by omega) (by omega) (by rw [eM_22, g2]; exact rowS_s _ 26 (16 * to_ + j) _ g0) hIM_22 hP hD hS ls (lv_sub hl [1, 2, 3, 4, 5, 6, 0] rfl)
      exact lp_138 (n - 0 + 1 : Int).toNat 0 Mw H locs (by omega) (by omega) (by omega) (rowS_0 _ _ _ _) hIMw hP hD hS ls (lv_sub hl [1, 2, 3, 4, 5, 6, 0] rfl)
  exact lp_101 (n - 0 + 1 : Int).toNat 0 M s.heap [] (by omega) (by omega) (by omega) (rowS_0 _ _ _ _) hI hP hD hS ls (lv_sub hl [1, 2, 3, 4, 5, 6, 0] rfl)
