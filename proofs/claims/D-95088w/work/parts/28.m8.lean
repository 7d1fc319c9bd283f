set_option maxRecDepth 100000
set_option maxHeartbeats 4000000 in
set_option maxRecDepth 100000 in
theorem m_readAll {l : Launch} {D : va_G} {cI : ClassId} {B : Nat → Nat} {A : Nat → Prop} {M : St} (hI : InvM M) {beats : Int} (g_beats : beats = 0 ∨ beats = 1) : Met l yX6_readAll (ws_ yX6_readAll cX6_readAll 4 (some .int)) (rmk 5 0 0) (va_Pc [.ref (B 0), .int (iv beats)] (mUS D cI A (mW cI B M))) (va_Qi (fun r M1 => r = iv (rdR (M 9) (M 10 0) (rdV (M 9) (M 10 0) (clV (M 9) (M 10 0) (pw M 0) (M 7 0) beats) (M 13) 8)) ∧ M1 = rdM M (rdV (M 9) (M 10 0) (clV (M 9) (M 10 0) (pw M 0) (M 7 0) beats) (M 13) 8) ∧ InvM M1) (mB D cI B A) A) 0 0 A := by
  refine r_met (by decide) _ rfl (Nat.le_of_ble_eq_true rfl) ?_
  intro p e s m args below meth c Q ls hx hb hr hlk hml hown hts hpre hQ hl
  obtain ⟨hP, hD, hK⟩ := hpre
  have hS : va_S A s.heap s.heap [] := va_S.rf
  have hown : s.vm.findClass RX6 = some m.cls := hown
  have hl : lv_has ls 4 [(0, .ref (B 0)), (1, .int (iv (beats)))] := hl
  refine lv_aload_n hx hb dX6_readAll_0 rfl (lv_at hl 0 rfl) ?_
  refine r_iconst hx hb dX6_readAll_1 ?_
  refine mp_11 hx hb hts hown hK hP hD hS dX6_readAll_2 (fun M_1 eM_1 H locs hP hD hS => ?_)
  have hIM_1 : InvM M_1 := iMs_11 hI eM_1 (by omega)
  refine lv_aload_n hx hb dX6_readAll_5 rfl (lv_at hl 0 rfl) ?_
  refine r_iconst hx hb dX6_readAll_6 ?_
  refine mp_12 hx hb hts hown hK hP hD hS (by decide) dX6_readAll_7 (fun M_2 eM_2 H locs hP hD hS => ?_)
  have hIM_2 : InvM M_2 := iMs_12 hIM_1 eM_2 (by omega)
  refine r_iconst hx hb dX6_readAll_10 ?_
  refine lv_istore_n (lv' := [(2, .int (iv (0))), (0, .ref (B 0)), (1, .int (iv (beats)))]) hx hb dX6_readAll_11 rfl hl (by decide) rfl (fun ls hl => ?_)
  refine r_iconst hx hb dX6_readAll_12 ?_
  refine lv_istore_n (lv' := [(3, .int (iv (1))), (2, .int (iv (0))), (0, .ref (B 0)), (1, .int (iv (beats)))]) hx hb dX6_readAll_13 rfl hl (by decide) rfl (fun ls hl => ?_)
  have lp_14 : ∀ (n_14 : Nat) (n : Int) (more : Int) (Mw : St) (H : Heap) (locs : List Loc), 8 - n < (n_14 : Int) → (Mw = rM M (rdV (M 9) (M 10 0) (clV (M 9) (M 10 0) (pw M 0) (M 7 0) beats) (M 13) n).a (rdV (M 9) (M 10 0) (clV (M 9) (M 10 0) (pw M 0) (M 7 0) beats) (M 13) n).w (rdV (M 9) (M 10 0) (clV (M 9) (M 10 0) (pw M 0) (M 7 0) beats) (M 13) n).f) → ((rdV (M 9) (M 10 0) (clV (M 9) (M 10 0) (pw M 0) (M 7 0) beats) (M 13) n).m = n) → (more = (rdV (M 9) (M 10 0) (clV (M 9) (M 10 0) (pw M 0) (M 7 0) beats) (M 13) n).more) → (0 ≤ n ∧ n ≤ 8) → (more = 0 ∨ more = 1 ∧ n ≤ 7) → InvM Mw → wP D vwCl (mW cI B Mw) H → wD A (mW cI B Mw) → va_S A s.heap H locs → ∀ (ls : Array Slot), lv_has ls 4 [(0, .ref (B 0)), (1, .int (iv (beats))), (2, .int (iv (n))), (3, .int (iv (more)))] → W p l e (rmk 5 0 0) s m args below meth c H locs 0 0 Q (F0 m 14 ls []) := by
    intro n_14
    induction n_14 with
    | zero =>
      intro n more Mw H locs hn_14 eMw h1 h2 h3 h4 hIMw hP hD hS ls hl
      exfalso
      omega
    | succ n_14 ih_14 =>
      intro n more Mw H locs hn_14 eMw h1 h2 h3 h4 hIMw hP hD hS ls hl
      have q12 := iM_12 hIMw 0
      rw [rM_12 eMw] at q12
      have q11 := iM_11 hIMw 0
      rw [rM_11 eMw] at q11
      refine lv_iload_n hx hb dX6_readAll_14 rfl (lv_at hl 3 rfl) ?_
      refine r_if_eq (tgt := 68) hx hb dX6_readAll_15 (by decide) (by omega) (fun c_3 => ?_) (fun c_3 => ?_)
      · have e8 := rd_8 h3.1 h3.2 (show (rdV (M 9) (M 10 0) (clV (M 9) (M 10 0) (pw M 0) (M 7 0) beats) (M 13) n).more = 0 by omega)
        refine lv_aload_n hx hb dX6_readAll_68 rfl (lv_at hl 0 rfl) ?_
        refine lv_aload_n hx hb dX6_readAll_69 rfl (lv_at hl 0 rfl) ?_
        refine mg_12 hx hb hts hown hK hP dX6_readAll_70 ?_
        refine r_top ((rM_12 eMw)) ?_
        refine r_if_ne (tgt := 83) hx hb dX6_readAll_73 (by decide) (by omega) (fun c_4 => ?_) (fun c_4 => ?_)
        · refine r_iconst hx hb dX6_readAll_83 ?_
          refine lv_goto (tgt := 88) hx hb dX6_readAll_84 (by decide) ?_
          refine mp_12 hx hb hts hown hK hP hD hS (by decide) dX6_readAll_88 (fun M_5 eM_5 H locs hP hD hS => ?_)
          have hIM_5 : InvM M_5 := iMs_12 hIMw eM_5 (by omega)
          refine lv_aload_n hx hb dX6_readAll_91 rfl (lv_at hl 0 rfl) ?_
          refine r_iconst hx hb dX6_readAll_92 ?_
          refine mp_10 hx hb hts hown hK hP hD hS dX6_readAll_93 (fun M_6 eM_6 H locs hP hD hS => ?_)
          have hIM_6 : InvM M_6 := iMs_10 hIM_5 eM_6 (by omega)
          refine lv_aload_n hx hb dX6_readAll_96 rfl (lv_at hl 0 rfl) ?_
          refine mg_12 hx hb hts hown hK hP dX6_readAll_97 ?_
          refine r_top (((show M_6 12 0 = M_5 12 0 from by rw [eM_6]; exact congrFun (upd2_k (by decide)) 0)).trans (show M_5 12 0 = 1 from by rw [eM_5]; exact upd2_e)) ?_
          refine r_if_eq (tgt := 113) hx hb dX6_readAll_100 (by decide) (by omega) (fun c_7 => ?_) (fun c_7 => ?_)
          · refine lv_iload_n hx hb dX6_readAll_113 rfl (lv_at hl 2 rfl) ?_
            exact r_iretS hx hb hr hlk hQ M_6 ⟨congrArg iv (by rw [← e8]; first | exact (rd_bad1 (T := M 9) (n := M 10 0) (s := (rdV (M 9) (M 10 0) (clV (M 9) (M 10 0) (pw M 0) (M 7 0) beats) (M 13) n)) (by omega)).2.2 | exact (rd_bad2 (T := M 9) (n := M 10 0) (s := (rdV (M 9) (M 10 0) (clV (M 9) (M 10 0) (pw M 0) (M 7 0) beats) (M 13) n)) (by omega) (by omega)).2.2 | exact h1.symm.trans (rd_good (T := M 9) (n := M 10 0) (s := (rdV (M 9) (M 10 0) (clV (M 9) (M 10 0) (pw M 0) (M 7 0) beats) (M 13) n)) (by omega) (by omega)).2.2 | (exfalso; omega)), by rw [← e8]; exact eM_6.trans (congrArg (fun X => upd2 X 10 0 0) (rM_eq (rM_v eMw eM_5) (by first | exact (rd_bad1 (T := M 9) (n := M 10 0) (s := (rdV (M 9) (M 10 0) (clV (M 9) (M 10 0) (pw M 0) (M 7 0) beats) (M 13) n)) (by omega)).1 | exact (rd_bad2 (T := M 9) (n := M 10 0) (s := (rdV (M 9) (M 10 0) (clV (M 9) (M 10 0) (pw M 0) (M 7 0) beats) (M 13) n)) (by omega) (by omega)).1 | exact (rd_good (T := M 9) (n := M 10 0) (s := (rdV (M 9) (M 10 0) (clV (M 9) (M 10 0) (pw M 0) (M 7 0) beats) (M 13) n)) (by omega) (by omega)).1 | (exfalso; omega)) (by first | exact (rd_bad1 (T := M 9) (n := M 10 0) (s := (rdV (M 9) (M 10 0) (clV (M 9) (M 10 0) (pw M 0) (M 7 0) beats) (M 13) n)) (by omega)).2.1 | exact (rd_bad2 (T := M 9) (n := M 10 0) (s := (rdV (M 9) (M 10 0) (clV (M 9) (M 10 0) (pw M 0) (M 7 0) beats) (M 13) n)) (by omega) (by omega)).2.1 | exact (rd_good (T := M 9) (n := M 10 0) (s := (rdV (M 9) (M 10 0) (clV (M 9) (M 10 0) (pw M 0) (M 7 0) beats) (M 13) n)) (by omega) (by omega)).2.1 | (exfalso; omega)) rfl)), hIM_6⟩ (fun t ht _ => ⟨by rw [ht]; exact hP, hD⟩) hS dX6_readAll_114
          refine r_bipush hx hb (by decide) dX6_readAll_103 ?_
          refine lv_aload_n hx hb dX6_readAll_105 rfl (lv_at hl 0 rfl) ?_
          refine mg_11 hx hb hts hown hK hP dX6_readAll_106 ?_
          refine r_top ((((show M_6 11 0 = M_5 11 0 from by rw [eM_6]; exact congrFun (upd2_k (by decide)) 0)).trans (show M_5 11 0 = Mw 11 0 from by rw [eM_5]; exact congrFun (upd2_k (by decide)) 0)).trans (rM_11 eMw)) ?_
          refine r_isub hx hb dX6_readAll_109 ?_
          refine lv_goto (tgt := 114) hx hb dX6_readAll_110 (by decide) ?_
          exact r_iretS hx hb hr hlk hQ M_6 ⟨congrArg iv (by rw [← e8]; first | exact (rd_bad1 (T := M 9) (n := M 10 0) (s := (rdV (M 9) (M 10 0) (clV (M 9) (M 10 0) (pw M 0) (M 7 0) beats) (M 13) n)) (by omega)).2.2 | exact (rd_bad2 (T := M 9) (n := M 10 0) (s := (rdV (M 9) (M 10 0) (clV (M 9) (M 10 0) (pw M 0) (M 7 0) beats) (M 13) n)) (by omega) (by omega)).2.2 | exact h1.symm.trans (rd_good (T := M 9) (n := M 10 0) (s := (rdV (M 9) (M 10 0) (clV (M 9) (M 10 0) (pw M 0) (M 7 0) beats) (M 13) n)) (by omega) (by omega)).2.2 | (exfalso; omega)), by rw [← e8]; exact eM_6.trans (congrArg (fun X => upd2 X 10 0 0) (rM_eq (rM_v eMw eM_5) (by first | exact (rd_bad1 (T := M 9) (n := M 10 0) (s := (rdV (M 9) (M 10 0) (clV (M 9) (M 10 0) (pw M 0) (M 7 0) beats) (M 13) n)) (by omega)).1 | exact (rd_bad2 (T := M 9) (n := M 10 0) (s := (rdV (M 9) (M 10 0) (clV (M 9) (M 10 0) (pw M 0) (M 7 0) beats) (M 13) n)) (by omega) (by omega)).1 | exact (rd_good (T := M 9) (n := M 10 0) (s := (rdV (M 9) (M 10 0) (clV (M 9) (M 10 0) (pw M 0) (M 7 0) beats) (M 13) n)) (by omega) (by omega)).1 | (exfalso; omega)) (by first | exact (rd_bad1 (T := M 9) (n := M 10 0) (s := (rdV (M 9) (M 10 0) (clV (M 9) (M 10 0) (pw M 0) (M 7 0) beats) (M 13) n)) (by omega)).2.1 | exact (rd_bad2 (T := M 9) (n := M 10 0) (s := (rdV (M 9) (M 10 0) (clV (M 9) (M 10 0) (pw M 0) (M 7 0) beats) (M 13) n)) (by omega) (by omega)).2.1 | exact (rd_good (T := M 9) (n := M 10 0) (s := (rdV (M 9) (M 10 0) (clV (M 9) (M 10 0) (pw M 0) (M 7 0) beats) (M 13) n)) (by omega) (by omega)).2.1 | (exfalso; omega)) rfl)), hIM_6⟩ (fun t ht _ => ⟨by rw [ht]; exact hP, hD⟩) hS dX6_readAll_114
        refine lv_aload_n hx hb dX6_readAll_76 rfl (lv_at hl 0 rfl) ?_
        refine m_cI ⟨hx, hb, hml, hown, hts⟩ (m_here hIMw  ) (cwV 0 hts (lw_V q1192 q1194 qs34 q60 q1195) rfl rfl rfl hdV_X6_here ⟨Nat.le_of_ble_eq_true rfl, Nat.le_of_ble_eq_true rfl⟩) hK hP hD hS rfl hl.1 rfl (Nat.le_of_ble_eq_true rfl) ⟨Nat.le_of_ble_eq_true rfl, Nat.le_of_ble_eq_true rfl⟩ dX6_readAll_77 (fun r_9 M_8 H locs hq hP hD hS => ?_)
        obtain ⟨er_9, eM_8, hIM_8⟩ := hq
        have q9 := (show Mw 9 = M 9 from rM_x eMw 9 (by decide))
        have q10 := congrFun ((show Mw 10 = M 10 from rM_x eMw 10 (by decide))) 0
        have q11 := (rM_11 eMw)
        have q12 := (rM_12 eMw)
        simp only [q9, q10, q11, q12] at er_9
        simp only [q9, q10, q11, q12] at eM_8
        subst er_9
        have f_10 := skV_r (M 9) (M 10 0) ((rdV (M 9) (M 10 0) (clV (M 9) (M 10 0) (pw M 0) (M 7 0) beats) (M 13) n).a)
        have f_11 := iM_9 hI (skV (M 9) (M 10 0) ((rdV (M 9) (M 10 0) (clV (M 9) (M 10 0) (pw M 0) (M 7 0) beats) (M 13) n).a))
        have f_12 := (show chV (M 9) (M 10 0) (skV (M 9) (M 10 0) ((rdV (M 9) (M 10 0) (clV (M 9) (M 10 0) (pw M 0) (M 7 0) beats) (M 13) n).a)) = if skV (M 9) (M 10 0) ((rdV (M 9) (M 10 0) (clV (M 9) (M 10 0) (pw M 0) (M 7 0) beats) (M 13) n).a) < M 10 0 then M 9 (skV (M 9) (M 10 0) ((rdV (M 9) (M 10 0) (clV (M 9) (M 10 0) (pw M 0) (M 7 0) beats) (M 13) n).a)) else 0 from rfl)
        refine r_if_eq (tgt := 87) hx hb dX6_readAll_80 (by decide) (by omega) (fun c_13 => ?_) (fun c_13 => ?_)
        · refine r_iconst hx hb dX6_readAll_87 ?_
          refine mp_12 hx hb hts hown hK hP hD hS (by decide) dX6_readAll_88 (fun M_14 eM_14 H locs hP hD hS => ?_)
          have hIM_14 : InvM M_14 := iMs_12 hIM_8 eM_14 (by omega)
          refine lv_aload_n hx hb dX6_readAll_91 rfl (lv_at hl 0 rfl) ?_
          refine r_iconst hx hb dX6_readAll_92 ?_
          refine mp_10 hx hb hts hown hK hP hD hS dX6_readAll_93 (fun M_15 eM_15 H locs hP hD hS => ?_)
          have hIM_15 : InvM M_15 := iMs_10 hIM_14 eM_15 (by omega)
          refine lv_aload_n hx hb dX6_readAll_96 rfl (lv_at hl 0 rfl) ?_
          refine mg_12 hx hb hts hown hK hP dX6_readAll_97 ?_
          refine r_top (((show M_15 12 0 = M_14 12 0 from by rw [eM_15]; exact congrFun (upd2_k (by decide)) 0)).trans (show M_14 12 0 = 0 from by rw [eM_14]; exact upd2_e)) ?_
          refine r_if_eq (tgt := 113) hx hb dX6_readAll_100 (by decide) (by omega) (fun c_16 => ?_) (fun c_16 => ?_)
          · refine lv_iload_n hx hb dX6_readAll_113 rfl (lv_at hl 2 rfl) ?_
            exact r_iretS hx hb hr hlk hQ M_15 ⟨congrArg iv (by rw [← e8]; first | exact (rd_bad1 (T := M 9) (n := M 10 0) (s := (rdV (M 9) (M 10 0) (clV (M 9) (M 10 0) (pw M 0) (M 7 0) beats) (M 13) n)) (by omega)).2.2 | exact (rd_bad2 (T := M 9) (n := M 10 0) (s := (rdV (M 9) (M 10 0) (clV (M 9) (M 10 0) (pw M 0) (M 7 0) beats) (M 13) n)) (by omega) (by omega)).2.2 | exact h1.symm.trans (rd_good (T := M 9) (n := M 10 0) (s := (rdV (M 9) (M 10 0) (clV (M 9) (M 10 0) (pw M 0) (M 7 0) beats) (M 13) n)) (by omega) (by omega)).2.2 | (exfalso; omega)), by rw [← e8]; exact eM_15.trans (congrArg (fun X => upd2 X 10 0 0) (rM_eq (rM_v (rM_pc eMw eM_8) eM_14) (by first | exact (rd_bad1 (T := M 9) (n := M 10 0) (s := (rdV (M 9) (M 10 0) (clV (M 9) (M 10 0) (pw M 0) (M 7 0) beats) (M 13) n)) (by omega)).1 | exact (rd_bad2 (T := M 9) (n := M 10 0) (s := (rdV (M 9) (M 10 0) (clV (M 9) (M 10 0) (pw M 0) (M 7 0) beats) (M 13) n)) (by omega) (by omega)).1 | exact (rd_good (T := M 9) (n := M 10 0) (s := (rdV (M 9) (M 10 0) (clV (M 9) (M 10 0) (pw M 0) (M 7 0) beats) (M 13) n)) (by omega) (by omega)).1 | (exfalso; omega)) (by first | exact (rd_bad1 (T := M 9) (n := M 10 0) (s := (rdV (M 9) (M 10 0) (clV (M 9) (M 10 0) (pw M 0) (M 7 0) beats) (M 13) n)) (by omega)).2.1 | exact (rd_bad2 (T := M 9) (n := M 10 0) (s := (rdV (M 9) (M 10 0) (clV (M 9) (M 10 0) (pw M 0) (M 7 0) beats) (M 13) n)) (by omega) (by omega)).2.1 | exact (rd_good (T := M 9) (n := M 10 0) (s := (rdV (M 9) (M 10 0) (clV (M 9) (M 10 0) (pw M 0) (M 7 0) beats) (M 13) n)) (by omega) (by omega)).2.1 | (exfalso; omega)) rfl)), hIM_15⟩ (fun t ht _ => ⟨by rw [ht]; exact hP, hD⟩) hS dX6_readAll_114
          refine r_bipush hx hb (by decide) dX6_readAll_103 ?_
          refine lv_aload_n hx hb dX6_readAll_105 rfl (lv_at hl 0 rfl) ?_
          refine mg_11 hx hb hts hown hK hP dX6_readAll_106 ?_
          refine r_top ((((show M_15 11 0 = M_14 11 0 from by rw [eM_15]; exact congrFun (upd2_k (by decide)) 0)).trans (show M_14 11 0 = M_8 11 0 from by rw [eM_14]; exact congrFun (upd2_k (by decide)) 0)).trans (pM_11 eM_8)) ?_
          refine r_isub hx hb dX6_readAll_109 ?_
          refine lv_goto (tgt := 114) hx hb dX6_readAll_110 (by decide) ?_
          exact r_iretS hx hb hr hlk hQ M_15 ⟨congrArg iv (by rw [← e8]; first | exact (rd_bad1 (T := M 9) (n := M 10 0) (s := (rdV (M 9) (M 10 0) (clV (M 9) (M 10 0) (pw M 0) (M 7 0) beats) (M 13) n)) (by omega)).2.2 | exact (rd_bad2 (T := M 9) (n := M 10 0) (s := (rdV (M 9) (M 10 0) (clV (M 9) (M 10 0) (pw M 0) (M 7 0) beats) (M 13) n)) (by omega) (by omega)).2.2 | exact h1.symm.trans (rd_good (T := M 9) (n := M 10 0) (s := (rdV (M 9) (M 10 0) (clV (M 9) (M 10 0) (pw M 0) (M 7 0) beats) (M 13) n)) (by omega) (by omega)).2.2 | (exfalso; omega)), by rw [← e8]; exact eM_15.trans (congrArg (fun X => upd2 X 10 0 0) (rM_eq (rM_v (rM_pc eMw eM_8) eM_14) (by first | exact (rd_bad1 (T := M 9) (n := M 10 0) (s := (rdV (M 9) (M 10 0) (clV (M 9) (M 10 0) (pw M 0) (M 7 0) beats) (M 13) n)) (by omega)).1 | exact (rd_bad2 (T := M 9) (n := M 10 0) (s := (rdV (M 9) (M 10 0) (clV (M 9) (M 10 0) (pw M 0) (M 7 0) beats) (M 13) n)) (by omega) (by omega)).1 | exact (rd_good (T := M 9) (n := M 10 0) (s := (rdV (M 9) (M 10 0) (clV (M 9) (M 10 0) (pw M 0) (M 7 0) beats) (M 13) n)) (by omega) (by omega)).1 | (exfalso; omega)) (by first | exact (rd_bad1 (T := M 9) (n := M 10 0) (s := (rdV (M 9) (M 10 0) (clV (M 9) (M 10 0) (pw M 0) (M 7 0) beats) (M 13) n)) (by omega)).2.1 | exact (rd_bad2 (T := M 9) (n := M 10 0) (s := (rdV (M 9) (M 10 0) (clV (M 9) (M 10 0) (pw M 0) (M 7 0) beats) (M 13) n)) (by omega) (by omega)).2.1 | exact (rd_good (T := M 9) (n := M 10 0) (s := (rdV (M 9) (M 10 0) (clV (M 9) (M 10 0) (pw M 0) (M 7 0) beats) (M 13) n)) (by omega) (by omega)).2.1 | (exfalso; omega)) rfl)), hIM_15⟩ (fun t ht _ => ⟨by rw [ht]; exact hP, hD⟩) hS dX6_readAll_114
        refine r_iconst hx hb dX6_readAll_83 ?_
        refine lv_goto (tgt := 88) hx hb dX6_readAll_84 (by decide) ?_
        refine mp_12 hx hb hts hown hK hP hD hS (by decide) dX6_readAll_88 (fun M_17 eM_17 H locs hP hD hS => ?_)
        have hIM_17 : InvM M_17 := iMs_12 hIM_8 eM_17 (by omega)
        refine lv_aload_n hx hb dX6_readAll_91 rfl (lv_at hl 0 rfl) ?_
        refine r_iconst hx hb dX6_readAll_92 ?_
        refine mp_10 hx hb hts hown hK hP hD hS dX6_readAll_93 (fun M_18 eM_18 H locs hP hD hS => ?_)
        have hIM_18 : InvM M_18 := iMs_10 hIM_17 eM_18 (by omega)
        refine lv_aload_n hx hb dX6_readAll_96 rfl (lv_at hl 0 rfl) ?_
        refine mg_12 hx hb hts hown hK hP dX6_readAll_97 ?_
        refine r_top (((show M_18 12 0 = M_17 12 0 from by rw [eM_18]; exact congrFun (upd2_k (by decide)) 0)).trans (show M_17 12 0 = 1 from by rw [eM_17]; exact upd2_e)) ?_
        refine r_if_eq (tgt := 113) hx hb dX6_readAll_100 (by decide) (by omega) (fun c_19 => ?_) (fun c_19 => ?_)
        · refine lv_iload_n hx hb dX6_readAll_113 rfl (lv_at hl 2 rfl) ?_
          exact r_iretS hx hb hr hlk hQ M_18 ⟨congrArg iv (by rw [← e8]; first | exact (rd_bad1 (T := M 9) (n := M 10 0) (s := (rdV (M 9) (M 10 0) (clV (M 9) (M 10 0) (pw M 0) (M 7 0) beats) (M 13) n)) (by omega)).2.2 | exact (rd_bad2 (T := M 9) (n := M 10 0) (s := (rdV (M 9) (M 10 0) (clV (M 9) (M 10 0) (pw M 0) (M 7 0) beats) (M 13) n)) (by omega) (by omega)).2.2 | exact h1.symm.trans (rd_good (T := M 9) (n := M 10 0) (s := (rdV (M 9) (M 10 0) (clV (M 9) (M 10 0) (pw M 0) (M 7 0) beats) (M 13) n)) (by omega) (by omega)).2.2 | (exfalso; omega)), by rw [← e8]; exact eM_18.trans (congrArg (fun X => upd2 X 10 0 0) (rM_eq (rM_v (rM_pc eMw eM_8) eM_17) (by first | exact (rd_bad1 (T := M 9) (n := M 10 0) (s := (rdV (M 9) (M 10 0) (clV (M 9) (M 10 0) (pw M 0) (M 7 0) beats) (M 13) n)) (by omega)).1 | exact (rd_bad2 (T := M 9) (n := M 10 0) (s := (rdV (M 9) (M 10 0) (clV (M 9) (M 10 0) (pw M 0) (M 7 0) beats) (M 13) n)) (by omega) (by omega)).1 | exact (rd_good (T := M 9) (n := M 10 0) (s := (rdV (M 9) (M 10 0) (clV (M 9) (M 10 0) (pw M 0) (M 7 0) beats) (M 13) n)) (by omega) (by omega)).1 | (exfalso; omega)) (by first | exact (rd_bad1 (T := M 9) (n := M 10 0) (s := (rdV (M 9) (M 10 0) (clV (M 9) (M 10 0) (pw M 0) (M 7 0) beats) (M 13) n)) (by omega)).2.1 | exact (rd_bad2 (T := M 9) (n := M 10 0) (s := (rdV (M 9) (M 10 0) (clV (M 9) (M 10 0) (pw M 0) (M 7 0) beats) (M 13) n)) (by omega) (by omega)).2.1 | exact (rd_good (T := M 9) (n := M 10 0) (s := (rdV (M 9) (M 10 0) (clV (M 9) (M 10 0) (pw M 0) (M 7 0) beats) (M 13) n)) (by omega) (by omega)).2.1 | (exfalso; omega)) rfl)), hIM_18⟩ (fun t ht _ => ⟨by rw [ht]; exact hP, hD⟩) hS dX6_readAll_114
        refine r_bipush hx hb (by decide) dX6_readAll_103 ?_
        refine lv_aload_n hx hb dX6_readAll_105 rfl (lv_at hl 0 rfl) ?_
        refine mg_11 hx hb hts hown hK hP dX6_readAll_106 ?_
        refine r_top ((((show M_18 11 0 = M_17 11 0 from by rw [eM_18]; exact congrFun (upd2_k (by decide)) 0)).trans (show M_17 11 0 = M_8 11 0 from by rw [eM_17]; exact congrFun (upd2_k (by decide)) 0)).trans (pM_11 eM_8)) ?_
        refine r_isub hx hb dX6_readAll_109 ?_
        refine lv_goto (tgt := 114) hx hb dX6_readAll_110 (by decide) ?_
        exact r_iretS hx hb hr hlk hQ M_18 ⟨congrArg iv (by rw [← e8]; first | exact (rd_bad1 (T := M 9) (n := M 10 0) (s := (rdV (M 9) (M 10 0) (clV (M 9) (M 10 0) (pw M 0) (M 7 0) beats) (M 13) n)) (by omega)).2.2 | exact (rd_bad2 (T := M 9) (n := M 10 0) (s := (rdV (M 9) (M 10 0) (clV (M 9) (M 10 0) (pw M 0) (M 7 0) beats) (M 13) n)) (by omega) (by omega)).2.2 | exact h1.symm.trans (rd_good (T := M 9) (n := M 10 0) (s := (rdV (M 9) (M 10 0) (clV (M 9) (M 10 0) (pw M 0) (M 7 0) beats) (M 13) n)) (by omega) (by omega)).2.2 | (exfalso; omega)), by rw [← e8]; exact eM_18.trans (congrArg (fun X => upd2 X 10 0 0) (rM_eq (rM_v (rM_pc eMw eM_8) eM_17) (by first | exact (rd_bad1 (T := M 9) (n := M 10 0) (s := (rdV (M 9) (M 10 0) (clV (M 9) (M 10 0) (pw M 0) (M 7 0) beats) (M 13) n)) (by omega)).1 | exact (rd_bad2 (T := M 9) (n := M 10 0) (s := (rdV (M 9) (M 10 0) (clV (M 9) (M 10 0) (pw M 0) (M 7 0) beats) (M 13) n)) (by omega) (by omega)).1 | exact (rd_good (T := M 9) (n := M 10 0) (s := (rdV (M 9) (M 10 0) (clV (M 9) (M 10 0) (pw M 0) (M 7 0) beats) (M 13) n)) (by omega) (by omega)).1 | (exfalso; omega)) (by first | exact (rd_bad1 (T := M 9) (n := M 10 0) (s := (rdV (M 9) (M 10 0) (clV (M 9) (M 10 0) (pw M 0) (M 7 0) beats) (M 13) n)) (by omega)).2.1 | exact (rd_bad2 (T := M 9) (n := M 10 0) (s := (rdV (M 9) (M 10 0) (clV (M 9) (M 10 0) (pw M 0) (M 7 0) beats) (M 13) n)) (by omega) (by omega)).2.1 | exact (rd_good (T := M 9) (n := M 10 0) (s := (rdV (M 9) (M 10 0) (clV (M 9) (M 10 0) (pw M 0) (M 7 0) beats) (M 13) n)) (by omega) (by omega)).2.1 | (exfalso; omega)) rfl)), hIM_18⟩ (fun t ht _ => ⟨by rw [ht]; exact hP, hD⟩) hS dX6_readAll_114
      have hrn : ¬ (rdV (M 9) (M 10 0) (clV (M 9) (M 10 0) (pw M 0) (M 7 0) beats) (M 13) n).more = 0 := by omega
      refine lv_iload_n hx hb dX6_readAll_18 rfl (lv_at hl 1 rfl) ?_
      refine r_if_eq (tgt := 33) hx hb dX6_readAll_19 (by decide) (by omega) (fun c_20 => ?_) (fun c_20 => ?_)
      rotate_left
      · refine lv_aload_n hx hb dX6_readAll_22 rfl (lv_at hl 0 rfl) ?_
        refine r_bipush hx hb (by decide) dX6_readAll_23 ?_
        refine lv_iload_n hx hb dX6_readAll_25 rfl (lv_at hl 2 rfl) ?_
        refine r_imul hx hb dX6_readAll_26 ?_
        refine m_cV ⟨hx, hb, hml, hown, hts⟩ (m_beatClause hIMw (k := 6 * n) (by omega)) (cwV 1 hts (lw_V q1184 q1186 qs32 q60 q1187) rfl rfl rfl hdV_X6_beatClause ⟨Nat.le_of_ble_eq_true rfl, Nat.le_of_ble_eq_true rfl⟩) hK hP hD hS rfl hl.1 rfl (Nat.le_of_ble_eq_true rfl) ⟨Nat.le_of_ble_eq_true rfl, Nat.le_of_ble_eq_true rfl⟩ dX6_readAll_27 (fun M_28 H locs hq hP hD hS => ?_)
        obtain ⟨eM_28, hIM_28⟩ := hq
        have q9 := (show Mw 9 = M 9 from rM_x eMw 9 (by decide))
        have q10 := congrFun ((show Mw 10 = M 10 from rM_x eMw 10 (by decide))) 0
        have q11 := rM_11 eMw
        have q12 := rM_12 eMw
        have q13 := rM_13 eMw
        simp only [q9, q10, q11, q12, q13] at eM_28
        refine lv_goto (tgt := 41) hx hb dX6_readAll_30 (by decide) ?_
        have hcc : (clV (M 9) (M 10 0) (pw M 0) (M 7 0) beats) (6 * n) (rdV (M 9) (M 10 0) (clV (M 9) (M 10 0) (pw M 0) (M 7 0) beats) (M 13) n).a (rdV (M 9) (M 10 0) (clV (M 9) (M 10 0) (pw M 0) (M 7 0) beats) (M 13) n).w (rdV (M 9) (M 10 0) (clV (M 9) (M 10 0) (pw M 0) (M 7 0) beats) (M 13) n).f = (bA6 (M 9) (M 10 0) ((rdV (M 9) (M 10 0) (clV (M 9) (M 10 0) (pw M 0) (M 7 0) beats) (M 13) n).a) ((rdV (M 9) (M 10 0) (clV (M 9) (M 10 0) (pw M 0) (M 7 0) beats) (M 13) n).w), bW6 (M 9) (M 10 0) ((rdV (M 9) (M 10 0) (clV (M 9) (M 10 0) (pw M 0) (M 7 0) beats) (M 13) n).a) ((rdV (M 9) (M 10 0) (clV (M 9) (M 10 0) (pw M 0) (M 7 0) beats) (M 13) n).w), bRow (M 9) (M 10 0) ((rdV (M 9) (M 10 0) (clV (M 9) (M 10 0) (pw M 0) (M 7 0) beats) (M 13) n).f) (6 * n) ((rdV (M 9) (M 10 0) (clV (M 9) (M 10 0) (pw M 0) (M 7 0) beats) (M 13) n).a) ((rdV (M 9) (M 10 0) (clV (M 9) (M 10 0) (pw M 0) (M 7 0) beats) (M 13) n).w)) := by unfold clV; first | (rw [if_pos (by omega)]; rfl) | (rw [if_neg (by omega)]; rfl)
        refine lv_iinc (v := iv (n + 1)) (lv' := [(2, .int (iv (n + 1))), (0, .ref (B 0)), (1, .int (iv (beats))), (3, .int (iv (more)))]) hx hb dX6_readAll_41 hl (k := 2) rfl (iv_add _ _) (by decide) rfl (fun ls hl => ?_)
        refine lv_iload_n hx hb dX6_readAll_44 rfl (lv_at hl 0 rfl) ?_
        refine r_bipush hx hb (by decide) dX6_readAll_45 ?_
        refine r_icmp_ge (tgt := 63) hx hb dX6_readAll_47 (by decide) (by omega) (by omega) (fun c_30 => ?_) (fun c_30 => ?_)
        · refine r_iconst hx hb dX6_readAll_63 ?_
          refine lv_istore_n (lv' := [(3, .int (iv (0))), (2, .int (iv (n + 1))), (0, .ref (B 0)), (1, .int (iv (beats)))]) hx hb dX6_readAll_64 rfl hl (by decide) rfl (fun ls hl => ?_)
          refine lv_goto (tgt := 14) hx hb dX6_readAll_65 (by decide) ?_
          exact ih_14 (n + 1) 0 M_28 H locs (by omega) (by rw [rd_end h3.1 h1 hrn hcc (by omega)]; exact (rM_c eMw eM_28)) (congrArg RS.m (rd_end h3.1 h1 hrn hcc (by omega))) ((congrArg RS.more (rd_end h3.1 h1 hrn hcc (by omega))).symm) (by omega) (by omega) hIM_28 hP hD hS ls (lv_sub hl [2, 3, 1, 0] rfl)
        refine lv_aload_n hx hb dX6_readAll_50 rfl (lv_at hl 1 rfl) ?_
        refine r_bipush hx hb (by decide) dX6_readAll_51 ?_
        refine m_cI ⟨hx, hb, hml, hown, hts⟩ (m_has hIM_28 (ch_ := 59) (by decide)) (cwV 1 hts (lw_V q1198 q1200 qs35 q60 q1201) rfl rfl rfl hdV_X6_has ⟨Nat.le_of_ble_eq_true rfl, Nat.le_of_ble_eq_true rfl⟩) hK hP hD hS rfl hl.1 rfl (Nat.le_of_ble_eq_true rfl) ⟨Nat.le_of_ble_eq_true rfl, Nat.le_of_ble_eq_true rfl⟩ dX6_readAll_53 (fun r_32 M_31 H locs hq hP hD hS => ?_)
        obtain ⟨er_32, eM_31, hIM_31⟩ := hq
        have q9 := ((show M_28 9 = Mw 9 from rM_x eM_28 9 (by decide))).trans (show Mw 9 = M 9 from rM_x eMw 9 (by decide))
        have q10 := congrFun (((show M_28 10 = Mw 10 from rM_x eM_28 10 (by decide))).trans (show Mw 10 = M 10 from rM_x eMw 10 (by decide))) 0
        have q11 := (rM_11 eM_28)
        have q12 := (rM_12 eM_28)
        simp only [q9, q10, q11, q12] at er_32
        simp only [q9, q10, q11, q12] at eM_31
        subst er_32
        have f_33 := hasR_01 (M 9) (M 10 0) (59 : Int) (skV (M 9) (M 10 0) (bA6 (M 9) (M 10 0) ((rdV (M 9) (M 10 0) (clV (M 9) (M 10 0) (pw M 0) (M 7 0) beats) (M 13) n).a) ((rdV (M 9) (M 10 0) (clV (M 9) (M 10 0) (pw M 0) (M 7 0) beats) (M 13) n).w))) (bW6 (M 9) (M 10 0) ((rdV (M 9) (M 10 0) (clV (M 9) (M 10 0) (pw M 0) (M 7 0) beats) (M 13) n).a) ((rdV (M 9) (M 10 0) (clV (M 9) (M 10 0) (pw M 0) (M 7 0) beats) (M 13) n).w))
        refine r_if_eq (tgt := 63) hx hb dX6_readAll_56 (by decide) (by omega) (fun c_34 => ?_) (fun c_34 => ?_)
        · refine r_iconst hx hb dX6_readAll_63 ?_
          refine lv_istore_n (lv' := [(3, .int (iv (0))), (2, .int (iv (n + 1))), (0, .ref (B 0)), (1, .int (iv (beats)))]) hx hb dX6_readAll_64 rfl hl (by decide) rfl (fun ls hl => ?_)
          refine lv_goto (tgt := 14) hx hb dX6_readAll_65 (by decide) ?_
          exact ih_14 (n + 1) 0 M_31 H locs (by omega) (by rw [rd_go h3.1 h1 hrn hcc (by omega)]; exact (rM_pc (rM_c eMw eM_28) eM_31)) (congrArg RS.m (rd_go h3.1 h1 hrn hcc (by omega))) ((show 0 = hasR (M 9) (M 10 0) 59 (skV (M 9) (M 10 0) (bA6 (M 9) (M 10 0) ((rdV (M 9) (M 10 0) (clV (M 9) (M 10 0) (pw M 0) (M 7 0) beats) (M 13) n).a) ((rdV (M 9) (M 10 0) (clV (M 9) (M 10 0) (pw M 0) (M 7 0) beats) (M 13) n).w))) (bW6 (M 9) (M 10 0) ((rdV (M 9) (M 10 0) (clV (M 9) (M 10 0) (pw M 0) (M 7 0) beats) (M 13) n).a) ((rdV (M 9) (M 10 0) (clV (M 9) (M 10 0) (pw M 0) (M 7 0) beats) (M 13) n).w)) by omega).trans (congrArg RS.more (rd_go h3.1 h1 hrn hcc (by omega))).symm) (by omega) (by omega) hIM_31 hP hD hS ls (lv_sub hl [2, 3, 1, 0] rfl)
        refine r_iconst hx hb dX6_readAll_59 ?_
        refine lv_goto (tgt := 64) hx hb dX6_readAll_60 (by decide) ?_
        refine lv_istore_n (lv' := [(3, .int (iv (1))), (2, .int (iv (n + 1))), (0, .ref (B 0)), (1, .int (iv (beats)))]) hx hb dX6_readAll_64 rfl hl (by decide) rfl (fun ls hl => ?_)
        refine lv_goto (tgt := 14) hx hb dX6_readAll_65 (by decide) ?_
        exact ih_14 (n + 1) 1 M_31 H locs (by omega) (by rw [rd_go h3.1 h1 hrn hcc (by omega)]; exact (rM_pc (rM_c eMw eM_28) eM_31)) (congrArg RS.m (rd_go h3.1 h1 hrn hcc (by omega))) ((show 1 = hasR (M 9) (M 10 0) 59 (skV (M 9) (M 10 0) (bA6 (M 9) (M 10 0) ((rdV (M 9) (M 10 0) (clV (M 9) (M 10 0) (pw M 0) (M 7 0) beats) (M 13) n).a) ((rdV (M 9) (M 10 0) (clV (M 9) (M 10 0) (pw M 0) (M 7 0) beats) (M 13) n).w))) (bW6 (M 9) (M 10 0) ((rdV (M 9) (M 10 0) (clV (M 9) (M 10 0) (pw M 0) (M 7 0) beats) (M 13) n).a) ((rdV (M 9) (M 10 0) (clV (M 9) (M 10 0) (pw M 0) (M 7 0) beats) (M 13) n).w)) by omega).trans (congrArg RS.more (rd_go h3.1 h1 hrn hcc (by omega))).symm) (by omega) (by omega) hIM_31 hP hD hS ls (lv_sub hl [2, 3, 1, 0] rfl)
      refine lv_aload_n hx hb dX6_readAll_33 rfl (lv_at hl 0 rfl) ?_
      refine r_bipush hx hb (by decide) dX6_readAll_34 ?_
      refine lv_iload_n hx hb dX6_readAll_36 rfl (lv_at hl 2 rfl) ?_
      refine r_imul hx hb dX6_readAll_37 ?_
      refine m_cV ⟨hx, hb, hml, hown, hts⟩ (m_seatClause hIMw (k := 6 * n) (by omega) (by omega)) (cwV 1 hts (lw_V q1210 q1212 qs38 q60 q1213) rfl rfl rfl hdV_X6_seatClause ⟨Nat.le_of_ble_eq_true rfl, Nat.le_of_ble_eq_true rfl⟩) hK hP hD hS rfl hl.1 rfl (Nat.le_of_ble_eq_true rfl) ⟨Nat.le_of_ble_eq_true rfl, Nat.le_of_ble_eq_true rfl⟩ dX6_readAll_38 (fun M_21 H locs hq hP hD hS => ?_)
      obtain ⟨eM_21, hIM_21⟩ := hq
      have q9 := (show Mw 9 = M 9 from rM_x eMw 9 (by decide))
      have q10 := congrFun ((show Mw 10 = M 10 from rM_x eMw 10 (by decide))) 0
      have q11 := rM_11 eMw
      have q12 := rM_12 eMw
      have q13 := rM_13 eMw
      have q7 := congrFun ((show Mw 7 = M 7 from rM_x eMw 7 (by decide))) 0
      have q8 := pw_x ((show Mw 8 = M 8 from rM_x eMw 8 (by decide)))
      simp only [q9, q10, q11, q12, q13, q7, q8] at eM_21
      change M_21 = rM Mw (sA3 (M 9) (M 10 0) (sD (M 9) (M 10 0) (pw M 0) (M 7 0) ((rdV (M 9) (M 10 0) (clV (M 9) (M 10 0) (pw M 0) (M 7 0) beats) (M 13) n).f) (6 * n) ((rdV (M 9) (M 10 0) (clV (M 9) (M 10 0) (pw M 0) (M 7 0) beats) (M 13) n).a) ((rdV (M 9) (M 10 0) (clV (M 9) (M 10 0) (pw M 0) (M 7 0) beats) (M 13) n).w)) ((rdV (M 9) (M 10 0) (clV (M 9) (M 10 0) (pw M 0) (M 7 0) beats) (M 13) n).a) ((rdV (M 9) (M 10 0) (clV (M 9) (M 10 0) (pw M 0) (M 7 0) beats) (M 13) n).w)) (sW3 (M 9) (M 10 0) (sD (M 9) (M 10 0) (pw M 0) (M 7 0) ((rdV (M 9) (M 10 0) (clV (M 9) (M 10 0) (pw M 0) (M 7 0) beats) (M 13) n).f) (6 * n) ((rdV (M 9) (M 10 0) (clV (M 9) (M 10 0) (pw M 0) (M 7 0) beats) (M 13) n).a) ((rdV (M 9) (M 10 0) (clV (M 9) (M 10 0) (pw M 0) (M 7 0) beats) (M 13) n).w)) ((rdV (M 9) (M 10 0) (clV (M 9) (M 10 0) (pw M 0) (M 7 0) beats) (M 13) n).a) ((rdV (M 9) (M 10 0) (clV (M 9) (M 10 0) (pw M 0) (M 7 0) beats) (M 13) n).w)) (fset (fset ((rdV (M 9) (M 10 0) (clV (M 9) (M 10 0) (pw M 0) (M 7 0) beats) (M 13) n).f) (6 * n) (numV (M 9) (M 10 0) (skV (M 9) (M 10 0) ((rdV (M 9) (M 10 0) (clV (M 9) (M 10 0) (pw M 0) (M 7 0) beats) (M 13) n).a)) ((rdV (M 9) (M 10 0) (clV (M 9) (M 10 0) (pw M 0) (M 7 0) beats) (M 13) n).w))) ((6 * n) + 1) (sK (M 9) (M 10 0) (sD (M 9) (M 10 0) (pw M 0) (M 7 0) ((rdV (M 9) (M 10 0) (clV (M 9) (M 10 0) (pw M 0) (M 7 0) beats) (M 13) n).f) (6 * n) ((rdV (M 9) (M 10 0) (clV (M 9) (M 10 0) (pw M 0) (M 7 0) beats) (M 13) n).a) ((rdV (M 9) (M 10 0) (clV (M 9) (M 10 0) (pw M 0) (M 7 0) beats) (M 13) n).w)) ((rdV (M 9) (M 10 0) (clV (M 9) (M 10 0) (pw M 0) (M 7 0) beats) (M 13) n).a) ((rdV (M 9) (M 10 0) (clV (M 9) (M 10 0) (pw M 0) (M 7 0) beats) (M 13) n).w))) at eM_21
      have hcc : (clV (M 9) (M 10 0) (pw M 0) (M 7 0) beats) (6 * n) (rdV (M 9) (M 10 0) (clV (M 9) (M 10 0) (pw M 0) (M 7 0) beats) (M 13) n).a (rdV (M 9) (M 10 0) (clV (M 9) (M 10 0) (pw M 0) (M 7 0) beats) (M 13) n).w (rdV (M 9) (M 10 0) (clV (M 9) (M 10 0) (pw M 0) (M 7 0) beats) (M 13) n).f = (sA3 (M 9) (M 10 0) (sD (M 9) (M 10 0) (pw M 0) (M 7 0) ((rdV (M 9) (M 10 0) (clV (M 9) (M 10 0) (pw M 0) (M 7 0) beats) (M 13) n).f) (6 * n) ((rdV (M 9) (M 10 0) (clV (M 9) (M 10 0) (pw M 0) (M 7 0) beats) (M 13) n).a) ((rdV (M 9) (M 10 0) (clV (M 9) (M 10 0) (pw M 0) (M 7 0) beats) (M 13) n).w)) ((rdV (M 9) (M 10 0) (clV (M 9) (M 10 0) (pw M 0) (M 7 0) beats) (M 13) n).a) ((rdV (M 9) (M 10 0) (clV (M 9) (M 10 0) (pw M 0) (M 7 0) beats) (M 13) n).w), sW3 (M 9) (M 10 0) (sD (M 9) (M 10 0) (pw M 0) (M 7 0) ((rdV (M 9) (M 10 0) (clV (M 9) (M 10 0) (pw M 0) (M 7 0) beats) (M 13) n).f) (6 * n) ((rdV (M 9) (M 10 0) (clV (M 9) (M 10 0) (pw M 0) (M 7 0) beats) (M 13) n).a) ((rdV (M 9) (M 10 0) (clV (M 9) (M 10 0) (pw M 0) (M 7 0) beats) (M 13) n).w)) ((rdV (M 9) (M 10 0) (clV (M 9) (M 10 0) (pw M 0) (M 7 0) beats) (M 13) n).a) ((rdV (M 9) (M 10 0) (clV (M 9) (M 10 0) (pw M 0) (M 7 0) beats) (M 13) n).w), fset (fset ((rdV (M 9) (M 10 0) (clV (M 9) (M 10 0) (pw M 0) (M 7 0) beats) (M 13) n).f) (6 * n) (numV (M 9) (M 10 0) (skV (M 9) (M 10 0) ((rdV (M 9) (M 10 0) (clV (M 9) (M 10 0) (pw M 0) (M 7 0) beats) (M 13) n).a)) ((rdV (M 9) (M 10 0) (clV (M 9) (M 10 0) (pw M 0) (M 7 0) beats) (M 13) n).w))) ((6 * n) + 1) (sK (M 9) (M 10 0) (sD (M 9) (M 10 0) (pw M 0) (M 7 0) ((rdV (M 9) (M 10 0) (clV (M 9) (M 10 0) (pw M 0) (M 7 0) beats) (M 13) n).f) (6 * n) ((rdV (M 9) (M 10 0) (clV (M 9) (M 10 0) (pw M 0) (M 7 0) beats) (M 13) n).a) ((rdV (M 9) (M 10 0) (clV (M 9) (M 10 0) (pw M 0) (M 7 0) beats) (M 13) n).w)) ((rdV (M 9) (M 10 0) (clV (M 9) (M 10 0) (pw M 0) (M 7 0) beats) (M 13) n).a) ((rdV (M 9) (M 10 0) (clV (M 9) (M 10 0) (pw M 0) (M 7 0) beats) (M 13) n).w))) := by unfold clV; first | (rw [if_pos (by omega)]; rfl) | (rw [if_neg (by omega)]; rfl)
      refine lv_iinc (v := iv (n + 1)) (lv' := [(2, .int (iv (n + 1))), (0, .ref (B 0)), (1, .int (iv (beats))), (3, .int (iv (more)))]) hx hb dX6_readAll_41 hl (k := 2) rfl (iv_add _ _) (by decide) rfl (fun ls hl => ?_)
      refine lv_iload_n hx hb dX6_readAll_44 rfl (lv_at hl 0 rfl) ?_
      refine r_bipush hx hb (by decide) dX6_readAll_45 ?_
      refine r_icmp_ge (tgt := 63) hx hb dX6_readAll_47 (by decide) (by omega) (by omega) (fun c_23 => ?_) (fun c_23 => ?_)
      · refine r_iconst hx hb dX6_readAll_63 ?_
        refine lv_istore_n (lv' := [(3, .int (iv (0))), (2, .int (iv (n + 1))), (0, .ref (B 0)), (1, .int (iv (beats)))]) hx hb dX6_readAll_64 rfl hl (by decide) rfl (fun ls hl => ?_)
        refine lv_goto (tgt := 14) hx hb dX6_readAll_65 (by decide) ?_
        exact ih_14 (n + 1) 0 M_21 H locs (by omega) (by rw [rd_end h3.1 h1 hrn hcc (by omega)]; exact (rM_c eMw eM_21)) (congrArg RS.m (rd_end h3.1 h1 hrn hcc (by omega))) ((congrArg RS.more (rd_end h3.1 h1 hrn hcc (by omega))).symm) (by omega) (by omega) hIM_21 hP hD hS ls (lv_sub hl [2, 3, 1, 0] rfl)
      refine lv_aload_n hx hb dX6_readAll_50 rfl (lv_at hl 1 rfl) ?_
      refine r_bipush hx hb (by decide) dX6_readAll_51 ?_
      refine m_cI ⟨hx, hb, hml, hown, hts⟩ (m_has hIM_21 (ch_ := 59) (by decide)) (cwV 1 hts (lw_V q1198 q1200 qs35 q60 q1201) rfl rfl rfl hdV_X6_has ⟨Nat.le_of_ble_eq_true rfl, Nat.le_of_ble_eq_true rfl⟩) hK hP hD hS rfl hl.1 rfl (Nat.le_of_ble_eq_true rfl) ⟨Nat.le_of_ble_eq_true rfl, Nat.le_of_ble_eq_true rfl⟩ dX6_readAll_53 (fun r_25 M_24 H locs hq hP hD hS => ?_)
      obtain ⟨er_25, eM_24, hIM_24⟩ := hq
      have q9 := ((show M_21 9 = Mw 9 from rM_x eM_21 9 (by decide))).trans (show Mw 9 = M 9 from rM_x eMw 9 (by decide))
      have q10 := congrFun (((show M_21 10 = Mw 10 from rM_x eM_21 10 (by decide))).trans (show Mw 10 = M 10 from rM_x eMw 10 (by decide))) 0
      have q11 := (rM_11 eM_21)
      have q12 := (rM_12 eM_21)
      simp only [q9, q10, q11, q12] at er_25
      simp only [q9, q10, q11, q12] at eM_24
      subst er_25
      have f_26 := hasR_01 (M 9) (M 10 0) (59 : Int) (skV (M 9) (M 10 0) (sA3 (M 9) (M 10 0) (sD (M 9) (M 10 0) (pw M 0) (M 7 0) ((rdV (M 9) (M 10 0) (clV (M 9) (M 10 0) (pw M 0) (M 7 0) beats) (M 13) n).f) (6 * n) ((rdV (M 9) (M 10 0) (clV (M 9) (M 10 0) (pw M 0) (M 7 0) beats) (M 13) n).a) ((rdV (M 9) (M 10 0) (clV (M 9) (M 10 0) (pw M 0) (M 7 0) beats) (M 13) n).w)) ((rdV (M 9) (M 10 0) (clV (M 9) (M 10 0) (pw M 0) (M 7 0) beats) (M 13) n).a) ((rdV (M 9) (M 10 0) (clV (M 9) (M 10 0) (pw M 0) (M 7 0) beats) (M 13) n).w))) (sW3 (M 9) (M 10 0) (sD (M 9) (M 10 0) (pw M 0) (M 7 0) ((rdV (M 9) (M 10 0) (clV (M 9) (M 10 0) (pw M 0) (M 7 0) beats) (M 13) n).f) (6 * n) ((rdV (M 9) (M 10 0) (clV (M 9) (M 10 0) (pw M 0) (M 7 0) beats) (M 13) n).a) ((rdV (M 9) (M 10 0) (clV (M 9) (M 10 0) (pw M 0) (M 7 0) beats) (M 13) n).w)) ((rdV (M 9) (M 10 0) (clV (M 9) (M 10 0) (pw M 0) (M 7 0) beats) (M 13) n).a) ((rdV (M 9) (M 10 0) (clV (M 9) (M 10 0) (pw M 0) (M 7 0) beats) (M 13) n).w))
      refine r_if_eq (tgt := 63) hx hb dX6_readAll_56 (by decide) (by omega) (fun c_27 => ?_) (fun c_27 => ?_)
      · refine r_iconst hx hb dX6_readAll_63 ?_
        refine lv_istore_n (lv' := [(3, .int (iv (0))), (2, .int (iv (n + 1))), (0, .ref (B 0)), (1, .int (iv (beats)))]) hx hb dX6_readAll_64 rfl hl (by decide) rfl (fun ls hl => ?_)
        refine lv_goto (tgt := 14) hx hb dX6_readAll_65 (by decide) ?_
        exact ih_14 (n + 1) 0 M_24 H locs (by omega) (by rw [rd_go h3.1 h1 hrn hcc (by omega)]; exact (rM_pc (rM_c eMw eM_21) eM_24)) (congrArg RS.m (rd_go h3.1 h1 hrn hcc (by omega))) ((show 0 = hasR (M 9) (M 10 0) 59 (skV (M 9) (M 10 0) (sA3 (M 9) (M 10 0) (sD (M 9) (M 10 0) (pw M 0) (M 7 0) ((rdV (M 9) (M 10 0) (clV (M 9) (M 10 0) (pw M 0) (M 7 0) beats) (M 13) n).f) (6 * n) ((rdV (M 9) (M 10 0) (clV (M 9) (M 10 0) (pw M 0) (M 7 0) beats) (M 13) n).a) ((rdV (M 9) (M 10 0) (clV (M 9) (M 10 0) (pw M 0) (M 7 0) beats) (M 13) n).w)) ((rdV (M 9) (M 10 0) (clV (M 9) (M 10 0) (pw M 0) (M 7 0) beats) (M 13) n).a) ((rdV (M 9) (M 10 0) (clV (M 9) (M 10 0) (pw M 0) (M 7 0) beats) (M 13) n).w))) (sW3 (M 9) (M 10 0) (sD (M 9) (M 10 0) (pw M 0) (M 7 0) ((rdV (M 9) (M 10 0) (clV (M 9) (M 10 0) (pw M 0) (M 7 0) beats) (M 13) n).f) (6 * n) ((rdV (M 9) (M 10 0) (clV (M 9) (M 10 0) (pw M 0) (M 7 0) beats) (M 13) n).a) ((rdV (M 9) (M 10 0) (clV (M 9) (M 10 0) (pw M 0) (M 7 0) beats) (M 13) n).w)) ((rdV (M 9) (M 10 0) (clV (M 9) (M 10 0) (pw M 0) (M 7 0) beats) (M 13) n).a) ((rdV (M 9) (M 10 0) (clV (M 9) (M 10 0) (pw M 0) (M 7 0) beats) (M 13) n).w)) by omega).trans (congrArg RS.more (rd_go h3.1 h1 hrn hcc (by omega))).symm) (by omega) (by omega) hIM_24 hP hD hS ls (lv_sub hl [2, 3, 1, 0] rfl)
      refine r_iconst hx hb dX6_readAll_59 ?_
      refine lv_goto (tgt := 64) hx hb dX6_readAll_60 (by decide) ?_
      refine lv_istore_n (lv' := [(3, .int (iv (1))), (2, .int (iv (n + 1))), (0, .ref (B 0)), (1, .int (iv (beats)))]) hx hb dX6_readAll_64 rfl hl (by decide) rfl (fun ls hl => ?_)
      refine lv_goto (tgt := 14) hx hb dX6_readAll_65 (by decide) ?_
      exact ih_14 (n + 1) 1 M_24 H locs (by omega) (by rw [rd_go h3.1 h1 hrn hcc (by omega)]; exact (rM_pc (rM_c eMw eM_21) eM_24)) (congrArg RS.m (rd_go h3.1 h1 hrn hcc (by omega))) ((show 1 = hasR (M 9) (M 10 0) 59 (skV (M 9) (M 10 0) (sA3 (M 9) (M 10 0) (sD (M 9) (M 10 0) (pw M 0) (M 7 0) ((rdV (M 9) (M 10 0) (clV (M 9) (M 10 0) (pw M 0) (M 7 0) beats) (M 13) n).f) (6 * n) ((rdV (M 9) (M 10 0) (clV (M 9) (M 10 0) (pw M 0) (M 7 0) beats) (M 13) n).a) ((rdV (M 9) (M 10 0) (clV (M 9) (M 10 0) (pw M 0) (M 7 0) beats) (M 13) n).w)) ((rdV (M 9) (M 10 0) (clV (M 9) (M 10 0) (pw M 0) (M 7 0) beats) (M 13) n).a) ((rdV (M 9) (M 10 0) (clV (M 9) (M 10 0) (pw M 0) (M 7 0) beats) (M 13) n).w))) (sW3 (M 9) (M 10 0) (sD (M 9) (M 10 0) (pw M 0) (M 7 0) ((rdV (M 9) (M 10 0) (clV (M 9) (M 10 0) (pw M 0) (M 7 0) beats) (M 13) n).f) (6 * n) ((rdV (M 9) (M 10 0) (clV (M 9) (M 10 0) (pw M 0) (M 7 0) beats) (M 13) n).a) ((rdV (M 9) (M 10 0) (clV (M 9) (M 10 0) (pw M 0) (M 7 0) beats) (M 13) n).w)) ((rdV (M 9) (M 10 0) (clV (M 9) (M 10 0) (pw M 0) (M 7 0) beats) (M 13) n).a) ((rdV (M 9) (M 10 0) (clV (M 9) (M 10 0) (pw M 0) (M 7 0) beats) (M 13) n).w)) by omega).trans (congrArg RS.more (rd_go h3.1 h1 hrn hcc (by omega))).symm) (by omega) (by omega) hIM_24 hP hD hS ls (lv_sub hl [2, 3, 1, 0] rfl)
  exact lp_14 (8 - 0 + 1 : Int).toNat 0 1 M_2 H locs (by omega) ((by rw [rdV_0]; exact rM_v (rM_u (rM_self M).symm eM_1) eM_2)) (by rw [rdV_0]) (by rw [rdV_0]) (by omega) (by omega) hIM_2 hP hD hS ls (lv_sub hl [2, 3, 1, 0] rfl)
set_option maxHeartbeats 4000000 in
set_option maxRecDepth 100000 in
theorem m_routine {l : Launch} {D : va_G} {cI : ClassId} {B : Nat → Nat} {A : Nat → Prop} {M : St} (hI : InvM M)   : Met l yX6_routine (ws_ yX6_routine cX6_routine 3 (some .int)) (rmk 6 0 0) (va_Pc [.ref (B 0)] (mUS D cI A (mW cI B M))) (va_Qi (fun r M1 => r = iv (rdR (M 9) (M 10 0) (rbV M)) ∧ M1 = appM (rdM M (rbV M)) (rdR (M 9) (M 10 0) (rbV M)) ∧ InvM M1) (mB D cI B A) A) 0 0 A := by
  refine r_met (by decide) _ rfl (Nat.le_of_ble_eq_true rfl) ?_
  intro p e s m args below meth c Q ls hx hb hr hlk hml hown hts hpre hQ hl
  obtain ⟨hP, hD, hK⟩ := hpre
  have hS : va_S A s.heap s.heap [] := va_S.rf
  have hown : s.vm.findClass RX6 = some m.cls := hown
  have hl : lv_has ls 3 [(0, .ref (B 0))] := hl
  refine lv_aload_n hx hb dX6_routine_0 rfl (lv_at hl 0 rfl) ?_
  refine r_iconst hx hb dX6_routine_1 ?_
  refine m_cI ⟨hx, hb, hml, hown, hts⟩ (m_readAll hI (beats := 1) (by decide)) (cwV 1 hts (lw_V q1180 q1182 qs31 q60 q1183) rfl rfl rfl hdV_X6_readAll ⟨Nat.le_of_ble_eq_true rfl, Nat.le_of_ble_eq_true rfl⟩) hK hP hD hS rfl hl.1 rfl (Nat.le_of_ble_eq_true rfl) ⟨Nat.le_of_ble_eq_true rfl, Nat.le_of_ble_eq_true rfl⟩ dX6_routine_2 (fun r_2 M_1 H locs hq hP hD hS => ?_)
  obtain ⟨er_2, eM_1, hIM_1⟩ := hq
  have hcl : (clV (M 9) (M 10 0) (pw M 0) (M 7 0) 1) = bcl (M 9) (M 10 0) := if_neg (by decide)
  rw [hcl] at er_2 eM_1
  change r_2 = iv (rdR (M 9) (M 10 0) (rbV M)) at er_2
  change M_1 = rdM M (rbV M) at eM_1
  subst er_2
  have xM_1 : eqx [10, 11, 12, 13] M M_1 := by rw [eM_1]; exact rdM_x _ _
  have y13 : M_1 13 = (rbV M).f := by rw [eM_1]; exact rdM_13 _ _
  have y11 : M_1 11 0 = rdA (M 9) (M 10 0) (rbV M) := by rw [eM_1]; exact rdM_11 _ _
  have hA := iM_11 hIM_1 0
  rw [y11] at hA
  obtain ⟨hn8, hn0, hok⟩ := rdR_ok (T := M 9) (n := M 10 0) (s := rbV M) (cond := beOK) (rd_okB (M 9) (M 10 0) (M 13)) hA.1
  rw [← y13] at hok
  refine lv_istore_n (lv' := [(1, .int (iv (rdR (M 9) (M 10 0) (rbV M)))), (0, .ref (B 0))]) hx hb dX6_routine_5 rfl hl (by decide) rfl (fun ls hl => ?_)
  refine r_iconst hx hb dX6_routine_6 ?_
  refine lv_istore_n (lv' := [(2, .int (iv (0))), (1, .int (iv (rdR (M 9) (M 10 0) (rbV M)))), (0, .ref (B 0))]) hx hb dX6_routine_7 rfl hl (by decide) rfl (fun ls hl => ?_)
  have lp_8 : ∀ (n_8 : Nat) (k : Int) (Mw : St) (H : Heap) (locs : List Loc), 54 - k < (n_8 : Int) → (0 ≤ k ∧ k % 6 = 0 ∧ k ≤ 48) → (k = 0 ∨ k ≤ 6 * (rdR (M 9) (M 10 0) (rbV M))) → (Mw = appM M_1 (k / 6)) → InvM Mw → wP D vwCl (mW cI B Mw) H → wD A (mW cI B Mw) → va_S A s.heap H locs → ∀ (ls : Array Slot), lv_has ls 3 [(0, .ref (B 0)), (1, .int (iv (rdR (M 9) (M 10 0) (rbV M)))), (2, .int (iv (k)))] → W p l e (rmk 6 0 0) s m args below meth c H locs 0 0 Q (F0 m 8 ls []) := by
    intro n_8
    induction n_8 with
    | zero =>
      intro k Mw H locs hn_8 h0 h1 h2 hIMw hP hD hS ls hl
      exfalso
      omega
    | succ n_8 ih_8 =>
      intro k Mw H locs hn_8 h0 h1 h2 hIMw hP hD hS ls hl
      refine lv_iload_n hx hb dX6_routine_8 rfl (lv_at hl 2 rfl) ?_
      refine r_bipush hx hb (by decide) dX6_routine_9 ?_
      refine lv_iload_n hx hb dX6_routine_11 rfl (lv_at hl 1 rfl) ?_
      refine r_imul hx hb dX6_routine_12 ?_
      refine r_icmp_ge (tgt := 117) hx hb dX6_routine_13 (by decide) (by omega) (by omega) (fun c_3 => ?_) (fun c_3 => ?_)
      · refine lv_iload_n hx hb dX6_routine_117 rfl (lv_at hl 1 rfl) ?_
        exact r_iretS hx hb hr hlk hQ Mw ⟨rfl, by rcases (show k = 6 * (rdR (M 9) (M 10 0) (rbV M)) ∨ (k = 0 ∧ (rdR (M 9) (M 10 0) (rbV M)) ≤ 0) by omega) with q | q; rw [h2, eM_1, q, show 6 * (rdR (M 9) (M 10 0) (rbV M)) / 6 = (rdR (M 9) (M 10 0) (rbV M)) by omega]; rw [h2, q.1, eM_1, appM_neg _ q.2]; exact (appM_0 _).symm, hIMw⟩ (fun t ht _ => ⟨by rw [ht]; exact hP, hD⟩) hS dX6_routine_118
      have hb := hok (k / 6) (by omega) (by omega)
      rw [show 6 * (k / 6) = k by omega] at hb
      obtain ⟨hb0, hb1, hb2, hb3, hb4, hb5⟩ := hb
      refine lv_aload_n hx hb dX6_routine_16 rfl (lv_at hl 0 rfl) ?_
      refine mg_0 hx hb hts hown hK hP dX6_routine_17 ?_
      refine lv_aload_n hx hb dX6_routine_20 rfl (lv_at hl 0 rfl) ?_
      refine mg_13 hx hb hts hown hK hP dX6_routine_21 ?_
      refine lv_iload_n hx hb dX6_routine_24 rfl (lv_at hl 2 rfl) ?_
      refine m_ald hx hb hK hP 13 (n := 48) rfl (by decide) (by omega) dX6_routine_25 ?_
      refine r_top (congrFun ((show Mw 13 = M_1 13 from (show eqx [0, 1, 2, 3, 4] M_1 Mw by rw [h2]; exact appM_x _ _) 13 (by decide))) _) ?_
      have b_4 := iM_13 (M := M_1) hIM_1 (k)
      refine lv_aload_n hx hb dX6_routine_26 rfl (lv_at hl 0 rfl) ?_
      refine mg_13 hx hb hts hown hK hP dX6_routine_27 ?_
      refine lv_iload_n hx hb dX6_routine_30 rfl (lv_at hl 2 rfl) ?_
      refine r_iconst hx hb dX6_routine_31 ?_
      refine r_iadd hx hb dX6_routine_32 ?_
      refine m_ald hx hb hK hP 13 (n := 48) rfl (by decide) (by omega) dX6_routine_33 ?_
      refine r_top (congrFun ((show Mw 13 = M_1 13 from (show eqx [0, 1, 2, 3, 4] M_1 Mw by rw [h2]; exact appM_x _ _) 13 (by decide))) _) ?_
      have b_5 := iM_13 (M := M_1) hIM_1 (k + 1)
      refine m_ast hx hb hK hP hD hS 0 (n := 16) rfl (by decide) (by omega) dX6_routine_34 (fun M_6 eM_6 H locs hP hD hS => ?_)
      have hIM_6 : InvM M_6 := iMs_0 hIMw eM_6 (by omega)
      refine lv_aload_n hx hb dX6_routine_35 rfl (lv_at hl 0 rfl) ?_
      refine mg_2 hx hb hts hown hK hP dX6_routine_36 ?_
      refine lv_aload_n hx hb dX6_routine_39 rfl (lv_at hl 0 rfl) ?_
      refine mg_13 hx hb hts hown hK hP dX6_routine_40 ?_
      refine lv_iload_n hx hb dX6_routine_43 rfl (lv_at hl 2 rfl) ?_
      refine m_ald hx hb hK hP 13 (n := 48) rfl (by decide) (by omega) dX6_routine_44 ?_
      refine r_top (congrFun (((show M_6 13 = Mw 13 from by rw [eM_6]; exact upd2_k (by decide))).trans (show Mw 13 = M_1 13 from (show eqx [0, 1, 2, 3, 4] M_1 Mw by rw [h2]; exact appM_x _ _) 13 (by decide))) _) ?_
      have b_7 := iM_13 (M := M_1) hIM_1 (k)
      refine lv_aload_n hx hb dX6_routine_45 rfl (lv_at hl 0 rfl) ?_
      refine mg_13 hx hb hts hown hK hP dX6_routine_46 ?_
      refine lv_iload_n hx hb dX6_routine_49 rfl (lv_at hl 2 rfl) ?_
      refine r_iconst hx hb dX6_routine_50 ?_
      refine r_iadd hx hb dX6_routine_51 ?_
      refine m_ald hx hb hK hP 13 (n := 48) rfl (by decide) (by omega) dX6_routine_52 ?_
      refine r_top (congrFun (((show M_6 13 = Mw 13 from by rw [eM_6]; exact upd2_k (by decide))).trans (show Mw 13 = M_1 13 from (show eqx [0, 1, 2, 3, 4] M_1 Mw by rw [h2]; exact appM_x _ _) 13 (by decide))) _) ?_
      have b_8 := iM_13 (M := M_1) hIM_1 (k + 2)
      refine m_ast hx hb hK hP hD hS 2 (n := 16) rfl (by decide) (by omega) dX6_routine_53 (fun M_9 eM_9 H locs hP hD hS => ?_)
      have hIM_9 : InvM M_9 := iMs_2 hIM_6 eM_9 (by omega)
      refine lv_aload_n hx hb dX6_routine_54 rfl (lv_at hl 0 rfl) ?_
      refine mg_3 hx hb hts hown hK hP dX6_routine_55 ?_
      refine lv_aload_n hx hb dX6_routine_58 rfl (lv_at hl 0 rfl) ?_
      refine mg_13 hx hb hts hown hK hP dX6_routine_59 ?_
      refine lv_iload_n hx hb dX6_routine_62 rfl (lv_at hl 2 rfl) ?_
      refine m_ald hx hb hK hP 13 (n := 48) rfl (by decide) (by omega) dX6_routine_63 ?_
      refine r_top (congrFun ((((show M_9 13 = M_6 13 from by rw [eM_9]; exact upd2_k (by decide))).trans (show M_6 13 = Mw 13 from by rw [eM_6]; exact upd2_k (by decide))).trans (show Mw 13 = M_1 13 from (show eqx [0, 1, 2, 3, 4] M_1 Mw by rw [h2]; exact appM_x _ _) 13 (by decide))) _) ?_
      have b_10 := iM_13 (M := M_1) hIM_1 (k)
      refine lv_aload_n hx hb dX6_routine_64 rfl (lv_at hl 0 rfl) ?_
      refine mg_13 hx hb hts hown hK hP dX6_routine_65 ?_
      refine lv_iload_n hx hb dX6_routine_68 rfl (lv_at hl 2 rfl) ?_
      refine r_iconst hx hb dX6_routine_69 ?_
      refine r_iadd hx hb dX6_routine_70 ?_
      refine m_ald hx hb hK hP 13 (n := 48) rfl (by decide) (by omega) dX6_routine_71 ?_
      refine r_top (congrFun ((((show M_9 13 = M_6 13 from by rw [eM_9]; exact upd2_k (by decide))).trans (show M_6 13 = Mw 13 from by rw [eM_6]; exact upd2_k (by decide))).trans (show Mw 13 = M_1 13 from (show eqx [0, 1, 2, 3, 4] M_1 Mw by rw [h2]; exact appM_x _ _) 13 (by decide))) _) ?_
      have b_11 := iM_13 (M := M_1) hIM_1 (k + 3)
      refine m_ast hx hb hK hP hD hS 3 (n := 16) rfl (by decide) (by omega) dX6_routine_72 (fun M_12 eM_12 H locs hP hD hS => ?_)
      have hIM_12 : InvM M_12 := iMs_3 hIM_9 eM_12 (by omega)
      refine lv_aload_n hx hb dX6_routine_73 rfl (lv_at hl 0 rfl) ?_
      refine mg_4 hx hb hts hown hK hP dX6_routine_74 ?_
      refine lv_aload_n hx hb dX6_routine_77 rfl (lv_at hl 0 rfl) ?_
      refine mg_13 hx hb hts hown hK hP dX6_routine_78 ?_
      refine lv_iload_n hx hb dX6_routine_81 rfl (lv_at hl 2 rfl) ?_
      refine m_ald hx hb hK hP 13 (n := 48) rfl (by decide) (by omega) dX6_routine_82 ?_
      refine r_top (congrFun (((((show M_12 13 = M_9 13 from by rw [eM_12]; exact upd2_k (by decide))).trans (show M_9 13 = M_6 13 from by rw [eM_9]; exact upd2_k (by decide))).trans (show M_6 13 = Mw 13 from by rw [eM_6]; exact upd2_k (by decide))).trans (show Mw 13 = M_1 13 from (show eqx [0, 1, 2, 3, 4] M_1 Mw by rw [h2]; exact appM_x _ _) 13 (by decide))) _) ?_
      have b_13 := iM_13 (M := M_1) hIM_1 (k)
      refine lv_aload_n hx hb dX6_routine_83 rfl (lv_at hl 0 rfl) ?_
      refine mg_13 hx hb hts hown hK hP dX6_routine_84 ?_
      refine lv_iload_n hx hb dX6_routine_87 rfl (lv_at hl 2 rfl) ?_
      refine r_iconst hx hb dX6_routine_88 ?_
      refine r_iadd hx hb dX6_routine_89 ?_
      refine m_ald hx hb hK hP 13 (n := 48) rfl (by decide) (by omega) dX6_routine_90 ?_
      refine r_top (congrFun (((((show M_12 13 = M_9 13 from by rw [eM_12]; exact upd2_k (by decide))).trans (show M_9 13 = M_6 13 from by rw [eM_9]; exact upd2_k (by decide))).trans (show M_6 13 = Mw 13 from by rw [eM_6]; exact upd2_k (by decide))).trans (show Mw 13 = M_1 13 from (show eqx [0, 1, 2, 3, 4] M_1 Mw by rw [h2]; exact appM_x _ _) 13 (by decide))) _) ?_
      have b_14 := iM_13 (M := M_1) hIM_1 (k + 4)
      refine m_ast hx hb hK hP hD hS 4 (n := 16) rfl (by decide) (by omega) dX6_routine_91 (fun M_15 eM_15 H locs hP hD hS => ?_)
      have hIM_15 : InvM M_15 := iMs_4 hIM_12 eM_15 (by omega)
      refine lv_aload_n hx hb dX6_routine_92 rfl (lv_at hl 0 rfl) ?_
      refine mg_1 hx hb hts hown hK hP dX6_routine_93 ?_
      refine lv_aload_n hx hb dX6_routine_96 rfl (lv_at hl 0 rfl) ?_
      refine mg_13 hx hb hts hown hK hP dX6_routine_97 ?_
      refine lv_iload_n hx hb dX6_routine_100 rfl (lv_at hl 2 rfl) ?_
      refine m_ald hx hb hK hP 13 (n := 48) rfl (by decide) (by omega) dX6_routine_101 ?_
      refine r_top (congrFun ((((((show M_15 13 = M_12 13 from by rw [eM_15]; exact upd2_k (by decide))).trans (show M_12 13 = M_9 13 from by rw [eM_12]; exact upd2_k (by decide))).trans (show M_9 13 = M_6 13 from by rw [eM_9]; exact upd2_k (by decide))).trans (show M_6 13 = Mw 13 from by rw [eM_6]; exact upd2_k (by decide))).trans (show Mw 13 = M_1 13 from (show eqx [0, 1, 2, 3, 4] M_1 Mw by rw [h2]; exact appM_x _ _) 13 (by decide))) _) ?_
      have b_16 := iM_13 (M := M_1) hIM_1 (k)
      refine lv_aload_n hx hb dX6_routine_102 rfl (lv_at hl 0 rfl) ?_
      refine mg_13 hx hb hts hown hK hP dX6_routine_103 ?_
      refine lv_iload_n hx hb dX6_routine_106 rfl (lv_at hl 2 rfl) ?_
      refine r_iconst hx hb dX6_routine_107 ?_
      refine r_iadd hx hb dX6_routine_108 ?_
      refine m_ald hx hb hK hP 13 (n := 48) rfl (by decide) (by omega) dX6_routine_109 ?_
      refine r_top (congrFun ((((((show M_15 13 = M_12 13 from by rw [eM_15]; exact upd2_k (by decide))).trans (show M_12 13 = M_9 13 from by rw [eM_12]; exact upd2_k (by decide))).trans (show M_9 13 = M_6 13 from by rw [eM_9]; exact upd2_k (by decide))).trans (show M_6 13 = Mw 13 from by rw [eM_6]; exact upd2_k (by decide))).trans (show Mw 13 = M_1 13 from (show eqx [0, 1, 2, 3, 4] M_1 Mw by rw [h2]; exact appM_x _ _) 13 (by decide))) _) ?_
      have b_17 := iM_13 (M := M_1) hIM_1 (k + 5)
      refine m_ast hx hb hK hP hD hS 1 (n := 16) rfl (by decide) (by omega) dX6_routine_110 (fun M_18 eM_18 H locs hP hD hS => ?_)
      have hIM_18 : InvM M_18 := iMs_1 hIM_15 eM_18 (by omega)
      refine lv_iinc (v := iv (k + 6)) (lv' := [(2, .int (iv (k + 6))), (0, .ref (B 0)), (1, .int (iv (rdR (M 9) (M 10 0) (rbV M))))]) hx hb dX6_routine_111 hl (k := 2) rfl (iv_add _ _) (by decide) rfl (fun ls hl => ?_)
      refine lv_goto (tgt := 8) hx hb dX6_routine_114 (by decide) ?_
      exact ih_8 (k + 6) M_18 H locs (by omega) (by omega) (by omega) (by rw [show (k + 6) / 6 = k / 6 + 1 by omega, appM_s _ (by omega), ← h2, show 6 * (k / 6) = k by omega, eM_18, eM_15, eM_12, eM_9, eM_6]) hIM_18 hP hD hS ls (lv_sub hl [1, 2, 0] rfl)
  exact lp_8 (54 - 0 + 1 : Int).toNat 0 M_1 H locs (by omega) (by omega) (by omega) (appM_0 _) hIM_1 hP hD hS ls (lv_sub hl [2, 1, 0] rfl)
set_option maxHeartbeats 4000000 in
set_option maxRecDepth 100000 in
theorem m_house {l : Launch} {D : va_G} {cI : ClassId} {B : Nat → Nat} {A : Nat → Prop} {M : St} (hI : InvM M)   : Met l yX6_house (ws_ yX6_house cX6_house 3 (some .int)) (rmk 6 0 0) (va_Pc [.ref (B 0)] (mUS D cI A (mW cI B M))) (va_Qi (fun r M1 => r = iv (if 0 < (rdR (M 9) (M 10 0) (rsV M)) ∧ 8 < M 7 0 + (rdR (M 9) (M 10 0) (rsV M)) then -3 else (rdR (M 9) (M 10 0) (rsV M))) ∧ M1 = (if 0 < (rdR (M 9) (M 10 0) (rsV M)) ∧ 8 < M 7 0 + (rdR (M 9) (M 10 0) (rsV M)) then rdM M (rsV M) else houM (rdM M (rsV M)) (rdR (M 9) (M 10 0) (rsV M))) ∧ InvM M1) (mB D cI B A) A) 0 0 A := by
  refine r_met (by decide) _ rfl (Nat.le_of_ble_eq_true rfl) ?_
  intro p e s m args below meth c Q ls hx hb hr hlk hml hown hts hpre hQ hl
  obtain ⟨hP, hD, hK⟩ := hpre
  have hS : va_S A s.heap s.heap [] := va_S.rf
  have hown : s.vm.findClass RX6 = some m.cls := hown
  have hl : lv_has ls 3 [(0, .ref (B 0))] := hl
  refine lv_aload_n hx hb dX6_house_0 rfl (lv_at hl 0 rfl) ?_
  refine r_iconst hx hb dX6_house_1 ?_
  refine m_cI ⟨hx, hb, hml, hown, hts⟩ (m_readAll hI (beats := 0) (by decide)) (cwV 1 hts (lw_V q1180 q1182 qs31 q60 q1183) rfl rfl rfl hdV_X6_readAll ⟨Nat.le_of_ble_eq_true rfl, Nat.le_of_ble_eq_true rfl⟩) hK hP hD hS rfl hl.1 rfl (Nat.le_of_ble_eq_true rfl) ⟨Nat.le_of_ble_eq_true rfl, Nat.le_of_ble_eq_true rfl⟩ dX6_house_2 (fun r_2 M_1 H locs hq hP hD hS => ?_)
  obtain ⟨er_2, eM_1, hIM_1⟩ := hq
  have hcl : (clV (M 9) (M 10 0) (pw M 0) (M 7 0) 0) = scl (M 9) (M 10 0) (pw M 0) (M 7 0) := if_pos rfl
  rw [hcl] at er_2 eM_1
  change r_2 = iv (rdR (M 9) (M 10 0) (rsV M)) at er_2
  change M_1 = rdM M (rsV M) at eM_1
  subst er_2
  have xM_1 : eqx [10, 11, 12, 13] M M_1 := by rw [eM_1]; exact rdM_x _ _
  have y13 : M_1 13 = (rsV M).f := by rw [eM_1]; exact rdM_13 _ _
  have y11 : M_1 11 0 = rdA (M 9) (M 10 0) (rsV M) := by rw [eM_1]; exact rdM_11 _ _
  have hA := iM_11 hIM_1 0
  rw [y11] at hA
  obtain ⟨hn8, hn0, hok⟩ := rdR_ok (T := M 9) (n := M 10 0) (s := rsV M) (cond := seOK) (rd_okS (M 9) (M 10 0) (pw M 0) (M 7 0) (M 13)) hA.1
  rw [← y13] at hok
  refine lv_istore_n (lv' := [(1, .int (iv (rdR (M 9) (M 10 0) (rsV M)))), (0, .ref (B 0))]) hx hb dX6_house_5 rfl hl (by decide) rfl (fun ls hl => ?_)
  refine lv_iload_n hx hb dX6_house_6 rfl (lv_at hl 0 rfl) ?_
  refine r_if_le (tgt := 24) hx hb dX6_house_7 (by decide) (by omega) (fun c_3 => ?_) (fun c_3 => ?_)
  · refine r_iconst hx hb dX6_house_24 ?_
    refine lv_istore_n (lv' := [(2, .int (iv (0))), (1, .int (iv (rdR (M 9) (M 10 0) (rsV M)))), (0, .ref (B 0))]) hx hb dX6_house_25 rfl hl (by decide) rfl (fun ls hl => ?_)
    have lp_26 : ∀ (n_26 : Nat) (k : Int) (Mw : St) (H : Heap) (locs : List Loc), 54 - k < (n_26 : Int) → (0 ≤ k ∧ k % 6 = 0 ∧ k ≤ 48) → (k = 0 ∨ k ≤ 6 * (rdR (M 9) (M 10 0) (rsV M))) → (Mw = houM M_1 (k / 6)) → InvM Mw → wP D vwCl (mW cI B Mw) H → wD A (mW cI B Mw) → va_S A s.heap H locs → ∀ (ls : Array Slot), lv_has ls 3 [(0, .ref (B 0)), (1, .int (iv (rdR (M 9) (M 10 0) (rsV M)))), (2, .int (iv (k)))] → W p l e (rmk 6 0 0) s m args below meth c H locs 0 0 Q (F0 m 26 ls []) := by
      intro n_26
      induction n_26 with
      | zero =>
        intro k Mw H locs hn_26 h0 h1 h2 hIMw hP hD hS ls hl
        exfalso
        omega
      | succ n_26 ih_26 =>
        intro k Mw H locs hn_26 h0 h1 h2 hIMw hP hD hS ls hl
        have x7 := houM_7 M_1 (k / 6).toNat
        rw [show ((k / 6).toNat : Int) = k / 6 by omega, ← h2, show M_1 7 0 = M 7 0 from congrFun (xM_1 7 (by decide)) 0] at x7
        refine lv_iload_n hx hb dX6_house_26 rfl (lv_at hl 2 rfl) ?_
        refine r_bipush hx hb (by decide) dX6_house_27 ?_
        refine lv_iload_n hx hb dX6_house_29 rfl (lv_at hl 1 rfl) ?_
        refine r_imul hx hb dX6_house_30 ?_
        refine r_icmp_ge (tgt := 59) hx hb dX6_house_31 (by decide) (by omega) (by omega) (fun c_4 => ?_) (fun c_4 => ?_)
        · refine lv_iload_n hx hb dX6_house_59 rfl (lv_at hl 1 rfl) ?_
          exact r_iretS hx hb hr hlk hQ Mw ⟨congrArg iv (if_neg (by omega)).symm, by rw [if_neg (by omega)]; rcases (show k = 6 * (rdR (M 9) (M 10 0) (rsV M)) ∨ (k = 0 ∧ (rdR (M 9) (M 10 0) (rsV M)) ≤ 0) by omega) with q | q; rw [h2, eM_1, q, show 6 * (rdR (M 9) (M 10 0) (rsV M)) / 6 = (rdR (M 9) (M 10 0) (rsV M)) by omega]; rw [h2, q.1, eM_1, houM_neg _ q.2]; exact (houM_0 _).symm, hIMw⟩ (fun t ht _ => ⟨by rw [ht]; exact hP, hD⟩) hS dX6_house_60
        have hb := hok (k / 6) (by omega) (by omega)
        rw [show 6 * (k / 6) = k by omega] at hb
        obtain ⟨hb0, hb1⟩ := hb
        refine lv_aload_n hx hb dX6_house_34 rfl (lv_at hl 0 rfl) ?_
        refine lv_aload_n hx hb dX6_house_35 rfl (lv_at hl 0 rfl) ?_
        refine mg_13 hx hb hts hown hK hP dX6_house_36 ?_
        refine lv_iload_n hx hb dX6_house_39 rfl (lv_at hl 2 rfl) ?_
        refine m_ald hx hb hK hP 13 (n := 48) rfl (by decide) (by omega) dX6_house_40 ?_
        refine r_top (congrFun ((show Mw 13 = M_1 13 from (show eqx [7, 8] M_1 Mw by rw [h2]; exact houM_x _ _) 13 (by decide))) _) ?_
        have b_5 := iM_13 (M := M_1) hIM_1 (k)
        refine lv_aload_n hx hb dX6_house_41 rfl (lv_at hl 0 rfl) ?_
        refine mg_13 hx hb hts hown hK hP dX6_house_42 ?_
        refine lv_iload_n hx hb dX6_house_45 rfl (lv_at hl 2 rfl) ?_
        refine r_iconst hx hb dX6_house_46 ?_
        refine r_iadd hx hb dX6_house_47 ?_
        refine m_ald hx hb hK hP 13 (n := 48) rfl (by decide) (by omega) dX6_house_48 ?_
        refine r_top (congrFun ((show Mw 13 = M_1 13 from (show eqx [7, 8] M_1 Mw by rw [h2]; exact houM_x _ _) 13 (by decide))) _) ?_
        have b_6 := iM_13 (M := M_1) hIM_1 (k + 1)
        refine m_cI ⟨hx, hb, hml, hown, hts⟩ (m_comes hIMw (seat := M_1 13 k) (kind := M_1 13 (k + 1)) (by omega) (by omega) (by omega)) (cwV 2 hts (lw_V q1144 q1146 qs28 q60 q1147) rfl rfl rfl hdV_X6_comes ⟨Nat.le_of_ble_eq_true rfl, Nat.le_of_ble_eq_true rfl⟩) hK hP hD hS rfl hl.1 rfl (Nat.le_of_ble_eq_true rfl) ⟨Nat.le_of_ble_eq_true rfl, Nat.le_of_ble_eq_true rfl⟩ dX6_house_49 (fun r_8 M_7 H locs hq hP hD hS => ?_)
        obtain ⟨er_8, eM_7, hIM_7⟩ := hq
        subst er_8
        refine lv_pop hx hb dX6_house_52 rfl ?_
        refine lv_iinc (v := iv (k + 6)) (lv' := [(2, .int (iv (k + 6))), (0, .ref (B 0)), (1, .int (iv (rdR (M 9) (M 10 0) (rsV M))))]) hx hb dX6_house_53 hl (k := 2) rfl (iv_add _ _) (by decide) rfl (fun ls hl => ?_)
        refine lv_goto (tgt := 26) hx hb dX6_house_56 (by decide) ?_
        exact ih_26 (k + 6) M_7 H locs (by omega) (by omega) (by omega) (by rw [show (k + 6) / 6 = k / 6 + 1 by omega, houM_s _ (by omega), ← h2, show 6 * (k / 6) = k by omega, eM_7]) hIM_7 hP hD hS ls (lv_sub hl [1, 2, 0] rfl)
    exact lp_26 (54 - 0 + 1 : Int).toNat 0 M_1 H locs (by omega) (by omega) (by omega) (houM_0 _) hIM_1 hP hD hS ls (lv_sub hl [2, 1, 0] rfl)
  refine lv_aload_n hx hb dX6_house_10 rfl (lv_at hl 1 rfl) ?_
  refine mg_7 hx hb hts hown hK hP dX6_house_11 ?_
  refine r_top (congrFun ((show M_1 7 = M 7 from xM_1 7 (by decide))) 0) ?_
  have b_10 := iM_7 (M := M) hI (0)
  refine lv_iload_n hx hb dX6_house_14 rfl (lv_at hl 0 rfl) ?_
  refine r_iadd hx hb dX6_house_15 ?_
  refine r_bipush hx hb (by decide) dX6_house_16 ?_
  refine r_icmp_le (tgt := 24) hx hb dX6_house_18 (by decide) (by omega) (by omega) (fun c_11 => ?_) (fun c_11 => ?_)
  rotate_left
  · refine r_bipush hx hb (by decide) dX6_house_21 ?_
    exact r_iretS hx hb hr hlk hQ M_1 ⟨congrArg iv (if_pos (by omega)).symm, eM_1.trans (if_pos (by omega)).symm, hIM_1⟩ (fun t ht _ => ⟨by rw [ht]; exact hP, hD⟩) hS dX6_house_23
  refine r_iconst hx hb dX6_house_24 ?_
  refine lv_istore_n (lv' := [(2, .int (iv (0))), (1, .int (iv (rdR (M 9) (M 10 0) (rsV M)))), (0, .ref (B 0))]) hx hb dX6_house_25 rfl hl (by decide) rfl (fun ls hl => ?_)
  have lp_26 : ∀ (n_26 : Nat) (k : Int) (Mw26 : St) (H : Heap) (locs : List Loc), 54 - k < (n_26 : Int) → (0 ≤ k ∧ k % 6 = 0 ∧ k ≤ 48) → (k = 0 ∨ k ≤ 6 * (rdR (M 9) (M 10 0) (rsV M))) → (Mw26 = houM M_1 (k / 6)) → InvM Mw26 → wP D vwCl (mW cI B Mw26) H → wD A (mW cI B Mw26) → va_S A s.heap H locs → ∀ (ls : Array Slot), lv_has ls 3 [(0, .ref (B 0)), (1, .int (iv (rdR (M 9) (M 10 0) (rsV M)))), (2, .int (iv (k)))] → W p l e (rmk 6 0 0) s m args below meth c H locs 0 0 Q (F0 m 26 ls []) := by
    intro n_26
    induction n_26 with
    | zero =>
      intro k Mw26 H locs hn_26 h0 h1 h2 hIMw26 hP hD hS ls hl
      exfalso
      omega
    | succ n_26 ih_26 =>
      intro k Mw26 H locs hn_26 h0 h1 h2 hIMw26 hP hD hS ls hl
      have x7 := houM_7 M_1 (k / 6).toNat
      rw [show ((k / 6).toNat : Int) = k / 6 by omega, ← h2, show M_1 7 0 = M 7 0 from congrFun (xM_1 7 (by decide)) 0] at x7
      refine lv_iload_n hx hb dX6_house_26 rfl (lv_at hl 2 rfl) ?_
      refine r_bipush hx hb (by decide) dX6_house_27 ?_
      refine lv_iload_n hx hb dX6_house_29 rfl (lv_at hl 1 rfl) ?_
      refine r_imul hx hb dX6_house_30 ?_
      refine r_icmp_ge (tgt := 59) hx hb dX6_house_31 (by decide) (by omega) (by omega) (fun c_12 => ?_) (fun c_12 => ?_)
      · refine lv_iload_n hx hb dX6_house_59 rfl (lv_at hl 1 rfl) ?_
        exact r_iretS hx hb hr hlk hQ Mw26 ⟨congrArg iv (if_neg (by omega)).symm, by rw [if_neg (by omega)]; rcases (show k = 6 * (rdR (M 9) (M 10 0) (rsV M)) ∨ (k = 0 ∧ (rdR (M 9) (M 10 0) (rsV M)) ≤ 0) by omega) with q | q; rw [h2, eM_1, q, show 6 * (rdR (M 9) (M 10 0) (rsV M)) / 6 = (rdR (M 9) (M 10 0) (rsV M)) by omega]; rw [h2, q.1, eM_1, houM_neg _ q.2]; exact (houM_0 _).symm, hIMw26⟩ (fun t ht _ => ⟨by rw [ht]; exact hP, hD⟩) hS dX6_house_60
      have hb := hok (k / 6) (by omega) (by omega)
      rw [show 6 * (k / 6) = k by omega] at hb
      obtain ⟨hb0, hb1⟩ := hb
      refine lv_aload_n hx hb dX6_house_34 rfl (lv_at hl 0 rfl) ?_
      refine lv_aload_n hx hb dX6_house_35 rfl (lv_at hl 0 rfl) ?_
      refine mg_13 hx hb hts hown hK hP dX6_house_36 ?_
      refine lv_iload_n hx hb dX6_house_39 rfl (lv_at hl 2 rfl) ?_
      refine m_ald hx hb hK hP 13 (n := 48) rfl (by decide) (by omega) dX6_house_40 ?_
      refine r_top (congrFun ((show Mw26 13 = M_1 13 from (show eqx [7, 8] M_1 Mw26 by rw [h2]; exact houM_x _ _) 13 (by decide))) _) ?_
      have b_13 := iM_13 (M := M_1) hIM_1 (k)
      refine lv_aload_n hx hb dX6_house_41 rfl (lv_at hl 0 rfl) ?_
      refine mg_13 hx hb hts hown hK hP dX6_house_42 ?_
      refine lv_iload_n hx hb dX6_house_45 rfl (lv_at hl 2 rfl) ?_
      refine r_iconst hx hb dX6_house_46 ?_
      refine r_iadd hx hb dX6_house_47 ?_
      refine m_ald hx hb hK hP 13 (n := 48) rfl (by decide) (by omega) dX6_house_48 ?_
      refine r_top (congrFun ((show Mw26 13 = M_1 13 from (show eqx [7, 8] M_1 Mw26 by rw [h2]; exact houM_x _ _) 13 (by decide))) _) ?_
      have b_14 := iM_13 (M := M_1) hIM_1 (k + 1)
      refine m_cI ⟨hx, hb, hml, hown, hts⟩ (m_comes hIMw26 (seat := M_1 13 k) (kind := M_1 13 (k + 1)) (by omega) (by omega) (by omega)) (cwV 2 hts (lw_V q1144 q1146 qs28 q60 q1147) rfl rfl rfl hdV_X6_comes ⟨Nat.le_of_ble_eq_true rfl, Nat.le_of_ble_eq_true rfl⟩) hK hP hD hS rfl hl.1 rfl (Nat.le_of_ble_eq_true rfl) ⟨Nat.le_of_ble_eq_true rfl, Nat.le_of_ble_eq_true rfl⟩ dX6_house_49 (fun r_16 M_15 H locs hq hP hD hS => ?_)
      obtain ⟨er_16, eM_15, hIM_15⟩ := hq
      subst er_16
      refine lv_pop hx hb dX6_house_52 rfl ?_
      refine lv_iinc (v := iv (k + 6)) (lv' := [(2, .int (iv (k + 6))), (0, .ref (B 0)), (1, .int (iv (rdR (M 9) (M 10 0) (rsV M))))]) hx hb dX6_house_53 hl (k := 2) rfl (iv_add _ _) (by decide) rfl (fun ls hl => ?_)
      refine lv_goto (tgt := 26) hx hb dX6_house_56 (by decide) ?_
      exact ih_26 (k + 6) M_15 H locs (by omega) (by omega) (by omega) (by rw [show (k + 6) / 6 = k / 6 + 1 by omega, houM_s _ (by omega), ← h2, show 6 * (k / 6) = k by omega, eM_15]) hIM_15 hP hD hS ls (lv_sub hl [1, 2, 0] rfl)
  exact lp_26 (54 - 0 + 1 : Int).toNat 0 M_1 H locs (by omega) (by omega) (by omega) (houM_0 _) hIM_1 hP hD hS ls (lv_sub hl [2, 1, 0] rfl)
