set_option maxRecDepth 100000
set_option maxHeartbeats 4000000 in
set_option maxRecDepth 100000 in
theorem m_seesWith {l : Launch} {D : va_G} {cI : ClassId} {B : Nat → Nat} {A : Nat → Prop} {M : St} (hI : InvM M) {set : Int} (g_set : 0 ≤ set ∧ set ≤ 255) : Met l yX6_seesWith (ws_ yX6_seesWith cX6_seesWith 6 (some .int)) (rmk 5 0 0) (va_Pc [.ref (B 0), .int (iv set)] (mUS D cI A (mW cI B M))) (va_Qi (fun r M1 => r = iv (swV (rv M) (pw M) (M 7 0) (M 17) (M 16 0) set) ∧ eqx [14, 15, 18] M M1 ∧ InvM M1) (mB D cI B A) A) 0 0 A := by
  refine r_met (by decide) _ rfl (Nat.le_of_ble_eq_true rfl) ?_
  intro p e s m args below meth c Q ls hx hb hr hlk hml hown hts hpre hQ hl
  obtain ⟨hP, hD, hK⟩ := hpre
  have hS : va_S A s.heap s.heap [] := va_S.rf
  have hown : s.vm.findClass RX6 = some m.cls := hown
  have hl : lv_has ls 6 [(0, .ref (B 0)), (1, .int (iv (set)))] := hl
  have b16 := iM_16 hI 0
  refine r_iconst hx hb dX6_seesWith_0 ?_
  refine lv_istore_n (lv' := [(2, .int (iv (0))), (0, .ref (B 0)), (1, .int (iv (set)))]) hx hb dX6_seesWith_1 rfl hl (by decide) rfl (fun ls hl => ?_)
  have lp_2 : ∀ (n_2 : Nat) (b : Int) (Mw : St) (H : Heap) (locs : List Loc), 16 - b < (n_2 : Int) → (0 ≤ b) → (b ≤ 16) → (kepI M Mw b) → InvM Mw → wP D vwCl (mW cI B Mw) H → wD A (mW cI B Mw) → va_S A s.heap H locs → ∀ (ls : Array Slot), lv_has ls 6 [(0, .ref (B 0)), (1, .int (iv (set))), (2, .int (iv (b)))] → W p l e (rmk 5 0 0) s m args below meth c H locs 0 0 Q (F0 m 2 ls []) := by
    intro n_2
    induction n_2 with
    | zero =>
      intro b Mw H locs hn_2 h0 h1 h2 hIMw hP hD hS ls hl
      exfalso
      omega
    | succ n_2 ih_2 =>
      intro b Mw H locs hn_2 h0 h1 h2 hIMw hP hD hS ls hl
      refine lv_iload_n hx hb dX6_seesWith_2 rfl (lv_at hl 2 rfl) ?_
      refine r_bipush hx hb (by decide) dX6_seesWith_3 ?_
      refine r_icmp_ge (tgt := 71) hx hb dX6_seesWith_5 (by decide) (by omega) (by omega) (fun c_1 => ?_) (fun c_1 => ?_)
      rotate_left
      · refine lv_aload_n hx hb dX6_seesWith_8 rfl (lv_at hl 0 rfl) ?_
        refine mg_18 hx hb hts hown hK hP dX6_seesWith_9 ?_
        refine lv_iload_n hx hb dX6_seesWith_12 rfl (lv_at hl 2 rfl) ?_
        refine lv_aload_n hx hb dX6_seesWith_13 rfl (lv_at hl 0 rfl) ?_
        refine mg_0 hx hb hts hown hK hP dX6_seesWith_14 ?_
        refine lv_iload_n hx hb dX6_seesWith_17 rfl (lv_at hl 2 rfl) ?_
        refine m_ald hx hb hK hP 0 (n := 16) rfl (by decide) (by omega) dX6_seesWith_18 ?_
        refine r_top (congrFun ((show Mw 0 = M 0 from h2.1 0 (by decide))) _) ?_
        have b_54 := iM_0 (M := M) hI (b)
        refine m_ast hx hb hK hP hD hS 18 (n := 64) rfl (by decide) (by omega) dX6_seesWith_19 (fun M_55 eM_55 H locs hP hD hS => ?_)
        have hIM_55 : InvM M_55 := iMs_18 hIMw eM_55 (by omega)
        refine lv_aload_n hx hb dX6_seesWith_20 rfl (lv_at hl 0 rfl) ?_
        refine mg_18 hx hb hts hown hK hP dX6_seesWith_21 ?_
        refine r_bipush hx hb (by decide) dX6_seesWith_24 ?_
        refine lv_iload_n hx hb dX6_seesWith_26 rfl (lv_at hl 2 rfl) ?_
        refine r_iadd hx hb dX6_seesWith_27 ?_
        refine lv_aload_n hx hb dX6_seesWith_28 rfl (lv_at hl 0 rfl) ?_
        refine mg_2 hx hb hts hown hK hP dX6_seesWith_29 ?_
        refine lv_iload_n hx hb dX6_seesWith_32 rfl (lv_at hl 2 rfl) ?_
        refine m_ald hx hb hK hP 2 (n := 16) rfl (by decide) (by omega) dX6_seesWith_33 ?_
        refine r_top (congrFun (((show M_55 2 = Mw 2 from by rw [eM_55]; exact upd2_k (by decide))).trans (show Mw 2 = M 2 from h2.1 2 (by decide))) _) ?_
        have b_56 := iM_2 (M := M) hI (b)
        refine m_ast hx hb hK hP hD hS 18 (n := 64) rfl (by decide) (by omega) dX6_seesWith_34 (fun M_57 eM_57 H locs hP hD hS => ?_)
        have hIM_57 : InvM M_57 := iMs_18 hIM_55 eM_57 (by omega)
        refine lv_aload_n hx hb dX6_seesWith_35 rfl (lv_at hl 0 rfl) ?_
        refine mg_18 hx hb hts hown hK hP dX6_seesWith_36 ?_
        refine r_bipush hx hb (by decide) dX6_seesWith_39 ?_
        refine lv_iload_n hx hb dX6_seesWith_41 rfl (lv_at hl 2 rfl) ?_
        refine r_iadd hx hb dX6_seesWith_42 ?_
        refine lv_aload_n hx hb dX6_seesWith_43 rfl (lv_at hl 0 rfl) ?_
        refine mg_3 hx hb hts hown hK hP dX6_seesWith_44 ?_
        refine lv_iload_n hx hb dX6_seesWith_47 rfl (lv_at hl 2 rfl) ?_
        refine m_ald hx hb hK hP 3 (n := 16) rfl (by decide) (by omega) dX6_seesWith_48 ?_
        refine r_top (congrFun ((((show M_57 3 = M_55 3 from by rw [eM_57]; exact upd2_k (by decide))).trans (show M_55 3 = Mw 3 from by rw [eM_55]; exact upd2_k (by decide))).trans (show Mw 3 = M 3 from h2.1 3 (by decide))) _) ?_
        have b_58 := iM_3 (M := M) hI (b)
        refine m_ast hx hb hK hP hD hS 18 (n := 64) rfl (by decide) (by omega) dX6_seesWith_49 (fun M_59 eM_59 H locs hP hD hS => ?_)
        have hIM_59 : InvM M_59 := iMs_18 hIM_57 eM_59 (by omega)
        refine lv_aload_n hx hb dX6_seesWith_50 rfl (lv_at hl 0 rfl) ?_
        refine mg_18 hx hb hts hown hK hP dX6_seesWith_51 ?_
        refine r_bipush hx hb (by decide) dX6_seesWith_54 ?_
        refine lv_iload_n hx hb dX6_seesWith_56 rfl (lv_at hl 2 rfl) ?_
        refine r_iadd hx hb dX6_seesWith_57 ?_
        refine lv_aload_n hx hb dX6_seesWith_58 rfl (lv_at hl 0 rfl) ?_
        refine mg_4 hx hb hts hown hK hP dX6_seesWith_59 ?_
        refine lv_iload_n hx hb dX6_seesWith_62 rfl (lv_at hl 2 rfl) ?_
        refine m_ald hx hb hK hP 4 (n := 16) rfl (by decide) (by omega) dX6_seesWith_63 ?_
        refine r_top (congrFun (((((show M_59 4 = M_57 4 from by rw [eM_59]; exact upd2_k (by decide))).trans (show M_57 4 = M_55 4 from by rw [eM_57]; exact upd2_k (by decide))).trans (show M_55 4 = Mw 4 from by rw [eM_55]; exact upd2_k (by decide))).trans (show Mw 4 = M 4 from h2.1 4 (by decide))) _) ?_
        have b_60 := iM_4 (M := M) hI (b)
        refine m_ast hx hb hK hP hD hS 18 (n := 64) rfl (by decide) (by omega) dX6_seesWith_64 (fun M_61 eM_61 H locs hP hD hS => ?_)
        have hIM_61 : InvM M_61 := iMs_18 hIM_59 eM_61 (by omega)
        refine lv_iinc (v := iv (b + 1)) (lv' := [(2, .int (iv (b + 1))), (0, .ref (B 0)), (1, .int (iv (set)))]) hx hb dX6_seesWith_65 hl (k := 2) rfl (iv_add _ _) (by decide) rfl (fun ls hl => ?_)
        refine lv_goto (tgt := 2) hx hb dX6_seesWith_68 (by decide) ?_
        exact ih_2 (b + 1) M_61 H locs (by omega) (by omega) (by omega) (kepI_s (by omega) h2 eM_55 eM_57 eM_59 eM_61) hIM_61 hP hD hS ls (lv_sub hl [1, 2, 0] rfl)
      refine r_iconst hx hb dX6_seesWith_71 ?_
      refine lv_istore_n (lv' := [(2, .int (iv (0))), (0, .ref (B 0)), (1, .int (iv (set)))]) hx hb dX6_seesWith_72 rfl hl (by decide) rfl (fun ls hl => ?_)
      have lp_73 : ∀ (n_73 : Nat) (c2 : Int) (Mw73 : St) (H : Heap) (locs : List Loc), M 16 0 - c2 < (n_73 : Int) → (0 ≤ c2) → (c2 ≤ M 16 0) → (appI M Mw73 0) → (rv Mw73 = appV (rv M) (M 17) set c2) → InvM Mw73 → wP D vwCl (mW cI B Mw73) H → wD A (mW cI B Mw73) → va_S A s.heap H locs → ∀ (ls : Array Slot), lv_has ls 6 [(0, .ref (B 0)), (1, .int (iv (set))), (2, .int (iv (c2)))] → W p l e (rmk 5 0 0) s m args below meth c H locs 0 0 Q (F0 m 73 ls []) := by
        intro n_73
        induction n_73 with
        | zero =>
          intro c2 Mw73 H locs hn_73 j0 j1 j2 j3 hIMw73 hP hD hS ls hl
          exfalso
          omega
        | succ n_73 ih_73 =>
          intro c2 Mw73 H locs hn_73 j0 j1 j2 j3 hIMw73 hP hD hS ls hl
          have b16 := iM_16 hI 0
          refine lv_iload_n hx hb dX6_seesWith_73 rfl (lv_at hl 2 rfl) ?_
          refine lv_aload_n hx hb dX6_seesWith_74 rfl (lv_at hl 0 rfl) ?_
          refine mg_16 hx hb hts hown hK hP dX6_seesWith_75 ?_
          refine r_top (congrFun ((show Mw73 16 = M 16 from j2.1 16 (by decide))) 0) ?_
          have b_3 := iM_16 (M := M) hI (0)
          refine r_icmp_ge (tgt := 230) hx hb dX6_seesWith_78 (by decide) (by omega) (by omega) (fun c_4 => ?_) (fun c_4 => ?_)
          · refine lv_aload_n hx hb dX6_seesWith_230 rfl (lv_at hl 0 rfl) ?_
            refine r_iconst hx hb dX6_seesWith_231 ?_
            refine m_cI ⟨hx, hb, hml, hown, hts⟩ (m_seesAll hIMw73 (k := 1) (by decide)) (cwV 1 hts (lw_V q1256 q1258 qs42 q60 q1259) rfl rfl rfl hdV_X6_seesAll ⟨Nat.le_of_ble_eq_true rfl, Nat.le_of_ble_eq_true rfl⟩) hK hP hD hS rfl hl.1 rfl (Nat.le_of_ble_eq_true rfl) ⟨Nat.le_of_ble_eq_true rfl, Nat.le_of_ble_eq_true rfl⟩ dX6_seesWith_232 (fun r_6 M_5 H locs hq hP hD hS => ?_)
            obtain ⟨er_6, xM_5, hIM_5⟩ := hq
            subst er_6
            have f_7 := seesAllV_r (RB_rv hIMw73) (VB_pw hIMw73) (k := (1 : Int)) (n := Mw73 7 0) (b := 16) (by omega) (iM_7 hIMw73 0) (by decide)
            have esw : seesAllV (rv Mw73) (pw Mw73) (Mw73 7 0) 1 16 = swV (rv M) (pw M) (M 7 0) (M 17) (M 16 0) set := by rw [j3, show c2 = M 16 0 by omega, pw_x (j2.1 8 (by decide)), congrFun (j2.1 7 (by decide)) 0]; rfl
            refine lv_istore_n (lv' := [(2, .int (iv (seesAllV (rv Mw73) (pw Mw73) (Mw73 7 0) (1 : Int) 16))), (0, .ref (B 0)), (1, .int (iv (set)))]) hx hb dX6_seesWith_235 rfl hl (by decide) rfl (fun ls hl => ?_)
            refine r_iconst hx hb dX6_seesWith_236 ?_
            refine lv_istore_n (lv' := [(3, .int (iv (0))), (2, .int (iv (seesAllV (rv Mw73) (pw Mw73) (Mw73 7 0) (1 : Int) 16))), (0, .ref (B 0)), (1, .int (iv (set)))]) hx hb dX6_seesWith_237 rfl hl (by decide) rfl (fun ls hl => ?_)
            have lp_238 : ∀ (n_238 : Nat) (b3 : Int) (Mw238 : St) (H : Heap) (locs : List Loc), 16 - b3 < (n_238 : Int) → (0 ≤ b3) → (b3 ≤ 16) → (appI M Mw238 b3) → InvM Mw238 → wP D vwCl (mW cI B Mw238) H → wD A (mW cI B Mw238) → va_S A s.heap H locs → ∀ (ls : Array Slot), lv_has ls 6 [(0, .ref (B 0)), (1, .int (iv (set))), (2, .int (iv (seesAllV (rv Mw73) (pw Mw73) (Mw73 7 0) (1 : Int) 16))), (3, .int (iv (b3)))] → W p l e (rmk 5 0 0) s m args below meth c H locs 0 0 Q (F0 m 238 ls []) := by
              intro n_238
              induction n_238 with
              | zero =>
                intro b3 Mw238 H locs hn_238 k0 k1 k2 hIMw238 hP hD hS ls hl
                exfalso
                omega
              | succ n_238 ih_238 =>
                intro b3 Mw238 H locs hn_238 k0 k1 k2 hIMw238 hP hD hS ls hl
                refine lv_iload_n hx hb dX6_seesWith_238 rfl (lv_at hl 3 rfl) ?_
                refine r_bipush hx hb (by decide) dX6_seesWith_239 ?_
                refine r_icmp_ge (tgt := 307) hx hb dX6_seesWith_241 (by decide) (by omega) (by omega) (fun c_8 => ?_) (fun c_8 => ?_)
                · refine lv_iload_n hx hb dX6_seesWith_307 rfl (lv_at hl 2 rfl) ?_
                  exact r_iretS hx hb hr hlk hQ Mw238 ⟨congrArg iv esw, appI_end (by rw [show b3 = 16 by omega] at k2; exact k2), hIMw238⟩ (fun t ht _ => ⟨by rw [ht]; exact hP, hD⟩) hS dX6_seesWith_308
                obtain ⟨z1, z2, z3, z4⟩ := k2.2.2 b3 k0 (by omega)
                have y0 := iM_0 hI b3
                have y2 := iM_2 hI b3
                have y3 := iM_3 hI b3
                have y4 := iM_4 hI b3
                refine lv_aload_n hx hb dX6_seesWith_244 rfl (lv_at hl 0 rfl) ?_
                refine mg_0 hx hb hts hown hK hP dX6_seesWith_245 ?_
                refine lv_iload_n hx hb dX6_seesWith_248 rfl (lv_at hl 3 rfl) ?_
                refine lv_aload_n hx hb dX6_seesWith_249 rfl (lv_at hl 0 rfl) ?_
                refine mg_18 hx hb hts hown hK hP dX6_seesWith_250 ?_
                refine lv_iload_n hx hb dX6_seesWith_253 rfl (lv_at hl 3 rfl) ?_
                refine m_ald hx hb hK hP 18 (n := 64) rfl (by decide) (by omega) dX6_seesWith_254 ?_
                have b_9 := iM_18 (M := Mw238) hIMw238 (b3)
                refine m_ast hx hb hK hP hD hS 0 (n := 16) rfl (by decide) (by omega) dX6_seesWith_255 (fun M_10 eM_10 H locs hP hD hS => ?_)
                have hIM_10 : InvM M_10 := iMs_0 hIMw238 eM_10 (by omega)
                refine lv_aload_n hx hb dX6_seesWith_256 rfl (lv_at hl 0 rfl) ?_
                refine mg_2 hx hb hts hown hK hP dX6_seesWith_257 ?_
                refine lv_iload_n hx hb dX6_seesWith_260 rfl (lv_at hl 3 rfl) ?_
                refine lv_aload_n hx hb dX6_seesWith_261 rfl (lv_at hl 0 rfl) ?_
                refine mg_18 hx hb hts hown hK hP dX6_seesWith_262 ?_
                refine r_bipush hx hb (by decide) dX6_seesWith_265 ?_
                refine lv_iload_n hx hb dX6_seesWith_267 rfl (lv_at hl 3 rfl) ?_
                refine r_iadd hx hb dX6_seesWith_268 ?_
                refine m_ald hx hb hK hP 18 (n := 64) rfl (by decide) (by omega) dX6_seesWith_269 ?_
                refine r_top (congrFun ((show M_10 18 = Mw238 18 from by rw [eM_10]; exact upd2_k (by decide))) _) ?_
                have b_11 := iM_18 (M := Mw238) hIMw238 (16 + b3)
                refine m_ast hx hb hK hP hD hS 2 (n := 16) rfl (by decide) (by omega) dX6_seesWith_270 (fun M_12 eM_12 H locs hP hD hS => ?_)
                have hIM_12 : InvM M_12 := iMs_2 hIM_10 eM_12 (by omega)
                refine lv_aload_n hx hb dX6_seesWith_271 rfl (lv_at hl 0 rfl) ?_
                refine mg_3 hx hb hts hown hK hP dX6_seesWith_272 ?_
                refine lv_iload_n hx hb dX6_seesWith_275 rfl (lv_at hl 3 rfl) ?_
                refine lv_aload_n hx hb dX6_seesWith_276 rfl (lv_at hl 0 rfl) ?_
                refine mg_18 hx hb hts hown hK hP dX6_seesWith_277 ?_
                refine r_bipush hx hb (by decide) dX6_seesWith_280 ?_
                refine lv_iload_n hx hb dX6_seesWith_282 rfl (lv_at hl 3 rfl) ?_
                refine r_iadd hx hb dX6_seesWith_283 ?_
                refine m_ald hx hb hK hP 18 (n := 64) rfl (by decide) (by omega) dX6_seesWith_284 ?_
                refine r_top (congrFun (((show M_12 18 = M_10 18 from by rw [eM_12]; exact upd2_k (by decide))).trans (show M_10 18 = Mw238 18 from by rw [eM_10]; exact upd2_k (by decide))) _) ?_
                have b_13 := iM_18 (M := Mw238) hIMw238 (32 + b3)
                refine m_ast hx hb hK hP hD hS 3 (n := 16) rfl (by decide) (by omega) dX6_seesWith_285 (fun M_14 eM_14 H locs hP hD hS => ?_)
                have hIM_14 : InvM M_14 := iMs_3 hIM_12 eM_14 (by omega)
                refine lv_aload_n hx hb dX6_seesWith_286 rfl (lv_at hl 0 rfl) ?_
                refine mg_4 hx hb hts hown hK hP dX6_seesWith_287 ?_
                refine lv_iload_n hx hb dX6_seesWith_290 rfl (lv_at hl 3 rfl) ?_
                refine lv_aload_n hx hb dX6_seesWith_291 rfl (lv_at hl 0 rfl) ?_
                refine mg_18 hx hb hts hown hK hP dX6_seesWith_292 ?_
                refine r_bipush hx hb (by decide) dX6_seesWith_295 ?_
                refine lv_iload_n hx hb dX6_seesWith_297 rfl (lv_at hl 3 rfl) ?_
                refine r_iadd hx hb dX6_seesWith_298 ?_
                refine m_ald hx hb hK hP 18 (n := 64) rfl (by decide) (by omega) dX6_seesWith_299 ?_
                refine r_top (congrFun ((((show M_14 18 = M_12 18 from by rw [eM_14]; exact upd2_k (by decide))).trans (show M_12 18 = M_10 18 from by rw [eM_12]; exact upd2_k (by decide))).trans (show M_10 18 = Mw238 18 from by rw [eM_10]; exact upd2_k (by decide))) _) ?_
                have b_15 := iM_18 (M := Mw238) hIMw238 (48 + b3)
                refine m_ast hx hb hK hP hD hS 4 (n := 16) rfl (by decide) (by omega) dX6_seesWith_300 (fun M_16 eM_16 H locs hP hD hS => ?_)
                have hIM_16 : InvM M_16 := iMs_4 hIM_14 eM_16 (by omega)
                refine lv_iinc (v := iv (b3 + 1)) (lv' := [(3, .int (iv (b3 + 1))), (0, .ref (B 0)), (1, .int (iv (set))), (2, .int (iv (seesAllV (rv Mw73) (pw Mw73) (Mw73 7 0) (1 : Int) 16)))]) hx hb dX6_seesWith_301 hl (k := 3) rfl (iv_add _ _) (by decide) rfl (fun ls hl => ?_)
                refine lv_goto (tgt := 238) hx hb dX6_seesWith_304 (by decide) ?_
                exact ih_238 (b3 + 1) M_16 H locs (by omega) (by omega) (by omega) (appI_t (by omega) k2 eM_10 eM_12 eM_14 eM_16) hIM_16 hP hD hS ls (lv_sub hl [1, 2, 3, 0] rfl)
            exact lp_238 (16 - 0 + 1 : Int).toNat 0 M_5 H locs (by omega) (by omega) (by omega) (appI_x j2 xM_5) hIM_5 hP hD hS ls (lv_sub hl [2, 3, 1, 0] rfl)
          refine lv_aload_n hx hb dX6_seesWith_81 rfl (lv_at hl 0 rfl) ?_
          refine mg_17 hx hb hts hown hK hP dX6_seesWith_82 ?_
          refine r_iconst hx hb dX6_seesWith_85 ?_
          refine lv_iload_n hx hb dX6_seesWith_86 rfl (lv_at hl 2 rfl) ?_
          refine r_imul hx hb dX6_seesWith_87 ?_
          refine m_ald hx hb hK hP 17 (n := 32) rfl (by decide) (by omega) dX6_seesWith_88 ?_
          refine r_top (congrFun ((show Mw73 17 = M 17 from j2.1 17 (by decide))) _) ?_
          have b_17 := iM_17 (M := M) hI (4 * c2)
          refine lv_istore_n (lv' := [(3, .int (iv (M 17 (4 * c2)))), (0, .ref (B 0)), (1, .int (iv (set))), (2, .int (iv (c2)))]) hx hb dX6_seesWith_89 rfl hl (by decide) rfl (fun ls hl => ?_)
          refine lv_iload_n hx hb dX6_seesWith_90 rfl (lv_at hl 2 rfl) ?_
          refine lv_iload_n hx hb dX6_seesWith_91 rfl (lv_at hl 3 rfl) ?_
          refine lv_ishr hx hb dX6_seesWith_92 ?_
          refine r_iconst hx hb dX6_seesWith_93 ?_
          refine lv_iand hx hb dX6_seesWith_94 ?_
          refine r_topv (b := bitV set c2) (bit_iv (by omega) (by omega)) ?_
          have f_18 := bitV_r set c2
          refine r_iconst hx hb dX6_seesWith_95 ?_
          have J_22 : ∀ (v_20 : Int) (ls : Array Slot), v_20 = (if (bitV set c2) = 1 then M 17 ((4 * c2) + 1) else -4) → lv_has ls 6 [(0, .ref (B 0)), (1, .int (iv (set))), (2, .int (iv (c2))), (3, .int (iv (M 17 (4 * c2))))] → W p l e (rmk 5 0 0) s m args below meth c H locs 0 0 Q (F0 m 114 ls [.int (iv (v_20))]) := by
            intro v_20 ls ev_20 hl
            have qk := iM_17 hI (4 * c2 + 1)
            refine lv_istore (lv' := [(4, .int (iv (v_20))), (0, .ref (B 0)), (1, .int (iv (set))), (2, .int (iv (c2))), (3, .int (iv (M 17 (4 * c2))))]) hx hb dX6_seesWith_114 hl (by decide) rfl (fun ls hl => ?_)
            refine lv_aload_n hx hb dX6_seesWith_116 rfl (lv_at hl 1 rfl) ?_
            refine mg_17 hx hb hts hown hK hP dX6_seesWith_117 ?_
            refine r_iconst hx hb dX6_seesWith_120 ?_
            refine lv_iload_n hx hb dX6_seesWith_121 rfl (lv_at hl 3 rfl) ?_
            refine r_imul hx hb dX6_seesWith_122 ?_
            refine r_iconst hx hb dX6_seesWith_123 ?_
            refine r_iadd hx hb dX6_seesWith_124 ?_
            refine m_ald hx hb hK hP 17 (n := 32) rfl (by decide) (by omega) dX6_seesWith_125 ?_
            refine r_top (congrFun ((show Mw73 17 = M 17 from j2.1 17 (by decide))) _) ?_
            have b_23 := iM_17 (M := M) hI ((4 * c2) + 2)
            refine lv_istore (lv' := [(5, .int (iv (M 17 ((4 * c2) + 2)))), (4, .int (iv (v_20))), (0, .ref (B 0)), (1, .int (iv (set))), (2, .int (iv (c2))), (3, .int (iv (M 17 (4 * c2))))]) hx hb dX6_seesWith_126 hl (by decide) rfl (fun ls hl => ?_)
            refine lv_aload_n hx hb dX6_seesWith_128 rfl (lv_at hl 2 rfl) ?_
            refine mg_0 hx hb hts hown hK hP dX6_seesWith_129 ?_
            refine lv_iload_n hx hb dX6_seesWith_132 rfl (lv_at hl 5 rfl) ?_
            refine lv_iload hx hb dX6_seesWith_133 (lv_at hl 1 rfl) ?_
            have J_27 : ∀ (v_25 : Int) (ls : Array Slot), v_25 = (if v_20 = 0 then (10 * (M 17 ((4 * c2) + 2))) + 6 else Mw73 0 (M 17 (4 * c2))) → lv_has ls 6 [(0, .ref (B 0)), (1, .int (iv (set))), (2, .int (iv (c2))), (3, .int (iv (M 17 (4 * c2)))), (4, .int (iv (v_20))), (5, .int (iv (M 17 ((4 * c2) + 2))))] → W p l e (rmk 5 0 0) s m args below meth c H locs 0 0 Q (F0 m 155 ls [.int (iv (v_25)), .int (iv (M 17 (4 * c2))), .ref (B 1)]) := by
              intro v_25 ls ev_25 hl
              refine m_ast hx hb hK hP hD hS 0 (n := 16) rfl (by decide) (by omega) dX6_seesWith_155 (fun M_28 eM_28 H locs hP hD hS => ?_)
              have hIM_28 : InvM M_28 := iMs_0 hIMw73 eM_28 (by have q := iM_0 hIMw73 (M 17 (4 * c2)); omega)
              refine lv_aload_n hx hb dX6_seesWith_156 rfl (lv_at hl 0 rfl) ?_
              refine mg_2 hx hb hts hown hK hP dX6_seesWith_157 ?_
              refine lv_iload_n hx hb dX6_seesWith_160 rfl (lv_at hl 3 rfl) ?_
              refine lv_iload hx hb dX6_seesWith_161 (lv_at hl 4 rfl) ?_
              refine r_iconst hx hb dX6_seesWith_163 ?_
              have J_32 : ∀ (v_30 : Int) (ls : Array Slot), v_30 = (if v_20 = 1 then M 17 ((4 * c2) + 2) else Mw73 2 (M 17 (4 * c2))) → lv_has ls 6 [(0, .ref (B 0)), (1, .int (iv (set))), (2, .int (iv (c2))), (3, .int (iv (M 17 (4 * c2)))), (4, .int (iv (v_20))), (5, .int (iv (M 17 ((4 * c2) + 2))))] → W p l e (rmk 5 0 0) s m args below meth c H locs 0 0 Q (F0 m 178 ls [.int (iv (v_30)), .int (iv (M 17 (4 * c2))), .ref (B 3)]) := by
                intro v_30 ls ev_30 hl
                refine m_ast hx hb hK hP hD hS 2 (n := 16) rfl (by decide) (by omega) dX6_seesWith_178 (fun M_33 eM_33 H locs hP hD hS => ?_)
                have hIM_33 : InvM M_33 := iMs_2 hIM_28 eM_33 (by have q := iM_2 hIMw73 (M 17 (4 * c2)); omega)
                refine lv_aload_n hx hb dX6_seesWith_179 rfl (lv_at hl 0 rfl) ?_
                refine mg_3 hx hb hts hown hK hP dX6_seesWith_180 ?_
                refine lv_iload_n hx hb dX6_seesWith_183 rfl (lv_at hl 3 rfl) ?_
                refine lv_iload hx hb dX6_seesWith_184 (lv_at hl 4 rfl) ?_
                refine r_iconst hx hb dX6_seesWith_186 ?_
                have J_37 : ∀ (v_35 : Int) (ls : Array Slot), v_35 = (if v_20 = 2 then M 17 ((4 * c2) + 2) else Mw73 3 (M 17 (4 * c2))) → lv_has ls 6 [(0, .ref (B 0)), (1, .int (iv (set))), (2, .int (iv (c2))), (3, .int (iv (M 17 (4 * c2)))), (4, .int (iv (v_20))), (5, .int (iv (M 17 ((4 * c2) + 2))))] → W p l e (rmk 5 0 0) s m args below meth c H locs 0 0 Q (F0 m 201 ls [.int (iv (v_35)), .int (iv (M 17 (4 * c2))), .ref (B 4)]) := by
                  intro v_35 ls ev_35 hl
                  refine m_ast hx hb hK hP hD hS 3 (n := 16) rfl (by decide) (by omega) dX6_seesWith_201 (fun M_38 eM_38 H locs hP hD hS => ?_)
                  have hIM_38 : InvM M_38 := iMs_3 hIM_33 eM_38 (by have q := iM_3 hIMw73 (M 17 (4 * c2)); omega)
                  refine lv_aload_n hx hb dX6_seesWith_202 rfl (lv_at hl 0 rfl) ?_
                  refine mg_4 hx hb hts hown hK hP dX6_seesWith_203 ?_
                  refine lv_iload_n hx hb dX6_seesWith_206 rfl (lv_at hl 3 rfl) ?_
                  refine lv_iload hx hb dX6_seesWith_207 (lv_at hl 4 rfl) ?_
                  refine r_iconst hx hb dX6_seesWith_209 ?_
                  have J_42 : ∀ (v_40 : Int) (ls : Array Slot), v_40 = (if v_20 = 3 then 1 else Mw73 4 (M 17 (4 * c2))) → lv_has ls 6 [(0, .ref (B 0)), (1, .int (iv (set))), (2, .int (iv (c2))), (3, .int (iv (M 17 (4 * c2)))), (4, .int (iv (v_20))), (5, .int (iv (M 17 ((4 * c2) + 2))))] → W p l e (rmk 5 0 0) s m args below meth c H locs 0 0 Q (F0 m 223 ls [.int (iv (v_40)), .int (iv (M 17 (4 * c2))), .ref (B 5)]) := by
                    intro v_40 ls ev_40 hl
                    refine m_ast hx hb hK hP hD hS 4 (n := 16) rfl (by decide) (by omega) dX6_seesWith_223 (fun M_43 eM_43 H locs hP hD hS => ?_)
                    have hIM_43 : InvM M_43 := iMs_4 hIM_38 eM_43 (by have q := iM_4 hIMw73 (M 17 (4 * c2)); omega)
                    refine lv_iinc (v := iv (c2 + 1)) (lv' := [(2, .int (iv (c2 + 1))), (0, .ref (B 0)), (1, .int (iv (set))), (3, .int (iv (M 17 (4 * c2)))), (4, .int (iv (v_20))), (5, .int (iv (M 17 ((4 * c2) + 2))))]) hx hb dX6_seesWith_224 hl (k := 2) rfl (iv_add _ _) (by decide) rfl (fun ls hl => ?_)
                    refine lv_goto (tgt := 73) hx hb dX6_seesWith_227 (by decide) ?_
                    exact ih_73 (c2 + 1) M_43 H locs (by omega) (by omega) (by omega) (appI_s (by omega) j2 eM_28 eM_33 eM_38 eM_43) (by rw [appV_s _ _ _ j0, ← j3]; unfold covS; rw [eM_43, rv_upd _ (by decide), eM_38, rv_upd _ (by decide), eM_33, rv_upd _ (by decide), eM_28, rv_upd _ (by decide)]; subst_vars; rfl) hIM_43 hP hD hS ls (lv_sub hl [1, 2, 0] rfl)
                  refine r_icmp_ne (tgt := 217) hx hb dX6_seesWith_210 (by decide) (by omega) (by omega) (fun c_39 => ?_) (fun c_39 => ?_)
                  rotate_left
                  · refine r_iconst hx hb dX6_seesWith_213 ?_
                    refine lv_goto (tgt := 223) hx hb dX6_seesWith_214 (by decide) ?_
                    exact J_42 1 ls (by rw [if_pos c_39]) (lv_sub hl [0, 1, 2, 3, 4, 5] rfl)
                  refine lv_aload_n hx hb dX6_seesWith_217 rfl (lv_at hl 0 rfl) ?_
                  refine mg_4 hx hb hts hown hK hP dX6_seesWith_218 ?_
                  refine lv_iload_n hx hb dX6_seesWith_221 rfl (lv_at hl 3 rfl) ?_
                  refine m_ald hx hb hK hP 4 (n := 16) rfl (by decide) (by omega) dX6_seesWith_222 ?_
                  refine r_top (congrFun ((((show M_38 4 = M_33 4 from by rw [eM_38]; exact upd2_k (by decide))).trans (show M_33 4 = M_28 4 from by rw [eM_33]; exact upd2_k (by decide))).trans (show M_28 4 = Mw73 4 from by rw [eM_28]; exact upd2_k (by decide))) _) ?_
                  have b_45 := iM_4 (M := Mw73) hIMw73 (M 17 (4 * c2))
                  exact J_42 (Mw73 4 (M 17 (4 * c2))) ls (by rw [if_neg c_39]) (lv_sub hl [0, 1, 2, 3, 4, 5] rfl)
                refine r_icmp_ne (tgt := 195) hx hb dX6_seesWith_187 (by decide) (by omega) (by omega) (fun c_34 => ?_) (fun c_34 => ?_)
                rotate_left
                · refine lv_iload hx hb dX6_seesWith_190 (lv_at hl 5 rfl) ?_
                  refine lv_goto (tgt := 201) hx hb dX6_seesWith_192 (by decide) ?_
                  exact J_37 (M 17 ((4 * c2) + 2)) ls (by rw [if_pos c_34]) (lv_sub hl [0, 1, 2, 3, 4, 5] rfl)
                refine lv_aload_n hx hb dX6_seesWith_195 rfl (lv_at hl 0 rfl) ?_
                refine mg_3 hx hb hts hown hK hP dX6_seesWith_196 ?_
                refine lv_iload_n hx hb dX6_seesWith_199 rfl (lv_at hl 3 rfl) ?_
                refine m_ald hx hb hK hP 3 (n := 16) rfl (by decide) (by omega) dX6_seesWith_200 ?_
                refine r_top (congrFun (((show M_33 3 = M_28 3 from by rw [eM_33]; exact upd2_k (by decide))).trans (show M_28 3 = Mw73 3 from by rw [eM_28]; exact upd2_k (by decide))) _) ?_
                have b_47 := iM_3 (M := Mw73) hIMw73 (M 17 (4 * c2))
                exact J_37 (Mw73 3 (M 17 (4 * c2))) ls (by rw [if_neg c_34]) (lv_sub hl [0, 1, 2, 3, 4, 5] rfl)
              refine r_icmp_ne (tgt := 172) hx hb dX6_seesWith_164 (by decide) (by omega) (by omega) (fun c_29 => ?_) (fun c_29 => ?_)
              rotate_left
              · refine lv_iload hx hb dX6_seesWith_167 (lv_at hl 5 rfl) ?_
                refine lv_goto (tgt := 178) hx hb dX6_seesWith_169 (by decide) ?_
                exact J_32 (M 17 ((4 * c2) + 2)) ls (by rw [if_pos c_29]) (lv_sub hl [0, 1, 2, 3, 4, 5] rfl)
              refine lv_aload_n hx hb dX6_seesWith_172 rfl (lv_at hl 0 rfl) ?_
              refine mg_2 hx hb hts hown hK hP dX6_seesWith_173 ?_
              refine lv_iload_n hx hb dX6_seesWith_176 rfl (lv_at hl 3 rfl) ?_
              refine m_ald hx hb hK hP 2 (n := 16) rfl (by decide) (by omega) dX6_seesWith_177 ?_
              refine r_top (congrFun ((show M_28 2 = Mw73 2 from by rw [eM_28]; exact upd2_k (by decide))) _) ?_
              have b_49 := iM_2 (M := Mw73) hIMw73 (M 17 (4 * c2))
              exact J_32 (Mw73 2 (M 17 (4 * c2))) ls (by rw [if_neg c_29]) (lv_sub hl [0, 1, 2, 3, 4, 5] rfl)
            refine r_if_ne (tgt := 149) hx hb dX6_seesWith_135 (by decide) (by omega) (fun c_24 => ?_) (fun c_24 => ?_)
            · refine lv_aload_n hx hb dX6_seesWith_149 rfl (lv_at hl 2 rfl) ?_
              refine mg_0 hx hb hts hown hK hP dX6_seesWith_150 ?_
              refine lv_iload_n hx hb dX6_seesWith_153 rfl (lv_at hl 5 rfl) ?_
              refine m_ald hx hb hK hP 0 (n := 16) rfl (by decide) (by omega) dX6_seesWith_154 ?_
              have b_51 := iM_0 (M := Mw73) hIMw73 (M 17 (4 * c2))
              exact J_27 (Mw73 0 (M 17 (4 * c2))) ls (by rw [if_neg c_24]) (lv_sub hl [2, 3, 4, 5, 1, 0] rfl)
            refine r_bipush hx hb (by decide) dX6_seesWith_138 ?_
            refine lv_iload hx hb dX6_seesWith_140 (lv_at hl 0 rfl) ?_
            refine r_imul hx hb dX6_seesWith_142 ?_
            refine r_bipush hx hb (by decide) dX6_seesWith_143 ?_
            refine r_iadd hx hb dX6_seesWith_145 ?_
            refine lv_goto (tgt := 155) hx hb dX6_seesWith_146 (by decide) ?_
            exact J_27 ((10 * (M 17 ((4 * c2) + 2))) + 6) ls (by rw [if_pos c_24]) (lv_sub hl [2, 3, 4, 5, 1, 0] rfl)
          refine r_icmp_ne (tgt := 112) hx hb dX6_seesWith_96 (by decide) (by omega) (by omega) (fun c_19 => ?_) (fun c_19 => ?_)
          · refine r_bipush hx hb (by decide) dX6_seesWith_112 ?_
            exact J_22 (-4) ls (by rw [if_neg c_19]) (lv_sub hl [1, 2, 3, 0] rfl)
          refine lv_aload_n hx hb dX6_seesWith_99 rfl (lv_at hl 1 rfl) ?_
          refine mg_17 hx hb hts hown hK hP dX6_seesWith_100 ?_
          refine r_iconst hx hb dX6_seesWith_103 ?_
          refine lv_iload_n hx hb dX6_seesWith_104 rfl (lv_at hl 3 rfl) ?_
          refine r_imul hx hb dX6_seesWith_105 ?_
          refine r_iconst hx hb dX6_seesWith_106 ?_
          refine r_iadd hx hb dX6_seesWith_107 ?_
          refine m_ald hx hb hK hP 17 (n := 32) rfl (by decide) (by omega) dX6_seesWith_108 ?_
          refine r_top (congrFun ((show Mw73 17 = M 17 from j2.1 17 (by decide))) _) ?_
          have b_53 := iM_17 (M := M) hI ((4 * c2) + 1)
          refine lv_goto (tgt := 114) hx hb dX6_seesWith_109 (by decide) ?_
          exact J_22 (M 17 ((4 * c2) + 1)) ls (by rw [if_pos c_19]) (lv_sub hl [1, 2, 3, 0] rfl)
      exact lp_73 (M 16 0 - 0 + 1 : Int).toNat 0 Mw H locs (by have := iM_16 hI 0; omega) (by omega) (by omega) (kepI_end (by rw [show b = 16 by omega] at h2; exact h2)) ((rv_eqx h2.1 (by intro f hf q; simp only [List.mem_cons, List.not_mem_nil, or_false] at q; omega)).trans (appV_0 _ _ _)) hIMw hP hD hS ls (lv_sub hl [1, 2, 0] rfl)
  exact lp_2 (16 - 0 + 1 : Int).toNat 0 M s.heap [] (by omega) (by omega) (by omega) (kepI_0 _) hI hP hD hS ls (lv_sub hl [1, 2, 0] rfl)
set_option maxHeartbeats 4000000 in
set_option maxRecDepth 100000 in
theorem m_does {l : Launch} {D : va_G} {cI : ClassId} {B : Nat → Nat} {A : Nat → Prop} {M : St} (hI : InvM M) {cover : Int} {what : Int} (g_cover : -2147483648 ≤ cover ∧ cover ≤ 2147483647) (g_what : -2147483648 ≤ what ∧ what ≤ 2147483647) : Met l yX6_does (ws_ yX6_does cX6_does 5 (some .int)) (rmk 6 0 0) (va_Pc [.ref (B 0), .int (iv cover), .int (iv what)] (mUS D cI A (mW cI B M))) (va_Qi (fun r M1 => r = iv (opDoes (rv M) (pw M) (M 7 0) (M 17) (M 16 0) cover what) ∧ eqx [14, 15, 18] M M1 ∧ InvM M1) (mB D cI B A) A) 0 0 A := by
  refine r_met (by decide) _ rfl (Nat.le_of_ble_eq_true rfl) ?_
  intro p e s m args below meth c Q ls hx hb hr hlk hml hown hts hpre hQ hl
  obtain ⟨hP, hD, hK⟩ := hpre
  have hS : va_S A s.heap s.heap [] := va_S.rf
  have hown : s.vm.findClass RX6 = some m.cls := hown
  have hl : lv_has ls 5 [(0, .ref (B 0)), (1, .int (iv (cover))), (2, .int (iv (what)))] := hl
  have b16 := iM_16 hI 0
  refine lv_iload_n hx hb dX6_does_0 rfl (lv_at hl 1 rfl) ?_
  refine r_i2l hx hb (by omega) dX6_does_1 ?_
  refine r_lconst hx hb 0 (by decide) dX6_does_2 ?_
  refine lv_aload_n hx hb dX6_does_3 rfl (lv_at hl 0 rfl) ?_
  refine mg_16 hx hb hts hown hK hP dX6_does_4 ?_
  have b_1 := iM_16 (M := M) hI (0)
  refine r_iconst hx hb dX6_does_7 ?_
  refine r_isub hx hb dX6_does_8 ?_
  refine r_i2l hx hb (by omega) dX6_does_9 ?_
  refine s_cR ⟨hx, hb, hml, hown, hts⟩ (m_in (v := cover) (low := 0) (high := (M 16 0) - 1) (by omega) (by decide) (by omega)) (va_cwS 3 hts (lw_S q1111 q1112 q60 q1113) rfl rfl rfl hdS_X6_in ⟨Nat.le_of_ble_eq_true rfl, Nat.le_of_ble_eq_true rfl⟩) rfl hl.1 rfl (Nat.le_of_ble_eq_true rfl) ⟨Nat.le_of_ble_eq_true rfl, Nat.le_of_ble_eq_true rfl⟩ dX6_does_10 ?_
  refine r_ifz_eq (tgt := 26) hx hb dX6_does_13 (by decide) (fun c_2 => ?_) (fun c_2 => ?_)
  · refine r_ldc hx hb (-100001) (by decide) hown (hts _ q1278) dX6_does_26 ?_
    exact r_iretS hx hb hr hlk hQ M ⟨congrArg iv (by first | (refine Eq.trans ?_ ((if_neg (by first | assumption | omega))).symm; first | rfl | omega) | (refine Eq.trans ?_ ((if_pos (by first | assumption | omega))).symm; first | rfl | omega) | (refine Eq.trans ?_ (((if_neg (by first | assumption | omega))).trans (if_neg (by first | assumption | omega))).symm; first | rfl | omega) | (refine Eq.trans ?_ (((if_neg (by first | assumption | omega))).trans (if_pos (by first | assumption | omega))).symm; first | rfl | omega) | (refine Eq.trans ?_ (((if_pos (by first | assumption | omega))).trans (if_neg (by first | assumption | omega))).symm; first | rfl | omega) | (refine Eq.trans ?_ (((if_pos (by first | assumption | omega))).trans (if_pos (by first | assumption | omega))).symm; first | rfl | omega)), (eqx.rf [14, 15, 18] M), hI⟩ (fun t ht _ => ⟨by rw [ht]; exact hP, hD⟩) hS dX6_does_28
  refine lv_iload_n hx hb dX6_does_16 rfl (lv_at hl 2 rfl) ?_
  refine r_i2l hx hb (by omega) dX6_does_17 ?_
  refine r_lconst hx hb 0 (by decide) dX6_does_18 ?_
  refine r_lconst hx hb 1 (by decide) dX6_does_19 ?_
  refine s_cR ⟨hx, hb, hml, hown, hts⟩ (m_in (v := what) (low := 0) (high := 1) (by omega) (by decide) (by decide)) (va_cwS 3 hts (lw_S q1111 q1112 q60 q1113) rfl rfl rfl hdS_X6_in ⟨Nat.le_of_ble_eq_true rfl, Nat.le_of_ble_eq_true rfl⟩) rfl hl.1 rfl (Nat.le_of_ble_eq_true rfl) ⟨Nat.le_of_ble_eq_true rfl, Nat.le_of_ble_eq_true rfl⟩ dX6_does_20 ?_
  refine r_ifz_ne (tgt := 29) hx hb dX6_does_23 (by decide) (fun c_3 => ?_) (fun c_3 => ?_)
  rotate_left
  · refine r_ldc hx hb (-100001) (by decide) hown (hts _ q1278) dX6_does_26 ?_
    exact r_iretS hx hb hr hlk hQ M ⟨congrArg iv (by first | (refine Eq.trans ?_ ((if_neg (by first | assumption | omega))).symm; first | rfl | omega) | (refine Eq.trans ?_ ((if_pos (by first | assumption | omega))).symm; first | rfl | omega) | (refine Eq.trans ?_ (((if_neg (by first | assumption | omega))).trans (if_neg (by first | assumption | omega))).symm; first | rfl | omega) | (refine Eq.trans ?_ (((if_neg (by first | assumption | omega))).trans (if_pos (by first | assumption | omega))).symm; first | rfl | omega) | (refine Eq.trans ?_ (((if_pos (by first | assumption | omega))).trans (if_neg (by first | assumption | omega))).symm; first | rfl | omega) | (refine Eq.trans ?_ (((if_pos (by first | assumption | omega))).trans (if_pos (by first | assumption | omega))).symm; first | rfl | omega)), (eqx.rf [14, 15, 18] M), hI⟩ (fun t ht _ => ⟨by rw [ht]; exact hP, hD⟩) hS dX6_does_28
  refine r_iconst hx hb dX6_does_29 ?_
  refine lv_aload_n hx hb dX6_does_30 rfl (lv_at hl 0 rfl) ?_
  refine mg_16 hx hb hts hown hK hP dX6_does_31 ?_
  have b_4 := iM_16 (M := M) hI (0)
  refine lv_ishl hx hb dX6_does_34 ?_
  refine r_topv (shl_iv (by omega)) ?_
  have f_5 := p2_pos (M 16 0)
  refine r_iconst hx hb dX6_does_35 ?_
  refine r_isub hx hb dX6_does_36 ?_
  refine lv_istore_n (lv' := [(3, .int (iv ((p2 (M 16 0)) - 1))), (0, .ref (B 0)), (1, .int (iv (cover))), (2, .int (iv (what)))]) hx hb dX6_does_37 rfl hl (by decide) rfl (fun ls hl => ?_)
  refine r_iconst hx hb dX6_does_38 ?_
  refine lv_iload_n hx hb dX6_does_39 rfl (lv_at hl 2 rfl) ?_
  refine lv_ishl hx hb dX6_does_40 ?_
  refine r_topv (shl_iv (by omega)) ?_
  have f_6 := p2_pos cover
  refine lv_istore (lv' := [(4, .int (iv (p2 cover))), (3, .int (iv ((p2 (M 16 0)) - 1))), (0, .ref (B 0)), (1, .int (iv (cover))), (2, .int (iv (what)))]) hx hb dX6_does_41 hl (by decide) rfl (fun ls hl => ?_)
  have f1 := p2_le (c := M 16 0) (by omega)
  have f3 := p2_s (c := cover) (by omega)
  have f4 := p2_mono (a := cover + 1) (b := M 16 0) (by omega)
  refine lv_iload_n hx hb dX6_does_43 rfl (lv_at hl 4 rfl) ?_
  refine r_if_ne (tgt := 62) hx hb dX6_does_44 (by decide) (by omega) (fun c_7 => ?_) (fun c_7 => ?_)
  rotate_left
  · refine lv_aload_n hx hb dX6_does_47 rfl (lv_at hl 2 rfl) ?_
    refine r_iconst hx hb dX6_does_48 ?_
    refine m_cI ⟨hx, hb, hml, hown, hts⟩ (m_seesWith hI (set := 0) (by decide)) (cwV 1 hts (lw_V q1279 q1281 qs44 q60 q1282) rfl rfl rfl hdV_X6_seesWith ⟨Nat.le_of_ble_eq_true rfl, Nat.le_of_ble_eq_true rfl⟩) hK hP hD hS rfl hl.1 rfl (Nat.le_of_ble_eq_true rfl) ⟨Nat.le_of_ble_eq_true rfl, Nat.le_of_ble_eq_true rfl⟩ dX6_does_49 (fun r_16 M_15 H locs hq hP hD hS => ?_)
    obtain ⟨er_16, xM_15, hIM_15⟩ := hq
    subst er_16
    have f_17 := swV_r (RB_rv hI) (VB_pw hI) (iM_7 hI 0) (fun j => iM_17 hI j) (M 16 0) (0 : Int)
    refine lv_aload_n hx hb dX6_does_52 rfl (lv_at hl 2 rfl) ?_
    refine lv_iload hx hb dX6_does_53 (lv_at hl 0 rfl) ?_
    refine m_cI ⟨hx, hb, hml, hown, hts⟩ (m_seesWith hIM_15 (set := p2 cover) (by omega)) (cwV 1 hts (lw_V q1279 q1281 qs44 q60 q1282) rfl rfl rfl hdV_X6_seesWith ⟨Nat.le_of_ble_eq_true rfl, Nat.le_of_ble_eq_true rfl⟩) hK hP hD hS rfl hl.1 rfl (Nat.le_of_ble_eq_true rfl) ⟨Nat.le_of_ble_eq_true rfl, Nat.le_of_ble_eq_true rfl⟩ dX6_does_55 (fun r_19 M_18 H locs hq hP hD hS => ?_)
    obtain ⟨er_19, xM_18, hIM_18⟩ := hq
    subst er_19
    have nx_20 : eqx [14, 15, 18] M M_15 := ((eqx.rf [14, 15, 18] M).tr (eqx.mono (js := [14, 15, 18]) xM_15 (by decide)))
    have nx_20r : rv M_15 = rv M := rv_eqx nx_20 (by intro f hf q; simp only [List.mem_cons, List.not_mem_nil, or_false] at q; omega)
    have nx_20p : pw M_15 = pw M := pw_x (nx_20 8 (by decide))
    have nx_20_7 : M_15 7 = M 7 := nx_20 7 (by decide)
    have nx_20_16 : M_15 16 = M 16 := nx_20 16 (by decide)
    have nx_20_17 : M_15 17 = M 17 := nx_20 17 (by decide)
    rw [nx_20r, nx_20p, nx_20_7, nx_20_16, nx_20_17]
    have f_21 := swV_r (RB_rv hI) (VB_pw hI) (iM_7 hI 0) (fun j => iM_17 hI j) (M 16 0) (p2 cover)
    refine r_isub hx hb dX6_does_58 ?_
    refine lv_goto (tgt := 78) hx hb dX6_does_59 (by decide) ?_
    exact r_iretS hx hb hr hlk hQ M_18 ⟨congrArg iv (by first | (refine Eq.trans ?_ ((if_neg (by first | assumption | omega))).symm; first | rfl | omega) | (refine Eq.trans ?_ ((if_pos (by first | assumption | omega))).symm; first | rfl | omega) | (refine Eq.trans ?_ (((if_neg (by first | assumption | omega))).trans (if_neg (by first | assumption | omega))).symm; first | rfl | omega) | (refine Eq.trans ?_ (((if_neg (by first | assumption | omega))).trans (if_pos (by first | assumption | omega))).symm; first | rfl | omega) | (refine Eq.trans ?_ (((if_pos (by first | assumption | omega))).trans (if_neg (by first | assumption | omega))).symm; first | rfl | omega) | (refine Eq.trans ?_ (((if_pos (by first | assumption | omega))).trans (if_pos (by first | assumption | omega))).symm; first | rfl | omega)), (((eqx.rf [14, 15, 18] M).tr (eqx.mono (js := [14, 15, 18]) xM_15 (by decide))).tr (eqx.mono (js := [14, 15, 18]) xM_18 (by decide))), hIM_18⟩ (fun t ht _ => ⟨by rw [ht]; exact hP, hD⟩) hS dX6_does_78
  refine lv_aload_n hx hb dX6_does_62 rfl (lv_at hl 2 rfl) ?_
  refine lv_iload_n hx hb dX6_does_63 rfl (lv_at hl 1 rfl) ?_
  refine lv_iload hx hb dX6_does_64 (lv_at hl 0 rfl) ?_
  refine r_iconst hx hb dX6_does_66 ?_
  refine lv_ixor hx hb dX6_does_67 ?_
  refine lv_iand hx hb dX6_does_68 ?_
  refine r_topv (andn_iv (by omega) (by omega)) ?_
  refine m_cI ⟨hx, hb, hml, hown, hts⟩ (m_seesWith hI (set := p2 (M 16 0) - 1 - p2 cover) (by omega)) (cwV 1 hts (lw_V q1279 q1281 qs44 q60 q1282) rfl rfl rfl hdV_X6_seesWith ⟨Nat.le_of_ble_eq_true rfl, Nat.le_of_ble_eq_true rfl⟩) hK hP hD hS rfl hl.1 rfl (Nat.le_of_ble_eq_true rfl) ⟨Nat.le_of_ble_eq_true rfl, Nat.le_of_ble_eq_true rfl⟩ dX6_does_69 (fun r_9 M_8 H locs hq hP hD hS => ?_)
  obtain ⟨er_9, xM_8, hIM_8⟩ := hq
  subst er_9
  have f_10 := swV_r (RB_rv hI) (VB_pw hI) (iM_7 hI 0) (fun j => iM_17 hI j) (M 16 0) (p2 (M 16 0) - 1 - p2 cover)
  refine lv_aload_n hx hb dX6_does_72 rfl (lv_at hl 2 rfl) ?_
  refine lv_iload_n hx hb dX6_does_73 rfl (lv_at hl 1 rfl) ?_
  refine m_cI ⟨hx, hb, hml, hown, hts⟩ (m_seesWith hIM_8 (set := (p2 (M 16 0)) - 1) (by omega)) (cwV 1 hts (lw_V q1279 q1281 qs44 q60 q1282) rfl rfl rfl hdV_X6_seesWith ⟨Nat.le_of_ble_eq_true rfl, Nat.le_of_ble_eq_true rfl⟩) hK hP hD hS rfl hl.1 rfl (Nat.le_of_ble_eq_true rfl) ⟨Nat.le_of_ble_eq_true rfl, Nat.le_of_ble_eq_true rfl⟩ dX6_does_74 (fun r_12 M_11 H locs hq hP hD hS => ?_)
  obtain ⟨er_12, xM_11, hIM_11⟩ := hq
  subst er_12
  have nx_13 : eqx [14, 15, 18] M M_8 := ((eqx.rf [14, 15, 18] M).tr (eqx.mono (js := [14, 15, 18]) xM_8 (by decide)))
  have nx_13r : rv M_8 = rv M := rv_eqx nx_13 (by intro f hf q; simp only [List.mem_cons, List.not_mem_nil, or_false] at q; omega)
  have nx_13p : pw M_8 = pw M := pw_x (nx_13 8 (by decide))
  have nx_13_7 : M_8 7 = M 7 := nx_13 7 (by decide)
  have nx_13_16 : M_8 16 = M 16 := nx_13 16 (by decide)
  have nx_13_17 : M_8 17 = M 17 := nx_13 17 (by decide)
  rw [nx_13r, nx_13p, nx_13_7, nx_13_16, nx_13_17]
  have f_14 := swV_r (RB_rv hI) (VB_pw hI) (iM_7 hI 0) (fun j => iM_17 hI j) (M 16 0) ((p2 (M 16 0)) - 1)
  refine r_isub hx hb dX6_does_77 ?_
  exact r_iretS hx hb hr hlk hQ M_11 ⟨congrArg iv (by first | (refine Eq.trans ?_ ((if_neg (by first | assumption | omega))).symm; first | rfl | omega) | (refine Eq.trans ?_ ((if_pos (by first | assumption | omega))).symm; first | rfl | omega) | (refine Eq.trans ?_ (((if_neg (by first | assumption | omega))).trans (if_neg (by first | assumption | omega))).symm; first | rfl | omega) | (refine Eq.trans ?_ (((if_neg (by first | assumption | omega))).trans (if_pos (by first | assumption | omega))).symm; first | rfl | omega) | (refine Eq.trans ?_ (((if_pos (by first | assumption | omega))).trans (if_neg (by first | assumption | omega))).symm; first | rfl | omega) | (refine Eq.trans ?_ (((if_pos (by first | assumption | omega))).trans (if_pos (by first | assumption | omega))).symm; first | rfl | omega)), (((eqx.rf [14, 15, 18] M).tr (eqx.mono (js := [14, 15, 18]) xM_8 (by decide))).tr (eqx.mono (js := [14, 15, 18]) xM_11 (by decide))), hIM_11⟩ (fun t ht _ => ⟨by rw [ht]; exact hP, hD⟩) hS dX6_does_78
set_option maxHeartbeats 4000000 in
set_option maxRecDepth 100000 in
theorem m_bought {l : Launch} {D : va_G} {cI : ClassId} {B : Nat → Nat} {A : Nat → Prop} {M : St} (hI : InvM M) {coin : Int} {what : Int} (g_coin : -2147483648 ≤ coin ∧ coin ≤ 2147483647) (g_what : -2147483648 ≤ what ∧ what ≤ 2147483647) : Met l yX6_bought (ws_ yX6_bought cX6_bought 9 (some .int)) (rmk 6 0 0) (va_Pc [.ref (B 0), .int (iv coin), .int (iv what)] (mUS D cI A (mW cI B M))) (va_Qi (fun r M1 => r = iv (opBought (rv M) (pw M) (M 7 0) (M 17) (M 16 0) coin what) ∧ eqx [14, 15, 18] M M1 ∧ InvM M1) (mB D cI B A) A) 0 0 A := by
  refine r_met (by decide) _ rfl (Nat.le_of_ble_eq_true rfl) ?_
  intro p e s m args below meth c Q ls hx hb hr hlk hml hown hts hpre hQ hl
  obtain ⟨hP, hD, hK⟩ := hpre
  have hS : va_S A s.heap s.heap [] := va_S.rf
  have hown : s.vm.findClass RX6 = some m.cls := hown
  have hl : lv_has ls 9 [(0, .ref (B 0)), (1, .int (iv (coin))), (2, .int (iv (what)))] := hl
  have b16 := iM_16 hI 0
  have p16 := p2_le (c := M 16 0) (by omega)
  have p16b := p2_pos (M 16 0)
  refine lv_iload_n hx hb dX6_bought_0 rfl (lv_at hl 1 rfl) ?_
  refine r_i2l hx hb (by omega) dX6_bought_1 ?_
  refine r_lconst hx hb 0 (by decide) dX6_bought_2 ?_
  refine r_ldc2 hx hb (999) (by decide) hown (hts _ q1287) dX6_bought_3 ?_
  refine s_cR ⟨hx, hb, hml, hown, hts⟩ (m_in (v := coin) (low := 0) (high := 999) (by omega) (by decide) (by decide)) (va_cwS 3 hts (lw_S q1111 q1112 q60 q1113) rfl rfl rfl hdS_X6_in ⟨Nat.le_of_ble_eq_true rfl, Nat.le_of_ble_eq_true rfl⟩) rfl hl.1 rfl (Nat.le_of_ble_eq_true rfl) ⟨Nat.le_of_ble_eq_true rfl, Nat.le_of_ble_eq_true rfl⟩ dX6_bought_6 ?_
  refine r_ifz_eq (tgt := 24) hx hb dX6_bought_9 (by decide) (fun c_1 => ?_) (fun c_1 => ?_)
  · refine r_iconst hx hb dX6_bought_24 ?_
    exact r_iretS hx hb hr hlk hQ M ⟨congrArg iv (by first | (refine Eq.trans ?_ ((if_neg (by first | assumption | omega))).symm; first | rfl | omega) | (refine Eq.trans ?_ ((if_pos (by first | assumption | omega))).symm; first | rfl | omega)), eqx.rf _ _, hI⟩ (fun t ht _ => ⟨by rw [ht]; exact hP, hD⟩) hS dX6_bought_25
  refine lv_iload_n hx hb dX6_bought_12 rfl (lv_at hl 2 rfl) ?_
  refine r_i2l hx hb (by omega) dX6_bought_13 ?_
  refine r_lconst hx hb 0 (by decide) dX6_bought_14 ?_
  refine r_ldc2 hx hb (2) (by decide) hown (hts _ q1123) dX6_bought_15 ?_
  refine s_cR ⟨hx, hb, hml, hown, hts⟩ (m_in (v := what) (low := 0) (high := 2) (by omega) (by decide) (by decide)) (va_cwS 3 hts (lw_S q1111 q1112 q60 q1113) rfl rfl rfl hdS_X6_in ⟨Nat.le_of_ble_eq_true rfl, Nat.le_of_ble_eq_true rfl⟩) rfl hl.1 rfl (Nat.le_of_ble_eq_true rfl) ⟨Nat.le_of_ble_eq_true rfl, Nat.le_of_ble_eq_true rfl⟩ dX6_bought_18 ?_
  refine r_ifz_ne (tgt := 26) hx hb dX6_bought_21 (by decide) (fun c_2 => ?_) (fun c_2 => ?_)
  rotate_left
  · refine r_iconst hx hb dX6_bought_24 ?_
    exact r_iretS hx hb hr hlk hQ M ⟨congrArg iv (by first | (refine Eq.trans ?_ ((if_neg (by first | assumption | omega))).symm; first | rfl | omega) | (refine Eq.trans ?_ ((if_pos (by first | assumption | omega))).symm; first | rfl | omega)), eqx.rf _ _, hI⟩ (fun t ht _ => ⟨by rw [ht]; exact hP, hD⟩) hS dX6_bought_25
  refine r_iconst hx hb dX6_bought_26 ?_
  refine lv_istore_n (lv' := [(3, .int (iv (0))), (0, .ref (B 0)), (1, .int (iv (coin))), (2, .int (iv (what)))]) hx hb dX6_bought_27 rfl hl (by decide) rfl (fun ls hl => ?_)
  refine r_iconst hx hb dX6_bought_28 ?_
  refine lv_istore (lv' := [(4, .int (iv (0))), (3, .int (iv (0))), (0, .ref (B 0)), (1, .int (iv (coin))), (2, .int (iv (what)))]) hx hb dX6_bought_29 hl (by decide) rfl (fun ls hl => ?_)
  refine r_iconst hx hb dX6_bought_31 ?_
  refine lv_istore (lv' := [(5, .int (iv (0))), (4, .int (iv (0))), (3, .int (iv (0))), (0, .ref (B 0)), (1, .int (iv (coin))), (2, .int (iv (what)))]) hx hb dX6_bought_32 hl (by decide) rfl (fun ls hl => ?_)
  refine r_iconst hx hb dX6_bought_34 ?_
  refine lv_istore (lv' := [(6, .int (iv (0))), (5, .int (iv (0))), (4, .int (iv (0))), (3, .int (iv (0))), (0, .ref (B 0)), (1, .int (iv (coin))), (2, .int (iv (what)))]) hx hb dX6_bought_35 hl (by decide) rfl (fun ls hl => ?_)
  have lp_37 : ∀ (n_37 : Nat) (best : Int) (least : Int) (cheap : Int) (set : Int) (Mw : St) (H : Heap) (locs : List Loc), p2 (M 16 0) - set < (n_37 : Int) → (0 ≤ set) → (set ≤ p2 (M 16 0)) → (eqx [14, 15, 18] M Mw) → ((best, least, cheap) = buyV (fun set => swV (rv M) (pw M) (M 7 0) (M 17) (M 16 0) set) (fun set => costV (M 17) set (M 16 0)) coin set) → (0 ≤ best ∧ best ≤ 256) → (0 ≤ least ∧ least ≤ 128000) → (0 ≤ cheap ∧ cheap ≤ 800) → InvM Mw → wP D vwCl (mW cI B Mw) H → wD A (mW cI B Mw) → va_S A s.heap H locs → ∀ (ls : Array Slot), lv_has ls 9 [(0, .ref (B 0)), (1, .int (iv (coin))), (2, .int (iv (what))), (3, .int (iv (best))), (4, .int (iv (least))), (5, .int (iv (cheap))), (6, .int (iv (set)))] → W p l e (rmk 6 0 0) s m args below meth c H locs 0 0 Q (F0 m 37 ls []) := by
    intro n_37
    induction n_37 with
    | zero =>
      intro best least cheap set Mw H locs hn_37 h0 h1 h2 h3 h4 h5 h6 hIMw hP hD hS ls hl
      exfalso
      omega
    | succ n_37 ih_37 =>
      intro best least cheap set Mw H locs hn_37 h0 h1 h2 h3 h4 h5 h6 hIMw hP hD hS ls hl
      refine lv_iload hx hb dX6_bought_37 (lv_at hl 6 rfl) ?_
      refine r_iconst hx hb dX6_bought_39 ?_
      refine lv_aload_n hx hb dX6_bought_40 rfl (lv_at hl 0 rfl) ?_
      refine mg_16 hx hb hts hown hK hP dX6_bought_41 ?_
      refine r_top (congrFun ((show Mw 16 = M 16 from h2 16 (by decide))) 0) ?_
      have b_4 := iM_16 (M := M) hI (0)
      refine lv_ishl hx hb dX6_bought_44 ?_
      refine r_topv (shl_iv (by omega)) ?_
      have f_5 := p2_pos (M 16 0)
      refine r_icmp_ge (tgt := 167) hx hb dX6_bought_45 (by decide) (by omega) (by omega) (fun c_6 => ?_) (fun c_6 => ?_)
      · refine lv_iload_n hx hb dX6_bought_167 rfl (lv_at hl 2 rfl) ?_
        refine r_if_ne (tgt := 175) hx hb dX6_bought_168 (by decide) (by omega) (fun c_7 => ?_) (fun c_7 => ?_)
        rotate_left
        · refine lv_iload_n hx hb dX6_bought_171 rfl (lv_at hl 3 rfl) ?_
          refine lv_goto (tgt := 187) hx hb dX6_bought_172 (by decide) ?_
          exact r_iretS hx hb hr hlk hQ Mw ⟨congrArg iv (by unfold opBought boughtV; rw [if_pos (by omega)]; have e := h3; rw [show set = p2 (M 16 0) by omega] at e; first | (rw [if_pos (by omega)]; exact congrArg Prod.fst e) | (rw [if_neg (by omega), if_pos (by omega)]; exact congrArg (fun x => x.2.1) e) | (rw [if_neg (by omega), if_neg (by omega)]; exact congrArg (fun x => x.2.2) e)), h2, hIMw⟩ (fun t ht _ => ⟨by rw [ht]; exact hP, hD⟩) hS dX6_bought_187
        refine lv_iload_n hx hb dX6_bought_175 rfl (lv_at hl 2 rfl) ?_
        refine r_iconst hx hb dX6_bought_176 ?_
        refine r_icmp_ne (tgt := 185) hx hb dX6_bought_177 (by decide) (by omega) (by omega) (fun c_8 => ?_) (fun c_8 => ?_)
        · refine lv_iload hx hb dX6_bought_185 (lv_at hl 5 rfl) ?_
          exact r_iretS hx hb hr hlk hQ Mw ⟨congrArg iv (by unfold opBought boughtV; rw [if_pos (by omega)]; have e := h3; rw [show set = p2 (M 16 0) by omega] at e; first | (rw [if_pos (by omega)]; exact congrArg Prod.fst e) | (rw [if_neg (by omega), if_pos (by omega)]; exact congrArg (fun x => x.2.1) e) | (rw [if_neg (by omega), if_neg (by omega)]; exact congrArg (fun x => x.2.2) e)), h2, hIMw⟩ (fun t ht _ => ⟨by rw [ht]; exact hP, hD⟩) hS dX6_bought_187
        refine lv_iload hx hb dX6_bought_180 (lv_at hl 4 rfl) ?_
        refine lv_goto (tgt := 187) hx hb dX6_bought_182 (by decide) ?_
        exact r_iretS hx hb hr hlk hQ Mw ⟨congrArg iv (by unfold opBought boughtV; rw [if_pos (by omega)]; have e := h3; rw [show set = p2 (M 16 0) by omega] at e; first | (rw [if_pos (by omega)]; exact congrArg Prod.fst e) | (rw [if_neg (by omega), if_pos (by omega)]; exact congrArg (fun x => x.2.1) e) | (rw [if_neg (by omega), if_neg (by omega)]; exact congrArg (fun x => x.2.2) e)), h2, hIMw⟩ (fun t ht _ => ⟨by rw [ht]; exact hP, hD⟩) hS dX6_bought_187
      refine r_iconst hx hb dX6_bought_48 ?_
      refine lv_istore (lv' := [(7, .int (iv (0))), (0, .ref (B 0)), (1, .int (iv (coin))), (2, .int (iv (what))), (3, .int (iv (best))), (4, .int (iv (least))), (5, .int (iv (cheap))), (6, .int (iv (set)))]) hx hb dX6_bought_49 hl (by decide) rfl (fun ls hl => ?_)
      refine r_iconst hx hb dX6_bought_51 ?_
      refine lv_istore (lv' := [(8, .int (iv (0))), (7, .int (iv (0))), (0, .ref (B 0)), (1, .int (iv (coin))), (2, .int (iv (what))), (3, .int (iv (best))), (4, .int (iv (least))), (5, .int (iv (cheap))), (6, .int (iv (set)))]) hx hb dX6_bought_52 hl (by decide) rfl (fun ls hl => ?_)
      have lp_54 : ∀ (n_54 : Nat) (cost : Int) (c2 : Int), M 16 0 - c2 < (n_54 : Int) → (0 ≤ c2) → (c2 ≤ M 16 0) → (cost = costV (M 17) set c2) → (0 ≤ cost ∧ cost ≤ 99 * c2) → ∀ (ls : Array Slot), lv_has ls 9 [(0, .ref (B 0)), (1, .int (iv (coin))), (2, .int (iv (what))), (3, .int (iv (best))), (4, .int (iv (least))), (5, .int (iv (cheap))), (6, .int (iv (set))), (7, .int (iv (cost))), (8, .int (iv (c2)))] → W p l e (rmk 6 0 0) s m args below meth c H locs 0 0 Q (F0 m 54 ls []) := by
        intro n_54
        induction n_54 with
        | zero =>
          intro cost c2 hn_54 j0 j1 j2 j3 ls hl
          exfalso
          omega
        | succ n_54 ih_54 =>
          intro cost c2 hn_54 j0 j1 j2 j3 ls hl
          refine lv_iload hx hb dX6_bought_54 (lv_at hl 8 rfl) ?_
          refine lv_aload_n hx hb dX6_bought_56 rfl (lv_at hl 0 rfl) ?_
          refine mg_16 hx hb hts hown hK hP dX6_bought_57 ?_
          refine r_top (congrFun ((show Mw 16 = M 16 from h2 16 (by decide))) 0) ?_
          have b_10 := iM_16 (M := M) hI (0)
          refine r_icmp_ge (tgt := 100) hx hb dX6_bought_60 (by decide) (by omega) (by omega) (fun c_11 => ?_) (fun c_11 => ?_)
          rotate_left
          · refine lv_iload hx hb dX6_bought_63 (lv_at hl 7 rfl) ?_
            refine lv_iload hx hb dX6_bought_65 (lv_at hl 6 rfl) ?_
            refine lv_iload hx hb dX6_bought_67 (lv_at hl 8 rfl) ?_
            refine lv_ishr hx hb dX6_bought_69 ?_
            refine r_iconst hx hb dX6_bought_70 ?_
            refine lv_iand hx hb dX6_bought_71 ?_
            refine r_topv (b := bitV set c2) (bit_iv (by omega) (by omega)) ?_
            have f_27 := bitV_r set c2
            refine r_iconst hx hb dX6_bought_72 ?_
            have J_31 : ∀ (v_29 : Int) (ls : Array Slot), v_29 = (if (bitV set c2) = 1 then M 17 ((4 * c2) + 3) else 0) → lv_has ls 9 [(0, .ref (B 0)), (1, .int (iv (coin))), (2, .int (iv (what))), (3, .int (iv (best))), (4, .int (iv (least))), (5, .int (iv (cheap))), (6, .int (iv (set))), (7, .int (iv (cost))), (8, .int (iv (c2)))] → W p l e (rmk 6 0 0) s m args below meth c H locs 0 0 Q (F0 m 91 ls [.int (iv (v_29)), .int (iv (cost))]) := by
              intro v_29 ls ev_29 hl
              refine r_iadd hx hb dX6_bought_91 ?_
              refine lv_istore (lv' := [(7, .int (iv (cost + v_29))), (0, .ref (B 0)), (1, .int (iv (coin))), (2, .int (iv (what))), (3, .int (iv (best))), (4, .int (iv (least))), (5, .int (iv (cheap))), (6, .int (iv (set))), (8, .int (iv (c2)))]) hx hb dX6_bought_92 hl (by decide) rfl (fun ls hl => ?_)
              refine lv_iinc (v := iv (c2 + 1)) (lv' := [(8, .int (iv (c2 + 1))), (7, .int (iv (cost + v_29))), (0, .ref (B 0)), (1, .int (iv (coin))), (2, .int (iv (what))), (3, .int (iv (best))), (4, .int (iv (least))), (5, .int (iv (cheap))), (6, .int (iv (set)))]) hx hb dX6_bought_94 hl (k := 8) rfl (iv_add _ _) (by decide) rfl (fun ls hl => ?_)
              refine lv_goto (tgt := 54) hx hb dX6_bought_97 (by decide) ?_
              exact ih_54 (cost + v_29) (c2 + 1) (by omega) (by omega) (by omega) (by rw [costV_s _ _ j0, ← j2]; subst_vars; rfl) (by have q := iM_17 hI (4 * c2 + 3); omega) ls (lv_sub hl [2, 3, 4, 5, 6, 7, 8, 1, 0] rfl)
            refine r_icmp_ne (tgt := 90) hx hb dX6_bought_73 (by decide) (by omega) (by omega) (fun c_28 => ?_) (fun c_28 => ?_)
            · refine r_iconst hx hb dX6_bought_90 ?_
              exact J_31 0 ls (by rw [if_neg c_28]) (lv_sub hl [0, 1, 2, 3, 4, 5, 6, 7, 8] rfl)
            refine lv_aload_n hx hb dX6_bought_76 rfl (lv_at hl 0 rfl) ?_
            refine mg_17 hx hb hts hown hK hP dX6_bought_77 ?_
            refine r_iconst hx hb dX6_bought_80 ?_
            refine lv_iload hx hb dX6_bought_81 (lv_at hl 8 rfl) ?_
            refine r_imul hx hb dX6_bought_83 ?_
            refine r_iconst hx hb dX6_bought_84 ?_
            refine r_iadd hx hb dX6_bought_85 ?_
            refine m_ald hx hb hK hP 17 (n := 32) rfl (by decide) (by omega) dX6_bought_86 ?_
            refine r_top (congrFun ((show Mw 17 = M 17 from h2 17 (by decide))) _) ?_
            have b_33 := iM_17 (M := M) hI ((4 * c2) + 3)
            refine lv_goto (tgt := 91) hx hb dX6_bought_87 (by decide) ?_
            exact J_31 (M 17 ((4 * c2) + 3)) ls (by rw [if_pos c_28]) (lv_sub hl [0, 1, 2, 3, 4, 5, 6, 7, 8] rfl)
          have ec : cost = costV (M 17) set (M 16 0) := by rw [j2, show c2 = M 16 0 by omega]
          refine lv_iload hx hb dX6_bought_100 (lv_at hl 7 rfl) ?_
          refine lv_iload_n hx hb dX6_bought_102 rfl (lv_at hl 1 rfl) ?_
          refine r_icmp_le (tgt := 110) hx hb dX6_bought_103 (by decide) (by omega) (by omega) (fun c_12 => ?_) (fun c_12 => ?_)
          rotate_left
          · refine r_iconst hx hb dX6_bought_106 ?_
            refine lv_goto (tgt := 116) hx hb dX6_bought_107 (by decide) ?_
            refine lv_istore (lv' := [(8, .int (iv (0))), (0, .ref (B 0)), (1, .int (iv (coin))), (2, .int (iv (what))), (3, .int (iv (best))), (4, .int (iv (least))), (5, .int (iv (cheap))), (6, .int (iv (set))), (7, .int (iv (cost)))]) hx hb dX6_bought_116 hl (by decide) rfl (fun ls hl => ?_)
            refine lv_iload hx hb dX6_bought_118 (lv_at hl 8 rfl) ?_
            refine lv_iload_n hx hb dX6_bought_120 rfl (lv_at hl 2 rfl) ?_
            refine r_icmp_gt (tgt := 161) hx hb dX6_bought_121 (by decide) (by omega) (by omega) (fun c_22 => ?_) (fun c_22 => ?_)
            · refine lv_iinc (v := iv (set + 1)) (lv' := [(6, .int (iv (set + 1))), (8, .int (iv (0))), (0, .ref (B 0)), (1, .int (iv (coin))), (2, .int (iv (what))), (3, .int (iv (best))), (4, .int (iv (least))), (5, .int (iv (cheap))), (7, .int (iv (cost)))]) hx hb dX6_bought_161 hl (k := 7) rfl (iv_add _ _) (by decide) rfl (fun ls hl => ?_)
              refine lv_goto (tgt := 37) hx hb dX6_bought_164 (by decide) ?_
              exact ih_37 best least cheap (set + 1) Mw H locs (by omega) (by omega) (by omega) (((eqx.rf [14, 15, 18] M).tr (eqx.mono (js := [14, 15, 18]) h2 (by decide)))) (by rw [buyV_s _ _ _ h0, ← h3]; first | exact buyS_keep ec (by omega) | exact buyS_take ec (by omega) (by omega) | (exfalso; omega)) (by omega) (by omega) (by omega) hIMw hP hD hS ls (lv_sub hl [2, 3, 4, 5, 6, 7, 0] rfl)
            refine lv_iload hx hb dX6_bought_124 (lv_at hl 7 rfl) ?_
            refine r_if_eq (tgt := 150) hx hb dX6_bought_126 (by decide) (by omega) (fun c_23 => ?_) (fun c_23 => ?_)
            · refine lv_iload hx hb dX6_bought_150 (lv_at hl 7 rfl) ?_
              refine lv_istore_n (lv' := [(3, .int (iv (set))), (8, .int (iv (0))), (0, .ref (B 0)), (1, .int (iv (coin))), (2, .int (iv (what))), (4, .int (iv (least))), (5, .int (iv (cheap))), (6, .int (iv (set))), (7, .int (iv (cost)))]) hx hb dX6_bought_152 rfl hl (by decide) rfl (fun ls hl => ?_)
              refine lv_iload hx hb dX6_bought_153 (lv_at hl 1 rfl) ?_
              refine lv_istore (lv' := [(4, .int (iv (0))), (3, .int (iv (set))), (8, .int (iv (0))), (0, .ref (B 0)), (1, .int (iv (coin))), (2, .int (iv (what))), (5, .int (iv (cheap))), (6, .int (iv (set))), (7, .int (iv (cost)))]) hx hb dX6_bought_155 hl (by decide) rfl (fun ls hl => ?_)
              refine lv_iload hx hb dX6_bought_157 (lv_at hl 8 rfl) ?_
              refine lv_istore (lv' := [(5, .int (iv (cost))), (4, .int (iv (0))), (3, .int (iv (set))), (8, .int (iv (0))), (0, .ref (B 0)), (1, .int (iv (coin))), (2, .int (iv (what))), (6, .int (iv (set))), (7, .int (iv (cost)))]) hx hb dX6_bought_159 hl (by decide) rfl (fun ls hl => ?_)
              refine lv_iinc (v := iv (set + 1)) (lv' := [(6, .int (iv (set + 1))), (5, .int (iv (cost))), (4, .int (iv (0))), (3, .int (iv (set))), (8, .int (iv (0))), (0, .ref (B 0)), (1, .int (iv (coin))), (2, .int (iv (what))), (7, .int (iv (cost)))]) hx hb dX6_bought_161 hl (k := 7) rfl (iv_add _ _) (by decide) rfl (fun ls hl => ?_)
              refine lv_goto (tgt := 37) hx hb dX6_bought_164 (by decide) ?_
              exact ih_37 set 0 cost (set + 1) Mw H locs (by omega) (by omega) (by omega) (((eqx.rf [14, 15, 18] M).tr (eqx.mono (js := [14, 15, 18]) h2 (by decide)))) (by rw [buyV_s _ _ _ h0, ← h3]; first | exact buyS_keep ec (by omega) | exact buyS_take ec (by omega) (by omega) | (exfalso; omega)) (by omega) (by omega) (by omega) hIMw hP hD hS ls (lv_sub hl [5, 6, 7, 3, 2, 1, 0] rfl)
            refine lv_iload hx hb dX6_bought_129 (lv_at hl 0 rfl) ?_
            refine lv_iload hx hb dX6_bought_131 (lv_at hl 5 rfl) ?_
            refine r_icmp_lt (tgt := 150) hx hb dX6_bought_133 (by decide) (by omega) (by omega) (fun c_24 => ?_) (fun c_24 => ?_)
            · refine lv_iload hx hb dX6_bought_150 (lv_at hl 7 rfl) ?_
              refine lv_istore_n (lv' := [(3, .int (iv (set))), (8, .int (iv (0))), (0, .ref (B 0)), (1, .int (iv (coin))), (2, .int (iv (what))), (4, .int (iv (least))), (5, .int (iv (cheap))), (6, .int (iv (set))), (7, .int (iv (cost)))]) hx hb dX6_bought_152 rfl hl (by decide) rfl (fun ls hl => ?_)
              refine lv_iload hx hb dX6_bought_153 (lv_at hl 1 rfl) ?_
              refine lv_istore (lv' := [(4, .int (iv (0))), (3, .int (iv (set))), (8, .int (iv (0))), (0, .ref (B 0)), (1, .int (iv (coin))), (2, .int (iv (what))), (5, .int (iv (cheap))), (6, .int (iv (set))), (7, .int (iv (cost)))]) hx hb dX6_bought_155 hl (by decide) rfl (fun ls hl => ?_)
              refine lv_iload hx hb dX6_bought_157 (lv_at hl 8 rfl) ?_
              refine lv_istore (lv' := [(5, .int (iv (cost))), (4, .int (iv (0))), (3, .int (iv (set))), (8, .int (iv (0))), (0, .ref (B 0)), (1, .int (iv (coin))), (2, .int (iv (what))), (6, .int (iv (set))), (7, .int (iv (cost)))]) hx hb dX6_bought_159 hl (by decide) rfl (fun ls hl => ?_)
              refine lv_iinc (v := iv (set + 1)) (lv' := [(6, .int (iv (set + 1))), (5, .int (iv (cost))), (4, .int (iv (0))), (3, .int (iv (set))), (8, .int (iv (0))), (0, .ref (B 0)), (1, .int (iv (coin))), (2, .int (iv (what))), (7, .int (iv (cost)))]) hx hb dX6_bought_161 hl (k := 7) rfl (iv_add _ _) (by decide) rfl (fun ls hl => ?_)
              refine lv_goto (tgt := 37) hx hb dX6_bought_164 (by decide) ?_
              exact ih_37 set 0 cost (set + 1) Mw H locs (by omega) (by omega) (by omega) (((eqx.rf [14, 15, 18] M).tr (eqx.mono (js := [14, 15, 18]) h2 (by decide)))) (by rw [buyV_s _ _ _ h0, ← h3]; first | exact buyS_keep ec (by omega) | exact buyS_take ec (by omega) (by omega) | (exfalso; omega)) (by omega) (by omega) (by omega) hIMw hP hD hS ls (lv_sub hl [5, 6, 7, 3, 2, 1, 0] rfl)
            refine lv_iload hx hb dX6_bought_136 (lv_at hl 0 rfl) ?_
            refine lv_iload hx hb dX6_bought_138 (lv_at hl 5 rfl) ?_
            refine r_icmp_ne (tgt := 161) hx hb dX6_bought_140 (by decide) (by omega) (by omega) (fun c_25 => ?_) (fun c_25 => ?_)
            · refine lv_iinc (v := iv (set + 1)) (lv' := [(6, .int (iv (set + 1))), (8, .int (iv (0))), (0, .ref (B 0)), (1, .int (iv (coin))), (2, .int (iv (what))), (3, .int (iv (best))), (4, .int (iv (least))), (5, .int (iv (cheap))), (7, .int (iv (cost)))]) hx hb dX6_bought_161 hl (k := 7) rfl (iv_add _ _) (by decide) rfl (fun ls hl => ?_)
              refine lv_goto (tgt := 37) hx hb dX6_bought_164 (by decide) ?_
              exact ih_37 best least cheap (set + 1) Mw H locs (by omega) (by omega) (by omega) (((eqx.rf [14, 15, 18] M).tr (eqx.mono (js := [14, 15, 18]) h2 (by decide)))) (by rw [buyV_s _ _ _ h0, ← h3]; first | exact buyS_keep ec (by omega) | exact buyS_take ec (by omega) (by omega) | (exfalso; omega)) (by omega) (by omega) (by omega) hIMw hP hD hS ls (lv_sub hl [2, 3, 4, 5, 6, 7, 0] rfl)
            refine lv_iload hx hb dX6_bought_143 (lv_at hl 8 rfl) ?_
            refine lv_iload hx hb dX6_bought_145 (lv_at hl 6 rfl) ?_
            refine r_icmp_ge (tgt := 161) hx hb dX6_bought_147 (by decide) (by omega) (by omega) (fun c_26 => ?_) (fun c_26 => ?_)
            · refine lv_iinc (v := iv (set + 1)) (lv' := [(6, .int (iv (set + 1))), (8, .int (iv (0))), (0, .ref (B 0)), (1, .int (iv (coin))), (2, .int (iv (what))), (3, .int (iv (best))), (4, .int (iv (least))), (5, .int (iv (cheap))), (7, .int (iv (cost)))]) hx hb dX6_bought_161 hl (k := 7) rfl (iv_add _ _) (by decide) rfl (fun ls hl => ?_)
              refine lv_goto (tgt := 37) hx hb dX6_bought_164 (by decide) ?_
              exact ih_37 best least cheap (set + 1) Mw H locs (by omega) (by omega) (by omega) (((eqx.rf [14, 15, 18] M).tr (eqx.mono (js := [14, 15, 18]) h2 (by decide)))) (by rw [buyV_s _ _ _ h0, ← h3]; first | exact buyS_keep ec (by omega) | exact buyS_take ec (by omega) (by omega) | (exfalso; omega)) (by omega) (by omega) (by omega) hIMw hP hD hS ls (lv_sub hl [2, 3, 4, 5, 6, 7, 0] rfl)
            refine lv_iload hx hb dX6_bought_150 (lv_at hl 7 rfl) ?_
            refine lv_istore_n (lv' := [(3, .int (iv (set))), (8, .int (iv (0))), (0, .ref (B 0)), (1, .int (iv (coin))), (2, .int (iv (what))), (4, .int (iv (least))), (5, .int (iv (cheap))), (6, .int (iv (set))), (7, .int (iv (cost)))]) hx hb dX6_bought_152 rfl hl (by decide) rfl (fun ls hl => ?_)
            refine lv_iload hx hb dX6_bought_153 (lv_at hl 1 rfl) ?_
            refine lv_istore (lv' := [(4, .int (iv (0))), (3, .int (iv (set))), (8, .int (iv (0))), (0, .ref (B 0)), (1, .int (iv (coin))), (2, .int (iv (what))), (5, .int (iv (cheap))), (6, .int (iv (set))), (7, .int (iv (cost)))]) hx hb dX6_bought_155 hl (by decide) rfl (fun ls hl => ?_)
            refine lv_iload hx hb dX6_bought_157 (lv_at hl 8 rfl) ?_
            refine lv_istore (lv' := [(5, .int (iv (cost))), (4, .int (iv (0))), (3, .int (iv (set))), (8, .int (iv (0))), (0, .ref (B 0)), (1, .int (iv (coin))), (2, .int (iv (what))), (6, .int (iv (set))), (7, .int (iv (cost)))]) hx hb dX6_bought_159 hl (by decide) rfl (fun ls hl => ?_)
            refine lv_iinc (v := iv (set + 1)) (lv' := [(6, .int (iv (set + 1))), (5, .int (iv (cost))), (4, .int (iv (0))), (3, .int (iv (set))), (8, .int (iv (0))), (0, .ref (B 0)), (1, .int (iv (coin))), (2, .int (iv (what))), (7, .int (iv (cost)))]) hx hb dX6_bought_161 hl (k := 7) rfl (iv_add _ _) (by decide) rfl (fun ls hl => ?_)
            refine lv_goto (tgt := 37) hx hb dX6_bought_164 (by decide) ?_
            exact ih_37 set 0 cost (set + 1) Mw H locs (by omega) (by omega) (by omega) (((eqx.rf [14, 15, 18] M).tr (eqx.mono (js := [14, 15, 18]) h2 (by decide)))) (by rw [buyV_s _ _ _ h0, ← h3]; first | exact buyS_keep ec (by omega) | exact buyS_take ec (by omega) (by omega) | (exfalso; omega)) (by omega) (by omega) (by omega) hIMw hP hD hS ls (lv_sub hl [5, 6, 7, 3, 2, 1, 0] rfl)
          refine lv_aload_n hx hb dX6_bought_110 rfl (lv_at hl 0 rfl) ?_
          refine lv_iload hx hb dX6_bought_111 (lv_at hl 6 rfl) ?_
          refine m_cI ⟨hx, hb, hml, hown, hts⟩ (m_seesWith hIMw (set := set) (by omega)) (cwV 1 hts (lw_V q1279 q1281 qs44 q60 q1282) rfl rfl rfl hdV_X6_seesWith ⟨Nat.le_of_ble_eq_true rfl, Nat.le_of_ble_eq_true rfl⟩) hK hP hD hS rfl hl.1 rfl (Nat.le_of_ble_eq_true rfl) ⟨Nat.le_of_ble_eq_true rfl, Nat.le_of_ble_eq_true rfl⟩ dX6_bought_113 (fun r_14 M_13 H locs hq hP hD hS => ?_)
          obtain ⟨er_14, xM_13, hIM_13⟩ := hq
          subst er_14
          have nx_15 : eqx [14, 15, 18] M Mw := ((eqx.rf [14, 15, 18] M).tr (eqx.mono (js := [14, 15, 18]) h2 (by decide)))
          have nx_15r : rv Mw = rv M := rv_eqx nx_15 (by intro f hf q; simp only [List.mem_cons, List.not_mem_nil, or_false] at q; omega)
          have nx_15p : pw Mw = pw M := pw_x (nx_15 8 (by decide))
          have nx_15_7 : Mw 7 = M 7 := nx_15 7 (by decide)
          have nx_15_16 : Mw 16 = M 16 := nx_15 16 (by decide)
          have nx_15_17 : Mw 17 = M 17 := nx_15 17 (by decide)
          rw [nx_15r, nx_15p, nx_15_7, nx_15_16, nx_15_17]
          have f_16 := swV_r (RB_rv hI) (VB_pw hI) (iM_7 hI 0) (fun j => iM_17 hI j) (M 16 0) set
          refine lv_istore (lv' := [(8, .int (iv (swV (rv M) (pw M) (M 7 0) (M 17) (M 16 0) set))), (0, .ref (B 0)), (1, .int (iv (coin))), (2, .int (iv (what))), (3, .int (iv (best))), (4, .int (iv (least))), (5, .int (iv (cheap))), (6, .int (iv (set))), (7, .int (iv (cost)))]) hx hb dX6_bought_116 hl (by decide) rfl (fun ls hl => ?_)
          refine lv_iload hx hb dX6_bought_118 (lv_at hl 8 rfl) ?_
          refine lv_iload_n hx hb dX6_bought_120 rfl (lv_at hl 2 rfl) ?_
          refine r_icmp_gt (tgt := 161) hx hb dX6_bought_121 (by decide) (by omega) (by omega) (fun c_17 => ?_) (fun c_17 => ?_)
          · refine lv_iinc (v := iv (set + 1)) (lv' := [(6, .int (iv (set + 1))), (8, .int (iv (swV (rv M) (pw M) (M 7 0) (M 17) (M 16 0) set))), (0, .ref (B 0)), (1, .int (iv (coin))), (2, .int (iv (what))), (3, .int (iv (best))), (4, .int (iv (least))), (5, .int (iv (cheap))), (7, .int (iv (cost)))]) hx hb dX6_bought_161 hl (k := 7) rfl (iv_add _ _) (by decide) rfl (fun ls hl => ?_)
            refine lv_goto (tgt := 37) hx hb dX6_bought_164 (by decide) ?_
            exact ih_37 best least cheap (set + 1) M_13 H locs (by omega) (by omega) (by omega) ((((eqx.rf [14, 15, 18] M).tr (eqx.mono (js := [14, 15, 18]) h2 (by decide))).tr (eqx.mono (js := [14, 15, 18]) xM_13 (by decide)))) (by rw [buyV_s _ _ _ h0, ← h3]; first | exact buyS_keep ec (by omega) | exact buyS_take ec (by omega) (by omega) | (exfalso; omega)) (by omega) (by omega) (by omega) hIM_13 hP hD hS ls (lv_sub hl [2, 3, 4, 5, 6, 7, 0] rfl)
          refine lv_iload hx hb dX6_bought_124 (lv_at hl 7 rfl) ?_
          refine r_if_eq (tgt := 150) hx hb dX6_bought_126 (by decide) (by omega) (fun c_18 => ?_) (fun c_18 => ?_)
          · refine lv_iload hx hb dX6_bought_150 (lv_at hl 7 rfl) ?_
            refine lv_istore_n (lv' := [(3, .int (iv (set))), (8, .int (iv (swV (rv M) (pw M) (M 7 0) (M 17) (M 16 0) set))), (0, .ref (B 0)), (1, .int (iv (coin))), (2, .int (iv (what))), (4, .int (iv (least))), (5, .int (iv (cheap))), (6, .int (iv (set))), (7, .int (iv (cost)))]) hx hb dX6_bought_152 rfl hl (by decide) rfl (fun ls hl => ?_)
            refine lv_iload hx hb dX6_bought_153 (lv_at hl 1 rfl) ?_
            refine lv_istore (lv' := [(4, .int (iv (swV (rv M) (pw M) (M 7 0) (M 17) (M 16 0) set))), (3, .int (iv (set))), (8, .int (iv (swV (rv M) (pw M) (M 7 0) (M 17) (M 16 0) set))), (0, .ref (B 0)), (1, .int (iv (coin))), (2, .int (iv (what))), (5, .int (iv (cheap))), (6, .int (iv (set))), (7, .int (iv (cost)))]) hx hb dX6_bought_155 hl (by decide) rfl (fun ls hl => ?_)
            refine lv_iload hx hb dX6_bought_157 (lv_at hl 8 rfl) ?_
            refine lv_istore (lv' := [(5, .int (iv (cost))), (4, .int (iv (swV (rv M) (pw M) (M 7 0) (M 17) (M 16 0) set))), (3, .int (iv (set))), (8, .int (iv (swV (rv M) (pw M) (M 7 0) (M 17) (M 16 0) set))), (0, .ref (B 0)), (1, .int (iv (coin))), (2, .int (iv (what))), (6, .int (iv (set))), (7, .int (iv (cost)))]) hx hb dX6_bought_159 hl (by decide) rfl (fun ls hl => ?_)
            refine lv_iinc (v := iv (set + 1)) (lv' := [(6, .int (iv (set + 1))), (5, .int (iv (cost))), (4, .int (iv (swV (rv M) (pw M) (M 7 0) (M 17) (M 16 0) set))), (3, .int (iv (set))), (8, .int (iv (swV (rv M) (pw M) (M 7 0) (M 17) (M 16 0) set))), (0, .ref (B 0)), (1, .int (iv (coin))), (2, .int (iv (what))), (7, .int (iv (cost)))]) hx hb dX6_bought_161 hl (k := 7) rfl (iv_add _ _) (by decide) rfl (fun ls hl => ?_)
            refine lv_goto (tgt := 37) hx hb dX6_bought_164 (by decide) ?_
            exact ih_37 set (swV (rv M) (pw M) (M 7 0) (M 17) (M 16 0) set) cost (set + 1) M_13 H locs (by omega) (by omega) (by omega) ((((eqx.rf [14, 15, 18] M).tr (eqx.mono (js := [14, 15, 18]) h2 (by decide))).tr (eqx.mono (js := [14, 15, 18]) xM_13 (by decide)))) (by rw [buyV_s _ _ _ h0, ← h3]; first | exact buyS_keep ec (by omega) | exact buyS_take ec (by omega) (by omega) | (exfalso; omega)) (by omega) (by omega) (by omega) hIM_13 hP hD hS ls (lv_sub hl [5, 6, 7, 3, 2, 1, 0] rfl)
          refine lv_iload hx hb dX6_bought_129 (lv_at hl 0 rfl) ?_
          refine lv_iload hx hb dX6_bought_131 (lv_at hl 5 rfl) ?_
          refine r_icmp_lt (tgt := 150) hx hb dX6_bought_133 (by decide) (by omega) (by omega) (fun c_19 => ?_) (fun c_19 => ?_)
          · refine lv_iload hx hb dX6_bought_150 (lv_at hl 7 rfl) ?_
            refine lv_istore_n (lv' := [(3, .int (iv (set))), (8, .int (iv (swV (rv M) (pw M) (M 7 0) (M 17) (M 16 0) set))), (0, .ref (B 0)), (1, .int (iv (coin))), (2, .int (iv (what))), (4, .int (iv (least))), (5, .int (iv (cheap))), (6, .int (iv (set))), (7, .int (iv (cost)))]) hx hb dX6_bought_152 rfl hl (by decide) rfl (fun ls hl => ?_)
            refine lv_iload hx hb dX6_bought_153 (lv_at hl 1 rfl) ?_
            refine lv_istore (lv' := [(4, .int (iv (swV (rv M) (pw M) (M 7 0) (M 17) (M 16 0) set))), (3, .int (iv (set))), (8, .int (iv (swV (rv M) (pw M) (M 7 0) (M 17) (M 16 0) set))), (0, .ref (B 0)), (1, .int (iv (coin))), (2, .int (iv (what))), (5, .int (iv (cheap))), (6, .int (iv (set))), (7, .int (iv (cost)))]) hx hb dX6_bought_155 hl (by decide) rfl (fun ls hl => ?_)
            refine lv_iload hx hb dX6_bought_157 (lv_at hl 8 rfl) ?_
            refine lv_istore (lv' := [(5, .int (iv (cost))), (4, .int (iv (swV (rv M) (pw M) (M 7 0) (M 17) (M 16 0) set))), (3, .int (iv (set))), (8, .int (iv (swV (rv M) (pw M) (M 7 0) (M 17) (M 16 0) set))), (0, .ref (B 0)), (1, .int (iv (coin))), (2, .int (iv (what))), (6, .int (iv (set))), (7, .int (iv (cost)))]) hx hb dX6_bought_159 hl (by decide) rfl (fun ls hl => ?_)
            refine lv_iinc (v := iv (set + 1)) (lv' := [(6, .int (iv (set + 1))), (5, .int (iv (cost))), (4, .int (iv (swV (rv M) (pw M) (M 7 0) (M 17) (M 16 0) set))), (3, .int (iv (set))), (8, .int (iv (swV (rv M) (pw M) (M 7 0) (M 17) (M 16 0) set))), (0, .ref (B 0)), (1, .int (iv (coin))), (2, .int (iv (what))), (7, .int (iv (cost)))]) hx hb dX6_bought_161 hl (k := 7) rfl (iv_add _ _) (by decide) rfl (fun ls hl => ?_)
            refine lv_goto (tgt := 37) hx hb dX6_bought_164 (by decide) ?_
            exact ih_37 set (swV (rv M) (pw M) (M 7 0) (M 17) (M 16 0) set) cost (set + 1) M_13 H locs (by omega) (by omega) (by omega) ((((eqx.rf [14, 15, 18] M).tr (eqx.mono (js := [14, 15, 18]) h2 (by decide))).tr (eqx.mono (js := [14, 15, 18]) xM_13 (by decide)))) (by rw [buyV_s _ _ _ h0, ← h3]; first | exact buyS_keep ec (by omega) | exact buyS_take ec (by omega) (by omega) | (exfalso; omega)) (by omega) (by omega) (by omega) hIM_13 hP hD hS ls (lv_sub hl [5, 6, 7, 3, 2, 1, 0] rfl)
          refine lv_iload hx hb dX6_bought_136 (lv_at hl 0 rfl) ?_
          refine lv_iload hx hb dX6_bought_138 (lv_at hl 5 rfl) ?_
          refine r_icmp_ne (tgt := 161) hx hb dX6_bought_140 (by decide) (by omega) (by omega) (fun c_20 => ?_) (fun c_20 => ?_)
          · refine lv_iinc (v := iv (set + 1)) (lv' := [(6, .int (iv (set + 1))), (8, .int (iv (swV (rv M) (pw M) (M 7 0) (M 17) (M 16 0) set))), (0, .ref (B 0)), (1, .int (iv (coin))), (2, .int (iv (what))), (3, .int (iv (best))), (4, .int (iv (least))), (5, .int (iv (cheap))), (7, .int (iv (cost)))]) hx hb dX6_bought_161 hl (k := 7) rfl (iv_add _ _) (by decide) rfl (fun ls hl => ?_)
            refine lv_goto (tgt := 37) hx hb dX6_bought_164 (by decide) ?_
            exact ih_37 best least cheap (set + 1) M_13 H locs (by omega) (by omega) (by omega) ((((eqx.rf [14, 15, 18] M).tr (eqx.mono (js := [14, 15, 18]) h2 (by decide))).tr (eqx.mono (js := [14, 15, 18]) xM_13 (by decide)))) (by rw [buyV_s _ _ _ h0, ← h3]; first | exact buyS_keep ec (by omega) | exact buyS_take ec (by omega) (by omega) | (exfalso; omega)) (by omega) (by omega) (by omega) hIM_13 hP hD hS ls (lv_sub hl [2, 3, 4, 5, 6, 7, 0] rfl)
          refine lv_iload hx hb dX6_bought_143 (lv_at hl 8 rfl) ?_
          refine lv_iload hx hb dX6_bought_145 (lv_at hl 6 rfl) ?_
          refine r_icmp_ge (tgt := 161) hx hb dX6_bought_147 (by decide) (by omega) (by omega) (fun c_21 => ?_) (fun c_21 => ?_)
          · refine lv_iinc (v := iv (set + 1)) (lv' := [(6, .int (iv (set + 1))), (8, .int (iv (swV (rv M) (pw M) (M 7 0) (M 17) (M 16 0) set))), (0, .ref (B 0)), (1, .int (iv (coin))), (2, .int (iv (what))), (3, .int (iv (best))), (4, .int (iv (least))), (5, .int (iv (cheap))), (7, .int (iv (cost)))]) hx hb dX6_bought_161 hl (k := 7) rfl (iv_add _ _) (by decide) rfl (fun ls hl => ?_)
            refine lv_goto (tgt := 37) hx hb dX6_bought_164 (by decide) ?_
            exact ih_37 best least cheap (set + 1) M_13 H locs (by omega) (by omega) (by omega) ((((eqx.rf [14, 15, 18] M).tr (eqx.mono (js := [14, 15, 18]) h2 (by decide))).tr (eqx.mono (js := [14, 15, 18]) xM_13 (by decide)))) (by rw [buyV_s _ _ _ h0, ← h3]; first | exact buyS_keep ec (by omega) | exact buyS_take ec (by omega) (by omega) | (exfalso; omega)) (by omega) (by omega) (by omega) hIM_13 hP hD hS ls (lv_sub hl [2, 3, 4, 5, 6, 7, 0] rfl)
          refine lv_iload hx hb dX6_bought_150 (lv_at hl 7 rfl) ?_
          refine lv_istore_n (lv' := [(3, .int (iv (set))), (8, .int (iv (swV (rv M) (pw M) (M 7 0) (M 17) (M 16 0) set))), (0, .ref (B 0)), (1, .int (iv (coin))), (2, .int (iv (what))), (4, .int (iv (least))), (5, .int (iv (cheap))), (6, .int (iv (set))), (7, .int (iv (cost)))]) hx hb dX6_bought_152 rfl hl (by decide) rfl (fun ls hl => ?_)
          refine lv_iload hx hb dX6_bought_153 (lv_at hl 1 rfl) ?_
          refine lv_istore (lv' := [(4, .int (iv (swV (rv M) (pw M) (M 7 0) (M 17) (M 16 0) set))), (3, .int (iv (set))), (8, .int (iv (swV (rv M) (pw M) (M 7 0) (M 17) (M 16 0) set))), (0, .ref (B 0)), (1, .int (iv (coin))), (2, .int (iv (what))), (5, .int (iv (cheap))), (6, .int (iv (set))), (7, .int (iv (cost)))]) hx hb dX6_bought_155 hl (by decide) rfl (fun ls hl => ?_)
          refine lv_iload hx hb dX6_bought_157 (lv_at hl 8 rfl) ?_
          refine lv_istore (lv' := [(5, .int (iv (cost))), (4, .int (iv (swV (rv M) (pw M) (M 7 0) (M 17) (M 16 0) set))), (3, .int (iv (set))), (8, .int (iv (swV (rv M) (pw M) (M 7 0) (M 17) (M 16 0) set))), (0, .ref (B 0)), (1, .int (iv (coin))), (2, .int (iv (what))), (6, .int (iv (set))), (7, .int (iv (cost)))]) hx hb dX6_bought_159 hl (by decide) rfl (fun ls hl => ?_)
          refine lv_iinc (v := iv (set + 1)) (lv' := [(6, .int (iv (set + 1))), (5, .int (iv (cost))), (4, .int (iv (swV (rv M) (pw M) (M 7 0) (M 17) (M 16 0) set))), (3, .int (iv (set))), (8, .int (iv (swV (rv M) (pw M) (M 7 0) (M 17) (M 16 0) set))), (0, .ref (B 0)), (1, .int (iv (coin))), (2, .int (iv (what))), (7, .int (iv (cost)))]) hx hb dX6_bought_161 hl (k := 7) rfl (iv_add _ _) (by decide) rfl (fun ls hl => ?_)
          refine lv_goto (tgt := 37) hx hb dX6_bought_164 (by decide) ?_
          exact ih_37 set (swV (rv M) (pw M) (M 7 0) (M 17) (M 16 0) set) cost (set + 1) M_13 H locs (by omega) (by omega) (by omega) ((((eqx.rf [14, 15, 18] M).tr (eqx.mono (js := [14, 15, 18]) h2 (by decide))).tr (eqx.mono (js := [14, 15, 18]) xM_13 (by decide)))) (by rw [buyV_s _ _ _ h0, ← h3]; first | exact buyS_keep ec (by omega) | exact buyS_take ec (by omega) (by omega) | (exfalso; omega)) (by omega) (by omega) (by omega) hIM_13 hP hD hS ls (lv_sub hl [5, 6, 7, 3, 2, 1, 0] rfl)
      exact lp_54 (M 16 0 - 0 + 1 : Int).toNat 0 0 (by omega) (by omega) (by omega) (costV_0 _ _) (by omega) ls (lv_sub hl [2, 3, 4, 5, 6, 7, 8, 1, 0] rfl)
  exact lp_37 (p2 (M 16 0) - 0 + 1 : Int).toNat 0 0 0 0 M s.heap [] (by omega) (by omega) (by omega) (eqx.rf _ _) (buyV_0 _ _ _) (by omega) (by omega) (by omega) hI hP hD hS ls (lv_sub hl [4, 5, 6, 3, 2, 1, 0] rfl)
set_option maxHeartbeats 4000000 in
set_option maxRecDepth 100000 in
theorem m_warning {l : Launch} {D : va_G} {cI : ClassId} {B : Nat → Nat} {A : Nat → Prop} {M : St} (hI : InvM M)   : Met l yX6_warning (ws_ yX6_warning cX6_warning 5 (some .int)) (rmk 5 0 0) (va_Pc [.ref (B 0)] (mUS D cI A (mW cI B M))) (va_Qi (fun r M1 => r = iv (opWarning (rv M) (pw M) (M 7 0)) ∧ eqx [14, 15] M M1 ∧ InvM M1) (mB D cI B A) A) 0 0 A := by
  refine r_met (by decide) _ rfl (Nat.le_of_ble_eq_true rfl) ?_
  intro p e s m args below meth c Q ls hx hb hr hlk hml hown hts hpre hQ hl
  obtain ⟨hP, hD, hK⟩ := hpre
  have hS : va_S A s.heap s.heap [] := va_S.rf
  have hown : s.vm.findClass RX6 = some m.cls := hown
  have hl : lv_has ls 5 [(0, .ref (B 0))] := hl
  have b7 := iM_7 hI 0
  refine lv_aload_n hx hb dX6_warning_0 rfl (lv_at hl 0 rfl) ?_
  refine r_iconst hx hb dX6_warning_1 ?_
  refine m_cI ⟨hx, hb, hml, hown, hts⟩ (m_seesAll hI (k := 1) (by decide)) (cwV 1 hts (lw_V q1256 q1258 qs42 q60 q1259) rfl rfl rfl hdV_X6_seesAll ⟨Nat.le_of_ble_eq_true rfl, Nat.le_of_ble_eq_true rfl⟩) hK hP hD hS rfl hl.1 rfl (Nat.le_of_ble_eq_true rfl) ⟨Nat.le_of_ble_eq_true rfl, Nat.le_of_ble_eq_true rfl⟩ dX6_warning_2 (fun r_2 M_1 H locs hq hP hD hS => ?_)
  obtain ⟨er_2, xM_1, hIM_1⟩ := hq
  subst er_2
  have f_3 := seesAllV_r (RB_rv hI) (VB_pw hI) (k := (1 : Int)) (n := M 7 0) (b := 16) (by omega) (iM_7 hI 0) (by decide)
  refine lv_istore_n (lv' := [(1, .int (iv (seesAllV (rv M) (pw M) (M 7 0) (1 : Int) 16))), (0, .ref (B 0))]) hx hb dX6_warning_5 rfl hl (by decide) rfl (fun ls hl => ?_)
  refine r_iconst hx hb dX6_warning_6 ?_
  refine lv_istore_n (lv' := [(2, .int (iv (0))), (1, .int (iv (seesAllV (rv M) (pw M) (M 7 0) (1 : Int) 16))), (0, .ref (B 0))]) hx hb dX6_warning_7 rfl hl (by decide) rfl (fun ls hl => ?_)
  refine r_iconst hx hb dX6_warning_8 ?_
  refine lv_istore_n (lv' := [(3, .int (iv (0))), (2, .int (iv (0))), (1, .int (iv (seesAllV (rv M) (pw M) (M 7 0) (1 : Int) 16))), (0, .ref (B 0))]) hx hb dX6_warning_9 rfl hl (by decide) rfl (fun ls hl => ?_)
  have lp_10 : ∀ (n_10 : Nat) (warned : Int) (w : Int) (Mw : St) (H : Heap) (locs : List Loc), M 7 0 - w < (n_10 : Int) → (0 ≤ w) → (w ≤ M 7 0) → (Mw = markM M_1 0 w) → (warned = maskV (pw M 1) w) → InvM Mw → wP D vwCl (mW cI B Mw) H → wD A (mW cI B Mw) → va_S A s.heap H locs → ∀ (ls : Array Slot), lv_has ls 5 [(0, .ref (B 0)), (1, .int (iv (seesAllV (rv M) (pw M) (M 7 0) (1 : Int) 16))), (2, .int (iv (warned))), (3, .int (iv (w)))] → W p l e (rmk 5 0 0) s m args below meth c H locs 0 0 Q (F0 m 10 ls []) := by
    intro n_10
    induction n_10 with
    | zero =>
      intro warned w Mw H locs hn_10 h0 h1 h2 h3 hIMw hP hD hS ls hl
      exfalso
      omega
    | succ n_10 ih_10 =>
      intro warned w Mw H locs hn_10 h0 h1 h2 h3 hIMw hP hD hS ls hl
      have e8 : Mw 8 (3 * w + 1) = M 8 (3 * w + 1) := by rw [h2, markM_at, if_neg (by omega)]; exact congrFun (xM_1 8 (by decide)) _
      have e8a : M_1 8 (3 * w + 1) = M 8 (3 * w + 1) := congrFun (xM_1 8 (by decide)) _
      refine lv_iload_n hx hb dX6_warning_10 rfl (lv_at hl 3 rfl) ?_
      refine lv_aload_n hx hb dX6_warning_11 rfl (lv_at hl 0 rfl) ?_
      refine mg_7 hx hb hts hown hK hP dX6_warning_12 ?_
      refine r_top (congrFun (((show Mw 7 = M_1 7 from (show eqx [8] M_1 Mw by rw [h2]; exact markM_x _ _ _) 7 (by decide))).trans (show M_1 7 = M 7 from xM_1 7 (by decide))) 0) ?_
      have b_5 := iM_7 (M := M) hI (0)
      refine r_icmp_ge (tgt := 54) hx hb dX6_warning_15 (by decide) (by omega) (by omega) (fun c_6 => ?_) (fun c_6 => ?_)
      rotate_left
      · refine lv_aload_n hx hb dX6_warning_18 rfl (lv_at hl 0 rfl) ?_
        refine mg_8 hx hb hts hown hK hP dX6_warning_19 ?_
        refine r_iconst hx hb dX6_warning_22 ?_
        refine lv_iload_n hx hb dX6_warning_23 rfl (lv_at hl 3 rfl) ?_
        refine r_imul hx hb dX6_warning_24 ?_
        refine r_iconst hx hb dX6_warning_25 ?_
        refine r_iadd hx hb dX6_warning_26 ?_
        refine m_ald hx hb hK hP 8 (n := 24) rfl (by decide) (by omega) dX6_warning_27 ?_
        have b_21 := iM_8 (M := Mw) hIMw ((3 * w) + 1)
        refine r_if_ne (tgt := 48) hx hb dX6_warning_28 (by decide) (by omega) (fun c_22 => ?_) (fun c_22 => ?_)
        · refine lv_iinc (v := iv (w + 1)) (lv' := [(3, .int (iv (w + 1))), (0, .ref (B 0)), (1, .int (iv (seesAllV (rv M) (pw M) (M 7 0) (1 : Int) 16))), (2, .int (iv (warned)))]) hx hb dX6_warning_48 hl (k := 3) rfl (iv_add _ _) (by decide) rfl (fun ls hl => ?_)
          refine lv_goto (tgt := 10) hx hb dX6_warning_51 (by decide) ?_
          exact ih_10 warned (w + 1) Mw H locs (by omega) (by omega) (by omega) (by rw [h2]; exact markM_s2 _ h0 (by omega)) (by rw [maskV_s _ h0, if_neg (show ¬ pw M 1 w = 0 from (show ¬ M 8 (3 * w + 1) = 0 by omega)), ← h3]) hIMw hP hD hS ls (lv_sub hl [1, 2, 3, 0] rfl)
        refine lv_aload_n hx hb dX6_warning_31 rfl (lv_at hl 0 rfl) ?_
        refine mg_8 hx hb hts hown hK hP dX6_warning_32 ?_
        refine r_iconst hx hb dX6_warning_35 ?_
        refine lv_iload_n hx hb dX6_warning_36 rfl (lv_at hl 3 rfl) ?_
        refine r_imul hx hb dX6_warning_37 ?_
        refine r_iconst hx hb dX6_warning_38 ?_
        refine r_iadd hx hb dX6_warning_39 ?_
        refine r_iconst hx hb dX6_warning_40 ?_
        refine m_ast hx hb hK hP hD hS 8 (n := 24) rfl (by decide) (by omega) dX6_warning_41 (fun M_23 eM_23 H locs hP hD hS => ?_)
        have hIM_23 : InvM M_23 := iMs_8 hIMw eM_23 (by omega)
        refine lv_iload_n hx hb dX6_warning_42 rfl (lv_at hl 2 rfl) ?_
        refine r_iconst hx hb dX6_warning_43 ?_
        refine lv_iload_n hx hb dX6_warning_44 rfl (lv_at hl 3 rfl) ?_
        refine lv_ishl hx hb dX6_warning_45 ?_
        refine r_topv (shl_iv (by omega)) ?_
        have f_24 := p2_pos w
        have fm := maskV_r (pw M 1) (i := w) h0
        refine lv_ior hx hb dX6_warning_46 ?_
        refine r_topv (or_iv (by omega) (by omega)) ?_
        refine lv_istore_n (lv' := [(2, .int (iv (warned + (p2 w)))), (0, .ref (B 0)), (1, .int (iv (seesAllV (rv M) (pw M) (M 7 0) (1 : Int) 16))), (3, .int (iv (w)))]) hx hb dX6_warning_47 rfl hl (by decide) rfl (fun ls hl => ?_)
        refine lv_iinc (v := iv (w + 1)) (lv' := [(3, .int (iv (w + 1))), (2, .int (iv (warned + (p2 w)))), (0, .ref (B 0)), (1, .int (iv (seesAllV (rv M) (pw M) (M 7 0) (1 : Int) 16)))]) hx hb dX6_warning_48 hl (k := 3) rfl (iv_add _ _) (by decide) rfl (fun ls hl => ?_)
        refine lv_goto (tgt := 10) hx hb dX6_warning_51 (by decide) ?_
        exact ih_10 (warned + (p2 w)) (w + 1) M_23 H locs (by omega) (by omega) (by omega) (by rw [eM_23, h2]; exact markM_s1 _ h0 (by omega)) (by rw [maskV_s _ h0, if_pos (show pw M 1 w = 0 from (show M 8 (3 * w + 1) = 0 by omega)), ← h3]) hIM_23 hP hD hS ls (lv_sub hl [2, 3, 1, 0] rfl)
      refine lv_aload_n hx hb dX6_warning_54 rfl (lv_at hl 0 rfl) ?_
      refine r_iconst hx hb dX6_warning_55 ?_
      refine m_cI ⟨hx, hb, hml, hown, hts⟩ (m_seesAll hIMw (k := 1) (by decide)) (cwV 1 hts (lw_V q1256 q1258 qs42 q60 q1259) rfl rfl rfl hdV_X6_seesAll ⟨Nat.le_of_ble_eq_true rfl, Nat.le_of_ble_eq_true rfl⟩) hK hP hD hS rfl hl.1 rfl (Nat.le_of_ble_eq_true rfl) ⟨Nat.le_of_ble_eq_true rfl, Nat.le_of_ble_eq_true rfl⟩ dX6_warning_56 (fun r_8 M_7 H locs hq hP hD hS => ?_)
      obtain ⟨er_8, xM_7, hIM_7⟩ := hq
      subst er_8
      have f_9 := seesAllV_r (RB_rv hIMw) (VB_pw hIMw) (k := (1 : Int)) (n := Mw 7 0) (b := 16) (by omega) (iM_7 hIMw 0) (by decide)
      have es : seesAllV (rv Mw) (pw Mw) (Mw 7 0) 1 16 = seesAllV (rv M) (warnV (pw M)) (M 7 0) 1 16 := by rw [rv_eqx (show eqx [8] M_1 Mw by rw [h2]; exact markM_x _ _ _) (by intro f hf q; simp only [List.mem_cons, List.not_mem_nil, or_false] at q; omega), rv_eqx xM_1 (by intro f hf q; simp only [List.mem_cons, List.not_mem_nil, or_false] at q; omega), h2, show w = M 7 0 by omega, show markM M_1 0 (M 7 0) 7 0 = M 7 0 from (congrFun (markM_x M_1 0 (M 7 0) 7 (by decide)) 0).trans (congrFun (xM_1 7 (by decide)) 0), seesAllV_c (pw_mark M_1 (M 7 0)), pw_x (xM_1 8 (by decide))]
      refine lv_istore_n (lv' := [(3, .int (iv (seesAllV (rv Mw) (pw Mw) (Mw 7 0) (1 : Int) 16))), (0, .ref (B 0)), (1, .int (iv (seesAllV (rv M) (pw M) (M 7 0) (1 : Int) 16))), (2, .int (iv (warned)))]) hx hb dX6_warning_59 rfl hl (by decide) rfl (fun ls hl => ?_)
      refine r_iconst hx hb dX6_warning_60 ?_
      refine lv_istore (lv' := [(4, .int (iv (0))), (3, .int (iv (seesAllV (rv Mw) (pw Mw) (Mw 7 0) (1 : Int) 16))), (0, .ref (B 0)), (1, .int (iv (seesAllV (rv M) (pw M) (M 7 0) (1 : Int) 16))), (2, .int (iv (warned)))]) hx hb dX6_warning_61 hl (by decide) rfl (fun ls hl => ?_)
      have lp_63 : ∀ (n_63 : Nat) (w2 : Int) (Mw63 : St) (H : Heap) (locs : List Loc), M 7 0 - w2 < (n_63 : Int) → (0 ≤ w2) → (w2 ≤ M 7 0) → (eqx [14, 15] (markM M_1 w2 (M 7 0)) Mw63) → InvM Mw63 → wP D vwCl (mW cI B Mw63) H → wD A (mW cI B Mw63) → va_S A s.heap H locs → ∀ (ls : Array Slot), lv_has ls 5 [(0, .ref (B 0)), (1, .int (iv (seesAllV (rv M) (pw M) (M 7 0) (1 : Int) 16))), (2, .int (iv (warned))), (3, .int (iv (seesAllV (rv Mw) (pw Mw) (Mw 7 0) (1 : Int) 16))), (4, .int (iv (w2)))] → W p l e (rmk 5 0 0) s m args below meth c H locs 0 0 Q (F0 m 63 ls []) := by
        intro n_63
        induction n_63 with
        | zero =>
          intro w2 Mw63 H locs hn_63 k0 k1 k2 hIMw63 hP hD hS ls hl
          exfalso
          omega
        | succ n_63 ih_63 =>
          intro w2 Mw63 H locs hn_63 k0 k1 k2 hIMw63 hP hD hS ls hl
          have e8 : Mw63 8 (3 * w2 + 1) = markM M_1 w2 (M 7 0) 8 (3 * w2 + 1) := congrFun (k2 8 (by decide)) _
          have e8a : M_1 8 (3 * w2 + 1) = M 8 (3 * w2 + 1) := congrFun (xM_1 8 (by decide)) _
          rw [markM_at] at e8
          have fmr := maskV_r (pw M 1) (i := w) h0
          have fml := p2_mono (a := w) (b := 8) (by omega)
          have fm8 : p2 8 = 256 := by decide
          refine lv_iload hx hb dX6_warning_63 (lv_at hl 4 rfl) ?_
          refine lv_aload_n hx hb dX6_warning_65 rfl (lv_at hl 0 rfl) ?_
          refine mg_7 hx hb hts hown hK hP dX6_warning_66 ?_
          refine r_top (congrFun (((show Mw63 7 = M_1 7 from ((eqx.mono (js := [8, 14, 15]) (markM_x M_1 w2 (M 7 0)) (by decide)).tr (eqx.mono (js := [8, 14, 15]) k2 (by decide))) 7 (by decide))).trans (show M_1 7 = M 7 from xM_1 7 (by decide))) 0) ?_
          have b_11 := iM_7 (M := M) hI (0)
          refine r_icmp_ge (tgt := 114) hx hb dX6_warning_69 (by decide) (by omega) (by omega) (fun c_12 => ?_) (fun c_12 => ?_)
          · refine lv_iload_n hx hb dX6_warning_114 rfl (lv_at hl 3 rfl) ?_
            refine lv_iload_n hx hb dX6_warning_115 rfl (lv_at hl 1 rfl) ?_
            refine r_isub hx hb dX6_warning_116 ?_
            exact r_iretS hx hb hr hlk hQ Mw63 ⟨congrArg iv (by rw [es]; rfl), (xM_1.mono (by decide)).tr (by have h := k2; rw [show w2 = M 7 0 by omega, markM_0] at h; exact h), hIMw63⟩ (fun t ht _ => ⟨by rw [ht]; exact hP, hD⟩) hS dX6_warning_117
          refine lv_aload_n hx hb dX6_warning_72 rfl (lv_at hl 0 rfl) ?_
          refine mg_8 hx hb hts hown hK hP dX6_warning_73 ?_
          refine r_iconst hx hb dX6_warning_76 ?_
          refine lv_iload hx hb dX6_warning_77 (lv_at hl 4 rfl) ?_
          refine r_imul hx hb dX6_warning_79 ?_
          refine r_iconst hx hb dX6_warning_80 ?_
          refine r_iadd hx hb dX6_warning_81 ?_
          refine lv_iload_n hx hb dX6_warning_82 rfl (lv_at hl 2 rfl) ?_
          refine lv_iload hx hb dX6_warning_83 (lv_at hl 4 rfl) ?_
          refine lv_ishr hx hb dX6_warning_85 ?_
          refine r_iconst hx hb dX6_warning_86 ?_
          refine lv_iand hx hb dX6_warning_87 ?_
          refine r_topv (b := bitV warned w2) (bit_iv (by omega) (by omega)) ?_
          have f_13 := bitV_r warned w2
          refine r_iconst hx hb dX6_warning_88 ?_
          have J_17 : ∀ (v_15 : Int) (ls : Array Slot), v_15 = (if (bitV warned w2) = 1 then 0 else Mw63 8 ((3 * w2) + 1)) → lv_has ls 5 [(0, .ref (B 0)), (1, .int (iv (seesAllV (rv M) (pw M) (M 7 0) (1 : Int) 16))), (2, .int (iv (warned))), (3, .int (iv (seesAllV (rv Mw) (pw Mw) (Mw 7 0) (1 : Int) 16))), (4, .int (iv (w2)))] → W p l e (rmk 5 0 0) s m args below meth c H locs 0 0 Q (F0 m 107 ls [.int (iv (v_15)), .int (iv ((3 * w2) + 1)), .ref (B 9)]) := by
            intro v_15 ls ev_15 hl
            refine m_ast hx hb hK hP hD hS 8 (n := 24) rfl (by decide) (by omega) dX6_warning_107 (fun M_18 eM_18 H locs hP hD hS => ?_)
            have hIM_18 : InvM M_18 := iMs_8 hIMw63 eM_18 (by have q := iM_8 hIMw63 (3 * w2 + 1); omega)
            refine lv_iinc (v := iv (w2 + 1)) (lv' := [(4, .int (iv (w2 + 1))), (0, .ref (B 0)), (1, .int (iv (seesAllV (rv M) (pw M) (M 7 0) (1 : Int) 16))), (2, .int (iv (warned))), (3, .int (iv (seesAllV (rv Mw) (pw Mw) (Mw 7 0) (1 : Int) 16)))]) hx hb dX6_warning_108 hl (k := 4) rfl (iv_add _ _) (by decide) rfl (fun ls hl => ?_)
            refine lv_goto (tgt := 63) hx hb dX6_warning_111 (by decide) ?_
            exact ih_63 (w2 + 1) M_18 H locs (by omega) (by omega) (by omega) (by have h := eqx_upd k2 8 (3 * w2 + 1) v_15; rw [← eM_18, markM_t _ (by omega) (by rw [e8a, ev_15]; have fb := maskV_bit (pw M 1) (i := w) (w := w2) (by omega); rw [← h3] at fb; have fp : pw M 1 w2 = M 8 (3 * w2 + 1) := rfl; rw [fp] at fb; (repeat' split at *) <;> omega)] at h; exact h) hIM_18 hP hD hS ls (lv_sub hl [1, 2, 3, 4, 0] rfl)
          refine r_icmp_ne (tgt := 96) hx hb dX6_warning_89 (by decide) (by omega) (by omega) (fun c_14 => ?_) (fun c_14 => ?_)
          rotate_left
          · refine r_iconst hx hb dX6_warning_92 ?_
            refine lv_goto (tgt := 107) hx hb dX6_warning_93 (by decide) ?_
            exact J_17 0 ls (by rw [if_pos c_14]) (lv_sub hl [0, 1, 2, 3, 4] rfl)
          refine lv_aload_n hx hb dX6_warning_96 rfl (lv_at hl 0 rfl) ?_
          refine mg_8 hx hb hts hown hK hP dX6_warning_97 ?_
          refine r_iconst hx hb dX6_warning_100 ?_
          refine lv_iload hx hb dX6_warning_101 (lv_at hl 4 rfl) ?_
          refine r_imul hx hb dX6_warning_103 ?_
          refine r_iconst hx hb dX6_warning_104 ?_
          refine r_iadd hx hb dX6_warning_105 ?_
          refine m_ald hx hb hK hP 8 (n := 24) rfl (by decide) (by omega) dX6_warning_106 ?_
          have b_20 := iM_8 (M := Mw63) hIMw63 ((3 * w2) + 1)
          exact J_17 (Mw63 8 ((3 * w2) + 1)) ls (by rw [if_neg c_14]) (lv_sub hl [0, 1, 2, 3, 4] rfl)
      exact lp_63 (M 7 0 - 0 + 1 : Int).toNat 0 M_7 H locs (by omega) (by omega) (by omega) (by have h := xM_7; rw [h2, show w = M 7 0 by omega] at h; exact h) hIM_7 hP hD hS ls (lv_sub hl [2, 3, 4, 1, 0] rfl)
  exact lp_10 (M 7 0 - 0 + 1 : Int).toNat 0 0 M_1 H locs (by omega) (by omega) (by omega) ((markM_0 _ _).symm) (maskV_0 _) hIM_1 hP hD hS ls (lv_sub hl [3, 2, 1, 0] rfl)
