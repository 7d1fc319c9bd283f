set_option maxRecDepth 100000
set_option maxHeartbeats 4000000 in
set_option maxRecDepth 100000 in
theorem m_oddsOf {l : Launch} {D : va_G} {cI : ClassId} {B : Nat → Nat} {A : Nat → Prop} {M : St} (hI : InvM M) {watcher : Int} {beat : Int} {k : Int} (g_watcher : 0 ≤ watcher ∧ watcher ≤ 7) (g_beat : 0 ≤ beat ∧ beat ≤ 15) (g_k : 1 ≤ k ∧ k ≤ 9) : Met l yX6_oddsOf (ws_ yX6_oddsOf cX6_oddsOf 12 none) (rmk 2 0 0) (va_Pc [.ref (B 0), .int (iv watcher), .int (iv beat), .int (iv k)] (mUS D cI A (mW cI B M))) (va_Qv (fun M1 => M1 14 0 = aboveV (rv M) (pw M 0 watcher) (pw M 1 watcher) (pw M 2 watcher) beat k ∧ M1 15 0 = belowV (rv M) (pw M 1 watcher) (pw M 2 watcher) beat k ∧ eqx [14, 15] M M1 ∧ InvM M1) (mB D cI B A) A) 0 0 A := by
  refine r_met (by decide) _ rfl (Nat.le_of_ble_eq_true rfl) ?_
  intro p e s m args below meth c Q ls hx hb hr hlk hml hown hts hpre hQ hl
  obtain ⟨hP, hD, hK⟩ := hpre
  have hS : va_S A s.heap s.heap [] := va_S.rf
  have hown : s.vm.findClass RX6 = some m.cls := hown
  have hl : lv_has ls 12 [(0, .ref (B 0)), (1, .int (iv (watcher))), (2, .int (iv (beat))), (3, .int (iv (k)))] := hl
  refine lv_aload_n hx hb dX6_oddsOf_0 rfl (lv_at hl 0 rfl) ?_
  refine mg_8 hx hb hts hown hK hP dX6_oddsOf_1 ?_
  refine r_iconst hx hb dX6_oddsOf_4 ?_
  refine lv_iload_n hx hb dX6_oddsOf_5 rfl (lv_at hl 1 rfl) ?_
  refine r_imul hx hb dX6_oddsOf_6 ?_
  refine m_ald hx hb hK hP 8 (n := 24) rfl (by decide) (by omega) dX6_oddsOf_7 ?_
  have b_1 := iM_8 (M := M) hI (3 * watcher)
  refine lv_istore (lv' := [(4, .int (iv (M 8 (3 * watcher)))), (0, .ref (B 0)), (1, .int (iv (watcher))), (2, .int (iv (beat))), (3, .int (iv (k)))]) hx hb dX6_oddsOf_8 hl (by decide) rfl (fun ls hl => ?_)
  refine lv_aload_n hx hb dX6_oddsOf_10 rfl (lv_at hl 1 rfl) ?_
  refine mg_1 hx hb hts hown hK hP dX6_oddsOf_11 ?_
  refine lv_iload_n hx hb dX6_oddsOf_14 rfl (lv_at hl 3 rfl) ?_
  refine m_ald hx hb hK hP 1 (n := 16) rfl (by decide) (by omega) dX6_oddsOf_15 ?_
  have b_2 := iM_1 (M := M) hI (beat)
  refine r_bipush hx hb (by decide) dX6_oddsOf_16 ?_
  refine r_idiv hx hb (by omega) (by omega) dX6_oddsOf_18 ?_
  refine lv_istore (lv' := [(5, .int (iv ((M 1 beat) / 10))), (4, .int (iv (M 8 (3 * watcher)))), (0, .ref (B 0)), (1, .int (iv (watcher))), (2, .int (iv (beat))), (3, .int (iv (k)))]) hx hb dX6_oddsOf_19 hl (by decide) rfl (fun ls hl => ?_)
  refine lv_aload_n hx hb dX6_oddsOf_21 rfl (lv_at hl 2 rfl) ?_
  refine mg_1 hx hb hts hown hK hP dX6_oddsOf_22 ?_
  refine lv_iload_n hx hb dX6_oddsOf_25 rfl (lv_at hl 4 rfl) ?_
  refine m_ald hx hb hK hP 1 (n := 16) rfl (by decide) (by omega) dX6_oddsOf_26 ?_
  have b_3 := iM_1 (M := M) hI (beat)
  refine r_bipush hx hb (by decide) dX6_oddsOf_27 ?_
  refine r_irem hx hb (by omega) (by omega) dX6_oddsOf_29 ?_
  refine lv_iload hx hb dX6_oddsOf_30 (lv_at hl 1 rfl) ?_
  refine r_iconst hx hb dX6_oddsOf_32 ?_
  refine r_idiv hx hb (by omega) (by omega) dX6_oddsOf_33 ?_
  refine r_isub hx hb dX6_oddsOf_34 ?_
  refine lv_istore (lv' := [(6, .int (iv (((M 1 beat) % 10) - ((M 8 (3 * watcher)) / 4)))), (5, .int (iv ((M 1 beat) / 10))), (4, .int (iv (M 8 (3 * watcher)))), (0, .ref (B 0)), (1, .int (iv (watcher))), (2, .int (iv (beat))), (3, .int (iv (k)))]) hx hb dX6_oddsOf_35 hl (by decide) rfl (fun ls hl => ?_)
  refine lv_iload hx hb dX6_oddsOf_37 (lv_at hl 0 rfl) ?_
  refine r_iconst hx hb dX6_oddsOf_39 ?_
  have J_7 : ∀ (v_5 : Int) (ls : Array Slot), v_5 = (if 1 ≤ (((M 1 beat) % 10) - ((M 8 (3 * watcher)) / 4)) then ((M 1 beat) % 10) - ((M 8 (3 * watcher)) / 4) else 1) → lv_has ls 12 [(0, .ref (B 0)), (1, .int (iv (watcher))), (2, .int (iv (beat))), (3, .int (iv (k))), (4, .int (iv (M 8 (3 * watcher)))), (5, .int (iv ((M 1 beat) / 10))), (6, .int (iv (((M 1 beat) % 10) - ((M 8 (3 * watcher)) / 4))))] → W p l e (rmk 2 0 0) s m args below meth c s.heap [] 0 0 Q (F0 m 49 ls [.int (iv (v_5))]) := by
    intro v_5 ls ev_5 hl
    refine lv_istore (lv' := [(6, .int (iv (v_5))), (0, .ref (B 0)), (1, .int (iv (watcher))), (2, .int (iv (beat))), (3, .int (iv (k))), (4, .int (iv (M 8 (3 * watcher)))), (5, .int (iv ((M 1 beat) / 10)))]) hx hb dX6_oddsOf_49 hl (by decide) rfl (fun ls hl => ?_)
    refine lv_aload_n hx hb dX6_oddsOf_51 rfl (lv_at hl 1 rfl) ?_
    refine lv_iload_n hx hb dX6_oddsOf_52 rfl (lv_at hl 2 rfl) ?_
    refine lv_iload_n hx hb dX6_oddsOf_53 rfl (lv_at hl 3 rfl) ?_
    refine m_cR ⟨hx, hb, hml, hown, hts⟩ (m_heedOf hI (watcher := watcher) (beat := beat) (by omega) (by omega)) (cwV 2 hts (lw_V q1160 q1162 qs30 q60 q1163) rfl rfl rfl hdV_X6_heedOf ⟨Nat.le_of_ble_eq_true rfl, Nat.le_of_ble_eq_true rfl⟩) hK hP rfl hl.1 rfl (Nat.le_of_ble_eq_true rfl) ⟨Nat.le_of_ble_eq_true rfl, Nat.le_of_ble_eq_true rfl⟩ dX6_oddsOf_54 ?_
    have f_8 := heedV_r hI (M 8 (3 * watcher + 1)) (beat + 1)
    refine lv_istore (lv' := [(7, .int (iv (heedV (rv M) (M 8 (3 * watcher + 1)) (beat + 1)))), (6, .int (iv (v_5))), (0, .ref (B 0)), (1, .int (iv (watcher))), (2, .int (iv (beat))), (3, .int (iv (k))), (4, .int (iv (M 8 (3 * watcher)))), (5, .int (iv ((M 1 beat) / 10)))]) hx hb dX6_oddsOf_57 hl (by decide) rfl (fun ls hl => ?_)
    refine r_lconst hx hb 0 (by decide) dX6_oddsOf_59 ?_
    refine lv_lstore (lv' := [(8, .long (jv (0))), (7, .int (iv (heedV (rv M) (M 8 (3 * watcher + 1)) (beat + 1)))), (6, .int (iv (v_5))), (0, .ref (B 0)), (1, .int (iv (watcher))), (2, .int (iv (beat))), (3, .int (iv (k))), (4, .int (iv (M 8 (3 * watcher)))), (5, .int (iv ((M 1 beat) / 10)))]) hx hb dX6_oddsOf_60 hl (by decide) rfl (fun ls hl => ?_)
    refine r_iconst hx hb dX6_oddsOf_62 ?_
    refine lv_istore (lv' := [(10, .int (iv (0))), (8, .long (jv (0))), (7, .int (iv (heedV (rv M) (M 8 (3 * watcher + 1)) (beat + 1)))), (6, .int (iv (v_5))), (0, .ref (B 0)), (1, .int (iv (watcher))), (2, .int (iv (beat))), (3, .int (iv (k))), (4, .int (iv (M 8 (3 * watcher)))), (5, .int (iv ((M 1 beat) / 10)))]) hx hb dX6_oddsOf_63 hl (by decide) rfl (fun ls hl => ?_)
    have lp_65 : ∀ (n_65 : Nat) (all : Int) (q : Int), 4 - q < (n_65 : Int) → (0 ≤ q) → (q ≤ 4) → (all = allV (rv M) (pw M 1 watcher) (pw M 2 watcher) beat k q) → (0 ≤ all ∧ all ≤ 121 * q) → ∀ (ls : Array Slot), lv_has ls 12 [(0, .ref (B 0)), (1, .int (iv (watcher))), (2, .int (iv (beat))), (3, .int (iv (k))), (4, .int (iv (M 8 (3 * watcher)))), (5, .int (iv ((M 1 beat) / 10))), (6, .int (iv (v_5))), (7, .int (iv (heedV (rv M) (M 8 (3 * watcher + 1)) (beat + 1)))), (8, .long (jv (all))), (10, .int (iv (q)))] → W p l e (rmk 2 0 0) s m args below meth c s.heap [] 0 0 Q (F0 m 65 ls []) := by
      intro n_65
      induction n_65 with
      | zero =>
        intro all q hn_65 h0 h1 h2 h3 ls hl
        exfalso
        omega
      | succ n_65 ih_65 =>
        intro all q hn_65 h0 h1 h2 h3 ls hl
        refine lv_iload hx hb dX6_oddsOf_65 (lv_at hl 9 rfl) ?_
        refine r_iconst hx hb dX6_oddsOf_67 ?_
        refine r_icmp_ge (tgt := 111) hx hb dX6_oddsOf_68 (by decide) (by omega) (by omega) (fun c_9 => ?_) (fun c_9 => ?_)
        rotate_left
        · refine lv_lload hx hb dX6_oddsOf_71 (lv_at hl 8 rfl) ?_
          refine lv_aload_n hx hb dX6_oddsOf_73 rfl (lv_at hl 0 rfl) ?_
          refine lv_aload_n hx hb dX6_oddsOf_74 rfl (lv_at hl 0 rfl) ?_
          refine mg_8 hx hb hts hown hK hP dX6_oddsOf_75 ?_
          refine r_iconst hx hb dX6_oddsOf_78 ?_
          refine lv_iload_n hx hb dX6_oddsOf_79 rfl (lv_at hl 1 rfl) ?_
          refine r_imul hx hb dX6_oddsOf_80 ?_
          refine r_iconst hx hb dX6_oddsOf_81 ?_
          refine r_iadd hx hb dX6_oddsOf_82 ?_
          refine m_ald hx hb hK hP 8 (n := 24) rfl (by decide) (by omega) dX6_oddsOf_83 ?_
          have b_30 := iM_8 (M := M) hI ((3 * watcher) + 1)
          refine lv_aload_n hx hb dX6_oddsOf_84 rfl (lv_at hl 0 rfl) ?_
          refine mg_8 hx hb hts hown hK hP dX6_oddsOf_85 ?_
          refine r_iconst hx hb dX6_oddsOf_88 ?_
          refine lv_iload_n hx hb dX6_oddsOf_89 rfl (lv_at hl 1 rfl) ?_
          refine r_imul hx hb dX6_oddsOf_90 ?_
          refine r_iconst hx hb dX6_oddsOf_91 ?_
          refine r_iadd hx hb dX6_oddsOf_92 ?_
          refine m_ald hx hb hK hP 8 (n := 24) rfl (by decide) (by omega) dX6_oddsOf_93 ?_
          have b_31 := iM_8 (M := M) hI ((3 * watcher) + 2)
          refine lv_iload_n hx hb dX6_oddsOf_94 rfl (lv_at hl 2 rfl) ?_
          refine lv_iload hx hb dX6_oddsOf_95 (lv_at hl 9 rfl) ?_
          refine lv_iload_n hx hb dX6_oddsOf_97 rfl (lv_at hl 3 rfl) ?_
          refine m_cR ⟨hx, hb, hml, hown, hts⟩ (m_pullOn hI (kind := M 8 ((3 * watcher) + 1)) (doubt := M 8 ((3 * watcher) + 2)) (beat := beat) (place := q) (k := k) (by omega) (by omega) (by omega) (by omega) (by omega)) (cwV 5 hts (lw_V q1227 q1229 qs39 q60 q1230) rfl rfl rfl hdV_X6_pullOn ⟨Nat.le_of_ble_eq_true rfl, Nat.le_of_ble_eq_true rfl⟩) hK hP rfl hl.1 rfl (Nat.le_of_ble_eq_true rfl) ⟨Nat.le_of_ble_eq_true rfl, Nat.le_of_ble_eq_true rfl⟩ dX6_oddsOf_98 ?_
          have f_32 := @pullV_r (rv M) (RB_rv hI) (M 8 ((3 * watcher) + 1)) (M 8 ((3 * watcher) + 2)) beat q k (by omega) (by omega)
          refine r_i2l hx hb (by omega) dX6_oddsOf_101 ?_
          refine r_ladd hx hb dX6_oddsOf_102 ?_
          refine lv_lstore (lv' := [(8, .long (jv (all + (pullV (rv M) (M 8 ((3 * watcher) + 1)) (M 8 ((3 * watcher) + 2)) beat q k)))), (0, .ref (B 0)), (1, .int (iv (watcher))), (2, .int (iv (beat))), (3, .int (iv (k))), (4, .int (iv (M 8 (3 * watcher)))), (5, .int (iv ((M 1 beat) / 10))), (6, .int (iv (v_5))), (7, .int (iv (heedV (rv M) (M 8 (3 * watcher + 1)) (beat + 1)))), (10, .int (iv (q)))]) hx hb dX6_oddsOf_103 hl (by decide) rfl (fun ls hl => ?_)
          refine lv_iinc (v := iv (q + 1)) (lv' := [(10, .int (iv (q + 1))), (8, .long (jv (all + (pullV (rv M) (M 8 ((3 * watcher) + 1)) (M 8 ((3 * watcher) + 2)) beat q k)))), (0, .ref (B 0)), (1, .int (iv (watcher))), (2, .int (iv (beat))), (3, .int (iv (k))), (4, .int (iv (M 8 (3 * watcher)))), (5, .int (iv ((M 1 beat) / 10))), (6, .int (iv (v_5))), (7, .int (iv (heedV (rv M) (M 8 (3 * watcher + 1)) (beat + 1))))]) hx hb dX6_oddsOf_105 hl (k := 9) rfl (iv_add _ _) (by decide) rfl (fun ls hl => ?_)
          refine lv_goto (tgt := 65) hx hb dX6_oddsOf_108 (by decide) ?_
          exact ih_65 (all + (pullV (rv M) (M 8 ((3 * watcher) + 1)) (M 8 ((3 * watcher) + 2)) beat q k)) (q + 1) (by omega) (by omega) (by omega) (by rw [allV_s _ _ _ _ _ h0, h2]; rfl) (by have hp := pullV_r (RB_rv hI) (kind := M 8 (3 * watcher + 1)) (doubt := M 8 (3 * watcher + 2)) (beat := beat) (place := q) (k := k) (by omega) (by omega); omega) ls (lv_sub hl [2, 3, 4, 5, 6, 7, 8, 9, 1, 0] rfl)
        have eq4 : q = 4 := by omega
        have eall : all = allV (rv M) (pw M 1 watcher) (pw M 2 watcher) beat k 4 := by rw [h2, eq4]
        have hal := allV_r (RB_rv hI) (kind := pw M 1 watcher) (doubt := pw M 2 watcher) (beat := beat) (k := k) (VB_pw hI 2 watcher) g_k
        have hse := seenV_r (RB_rv hI) (seat := pw M 0 watcher) (kind := pw M 1 watcher) (doubt := pw M 2 watcher) (beat := beat) (k := k) (VB_pw hI 0 watcher).1 (VB_pw hI 2 watcher) g_k
        have hbe := belowV_r (RB_rv hI) (kind := pw M 1 watcher) (doubt := pw M 2 watcher) (beat := beat) (k := k) (VB_pw hI 2 watcher) g_k
        refine lv_aload_n hx hb dX6_oddsOf_111 rfl (lv_at hl 0 rfl) ?_
        refine lv_aload_n hx hb dX6_oddsOf_112 rfl (lv_at hl 0 rfl) ?_
        refine mg_8 hx hb hts hown hK hP dX6_oddsOf_113 ?_
        refine r_iconst hx hb dX6_oddsOf_116 ?_
        refine lv_iload_n hx hb dX6_oddsOf_117 rfl (lv_at hl 1 rfl) ?_
        refine r_imul hx hb dX6_oddsOf_118 ?_
        refine r_iconst hx hb dX6_oddsOf_119 ?_
        refine r_iadd hx hb dX6_oddsOf_120 ?_
        refine m_ald hx hb hK hP 8 (n := 24) rfl (by decide) (by omega) dX6_oddsOf_121 ?_
        have b_10 := iM_8 (M := M) hI ((3 * watcher) + 1)
        refine lv_aload_n hx hb dX6_oddsOf_122 rfl (lv_at hl 0 rfl) ?_
        refine mg_8 hx hb hts hown hK hP dX6_oddsOf_123 ?_
        refine r_iconst hx hb dX6_oddsOf_126 ?_
        refine lv_iload_n hx hb dX6_oddsOf_127 rfl (lv_at hl 1 rfl) ?_
        refine r_imul hx hb dX6_oddsOf_128 ?_
        refine r_iconst hx hb dX6_oddsOf_129 ?_
        refine r_iadd hx hb dX6_oddsOf_130 ?_
        refine m_ald hx hb hK hP 8 (n := 24) rfl (by decide) (by omega) dX6_oddsOf_131 ?_
        have b_11 := iM_8 (M := M) hI ((3 * watcher) + 2)
        refine lv_iload_n hx hb dX6_oddsOf_132 rfl (lv_at hl 2 rfl) ?_
        refine lv_iload hx hb dX6_oddsOf_133 (lv_at hl 5 rfl) ?_
        refine lv_iload_n hx hb dX6_oddsOf_135 rfl (lv_at hl 3 rfl) ?_
        refine m_cR ⟨hx, hb, hml, hown, hts⟩ (m_pullOn hI (kind := M 8 ((3 * watcher) + 1)) (doubt := M 8 ((3 * watcher) + 2)) (beat := beat) (place := (M 1 beat) / 10) (k := k) (by omega) (by omega) (by omega) (by omega) (by omega)) (cwV 5 hts (lw_V q1227 q1229 qs39 q60 q1230) rfl rfl rfl hdV_X6_pullOn ⟨Nat.le_of_ble_eq_true rfl, Nat.le_of_ble_eq_true rfl⟩) hK hP rfl hl.1 rfl (Nat.le_of_ble_eq_true rfl) ⟨Nat.le_of_ble_eq_true rfl, Nat.le_of_ble_eq_true rfl⟩ dX6_oddsOf_136 ?_
        have f_12 := @pullV_r (rv M) (RB_rv hI) (M 8 ((3 * watcher) + 1)) (M 8 ((3 * watcher) + 2)) beat ((M 1 beat) / 10) k (by omega) (by omega)
        refine r_i2l hx hb (by omega) dX6_oddsOf_139 ?_
        refine lv_lstore (lv' := [(10, .long (jv (pullV (rv M) (M 8 ((3 * watcher) + 1)) (M 8 ((3 * watcher) + 2)) beat ((M 1 beat) / 10) k))), (0, .ref (B 0)), (1, .int (iv (watcher))), (2, .int (iv (beat))), (3, .int (iv (k))), (4, .int (iv (M 8 (3 * watcher)))), (5, .int (iv ((M 1 beat) / 10))), (6, .int (iv (v_5))), (7, .int (iv (heedV (rv M) (M 8 (3 * watcher + 1)) (beat + 1)))), (8, .long (jv (all)))]) hx hb dX6_oddsOf_140 hl (by decide) rfl (fun ls hl => ?_)
        refine lv_aload_n hx hb dX6_oddsOf_142 rfl (lv_at hl 1 rfl) ?_
        refine lv_lload hx hb dX6_oddsOf_143 (lv_at hl 0 rfl) ?_
        refine lv_iload hx hb dX6_oddsOf_145 (lv_at hl 8 rfl) ?_
        refine r_i2l hx hb (by omega) dX6_oddsOf_147 ?_
        refine r_lmul hx hb dX6_oddsOf_148 ?_
        refine lv_iload hx hb dX6_oddsOf_149 (lv_at hl 7 rfl) ?_
        refine r_i2l hx hb (by omega) dX6_oddsOf_151 ?_
        refine r_lmul hx hb dX6_oddsOf_152 ?_
        refine lv_iload hx hb dX6_oddsOf_153 (lv_at hl 7 rfl) ?_
        refine r_bipush hx hb (by decide) dX6_oddsOf_155 ?_
        have J_16 : ∀ (v_14 : Int) (ls : Array Slot), v_14 = (if v_5 ≤ 6 then 0 else ((all - (pullV (rv M) (M 8 ((3 * watcher) + 1)) (M 8 ((3 * watcher) + 2)) beat ((M 1 beat) / 10) k)) * (heedV (rv M) (M 8 (3 * watcher + 1)) (beat + 1))) * (v_5 - 6)) → lv_has ls 12 [(0, .ref (B 0)), (1, .int (iv (watcher))), (2, .int (iv (beat))), (3, .int (iv (k))), (4, .int (iv (M 8 (3 * watcher)))), (5, .int (iv ((M 1 beat) / 10))), (6, .int (iv (v_5))), (7, .int (iv (heedV (rv M) (M 8 (3 * watcher + 1)) (beat + 1)))), (8, .long (jv (all))), (10, .long (jv (pullV (rv M) (M 8 ((3 * watcher) + 1)) (M 8 ((3 * watcher) + 2)) beat ((M 1 beat) / 10) k)))] → W p l e (rmk 2 0 0) s m args below meth c s.heap [] 0 0 Q (F0 m 180 ls [.long (jv (v_14)), .long (jv (((pullV (rv M) (M 8 ((3 * watcher) + 1)) (M 8 ((3 * watcher) + 2)) beat ((M 1 beat) / 10) k) * (heedV (rv M) (M 8 (3 * watcher + 1)) (beat + 1))) * v_5)), .ref (B 0)]) := by
          intro v_14 ls ev_14 hl
          refine r_ladd hx hb dX6_oddsOf_180 ?_
          have hsee : (((pullV (rv M) (M 8 ((3 * watcher) + 1)) (M 8 ((3 * watcher) + 2)) beat ((M 1 beat) / 10) k) * (heedV (rv M) (M 8 (3 * watcher + 1)) (beat + 1))) * v_5) + v_14 = seenV (rv M) (pw M 0 watcher) (pw M 1 watcher) (pw M 2 watcher) beat k := by subst_vars; rfl
          refine mp_14 hx hb hts hown hK hP hD hS dX6_oddsOf_181 (fun M_17 eM_17 H locs hP hD hS => ?_)
          have hIM_17 : InvM M_17 := iMs_14 hI eM_17 (by omega)
          refine lv_aload_n hx hb dX6_oddsOf_184 rfl (lv_at hl 0 rfl) ?_
          refine lv_aload_n hx hb dX6_oddsOf_185 rfl (lv_at hl 0 rfl) ?_
          refine lv_iload hx hb dX6_oddsOf_186 (lv_at hl 4 rfl) ?_
          refine lv_iload hx hb dX6_oddsOf_188 (lv_at hl 5 rfl) ?_
          refine lv_aload_n hx hb dX6_oddsOf_190 rfl (lv_at hl 0 rfl) ?_
          refine mg_5 hx hb hts hown hK hP dX6_oddsOf_191 ?_
          refine r_top (congrFun ((show M_17 5 = M 5 from by rw [eM_17]; exact upd2_k (by decide))) 0) ?_
          have b_19 := iM_5 (M := M) hI (0)
          refine m_cR ⟨hx, hb, hml, hown, hts⟩ (m_sight hIM_17 (seat := M 8 (3 * watcher)) (place := (M 1 beat) / 10) (column := M 5 0) (by omega) (by omega) (by omega)) (cwV 3 hts (lw_V q1239 q1241 qs40 q60 q1242) rfl rfl rfl hdV_X6_sight ⟨Nat.le_of_ble_eq_true rfl, Nat.le_of_ble_eq_true rfl⟩) hK hP rfl hl.1 rfl (Nat.le_of_ble_eq_true rfl) ⟨Nat.le_of_ble_eq_true rfl, Nat.le_of_ble_eq_true rfl⟩ dX6_oddsOf_194 ?_
          have J_23 : ∀ (v_21 : Int) (ls : Array Slot), v_21 = (if sightV (M 8 (3 * watcher)) ((M 1 beat) / 10) (M 5 0) then (((pullV (rv M) (M 8 ((3 * watcher) + 1)) (M 8 ((3 * watcher) + 2)) beat ((M 1 beat) / 10) k) * (heedV (rv M) (M 8 (3 * watcher + 1)) (beat + 1))) * v_5) + v_14 else 0) → lv_has ls 12 [(0, .ref (B 0)), (1, .int (iv (watcher))), (2, .int (iv (beat))), (3, .int (iv (k))), (4, .int (iv (M 8 (3 * watcher)))), (5, .int (iv ((M 1 beat) / 10))), (6, .int (iv (v_5))), (7, .int (iv (heedV (rv M) (M 8 (3 * watcher + 1)) (beat + 1)))), (8, .long (jv (all))), (10, .long (jv (pullV (rv M) (M 8 ((3 * watcher) + 1)) (M 8 ((3 * watcher) + 2)) beat ((M 1 beat) / 10) k)))] → W p l e (rmk 2 0 0) s m args below meth c H locs 0 0 Q (F0 m 208 ls [.long (jv (v_21)), .ref (B 0)]) := by
            intro v_21 ls ev_21 hl
            have ab : v_21 = aboveV (rv M) (pw M 0 watcher) (pw M 1 watcher) (pw M 2 watcher) beat k := by subst_vars; rfl
            have hab := aboveV_r (RB_rv hI) (seat := pw M 0 watcher) (kind := pw M 1 watcher) (doubt := pw M 2 watcher) (beat := beat) (k := k) (VB_pw hI 0 watcher).1 (VB_pw hI 2 watcher) g_k
            refine mp_14 hx hb hts hown hK hP hD hS dX6_oddsOf_208 (fun M_24 eM_24 H locs hP hD hS => ?_)
            have hIM_24 : InvM M_24 := iMs_14 hIM_17 eM_24 (by omega)
            refine lv_aload_n hx hb dX6_oddsOf_211 rfl (lv_at hl 0 rfl) ?_
            refine r_ldc2 hx hb (81) (by decide) hown (hts _ q1251) dX6_oddsOf_212 ?_
            refine lv_lload hx hb dX6_oddsOf_215 (lv_at hl 8 rfl) ?_
            refine r_lmul hx hb dX6_oddsOf_217 ?_
            refine mp_15 hx hb hts hown hK hP hD hS dX6_oddsOf_218 (fun M_25 eM_25 H locs hP hD hS => ?_)
            have hIM_25 : InvM M_25 := iMs_15 hIM_24 eM_25 (by omega)
            exact r_vretS hx hb hr hlk hQ M_25 ⟨by rw [eM_25, upd2_k (by decide), eM_24, upd2_e]; exact ab, by rw [eM_25, upd2_e, eall]; rfl, ((eqx.of eM_17 (by decide)).upd eM_24 (by decide)).upd eM_25 (by decide), hIM_25⟩ (fun t ht _ => ⟨by rw [ht]; exact hP, hD⟩) hS dX6_oddsOf_221
          refine r_ifz_eq (tgt := 207) hx hb dX6_oddsOf_197 (by decide) (fun c_20 => ?_) (fun c_20 => ?_)
          · refine r_lconst hx hb 0 (by decide) dX6_oddsOf_207 ?_
            exact J_23 0 ls (by rw [if_neg c_20]) (lv_sub hl [0, 1, 2, 3, 4, 5, 6, 7, 8, 9] rfl)
          refine lv_aload_n hx hb dX6_oddsOf_200 rfl (lv_at hl 0 rfl) ?_
          refine mg_14 hx hb hts hown hK hP dX6_oddsOf_201 ?_
          refine r_topl (congrArg jv (show M_17 14 0 = (((pullV (rv M) (M 8 ((3 * watcher) + 1)) (M 8 ((3 * watcher) + 2)) beat ((M 1 beat) / 10) k) * (heedV (rv M) (M 8 (3 * watcher + 1)) (beat + 1))) * v_5) + v_14 from (by rw [eM_17]; exact upd2_e))) ?_
          refine lv_goto (tgt := 208) hx hb dX6_oddsOf_204 (by decide) ?_
          exact J_23 ((((pullV (rv M) (M 8 ((3 * watcher) + 1)) (M 8 ((3 * watcher) + 2)) beat ((M 1 beat) / 10) k) * (heedV (rv M) (M 8 (3 * watcher + 1)) (beat + 1))) * v_5) + v_14) ls (by rw [if_pos c_20]) (lv_sub hl [0, 1, 2, 3, 4, 5, 6, 7, 8, 9] rfl)
        refine r_icmp_le (tgt := 179) hx hb dX6_oddsOf_157 (by decide) (by omega) (by omega) (fun c_13 => ?_) (fun c_13 => ?_)
        · refine r_lconst hx hb 0 (by decide) dX6_oddsOf_179 ?_
          exact J_16 0 ls (by rw [if_pos c_13]) (lv_sub hl [1, 2, 3, 4, 5, 6, 7, 8, 9, 0] rfl)
        refine lv_lload hx hb dX6_oddsOf_160 (lv_at hl 9 rfl) ?_
        refine lv_lload hx hb dX6_oddsOf_162 (lv_at hl 0 rfl) ?_
        refine r_lsub hx hb dX6_oddsOf_164 ?_
        refine lv_iload hx hb dX6_oddsOf_165 (lv_at hl 8 rfl) ?_
        refine r_i2l hx hb (by omega) dX6_oddsOf_167 ?_
        refine r_lmul hx hb dX6_oddsOf_168 ?_
        refine lv_iload hx hb dX6_oddsOf_169 (lv_at hl 7 rfl) ?_
        refine r_bipush hx hb (by decide) dX6_oddsOf_171 ?_
        refine r_isub hx hb dX6_oddsOf_173 ?_
        refine r_i2l hx hb (by omega) dX6_oddsOf_174 ?_
        refine r_lmul hx hb dX6_oddsOf_175 ?_
        refine lv_goto (tgt := 180) hx hb dX6_oddsOf_176 (by decide) ?_
        exact J_16 (((all - (pullV (rv M) (M 8 ((3 * watcher) + 1)) (M 8 ((3 * watcher) + 2)) beat ((M 1 beat) / 10) k)) * (heedV (rv M) (M 8 (3 * watcher + 1)) (beat + 1))) * (v_5 - 6)) ls (by rw [if_neg c_13]) (lv_sub hl [1, 2, 3, 4, 5, 6, 7, 8, 9, 0] rfl)
    exact lp_65 (4 - 0 + 1 : Int).toNat 0 0 (by omega) (by omega) (by omega) (allV_0 _ _ _ _ _) (by omega) ls (lv_sub hl [4, 5, 6, 7, 8, 9, 3, 2, 1, 0] rfl)
  refine r_icmp_ge (tgt := 47) hx hb dX6_oddsOf_40 (by decide) (by omega) (by omega) (fun c_4 => ?_) (fun c_4 => ?_)
  · refine lv_iload hx hb dX6_oddsOf_47 (lv_at hl 0 rfl) ?_
    exact J_7 (((M 1 beat) % 10) - ((M 8 (3 * watcher)) / 4)) ls (by rw [if_pos c_4]) (lv_sub hl [3, 4, 5, 6, 2, 1, 0] rfl)
  refine r_iconst hx hb dX6_oddsOf_43 ?_
  refine lv_goto (tgt := 49) hx hb dX6_oddsOf_44 (by decide) ?_
  exact J_7 1 ls (by rw [if_neg c_4]) (lv_sub hl [3, 4, 5, 6, 2, 1, 0] rfl)
set_option maxHeartbeats 4000000 in
set_option maxRecDepth 100000 in
theorem m_seesAt {l : Launch} {D : va_G} {cI : ClassId} {B : Nat → Nat} {A : Nat → Prop} {M : St} (hI : InvM M) {beat : Int} {k : Int} (g_beat : 0 ≤ beat ∧ beat ≤ 15) (g_k : 1 ≤ k ∧ k ≤ 9) : Met l yX6_seesAt (ws_ yX6_seesAt cX6_seesAt 5 (some .int)) (rmk 3 0 0) (va_Pc [.ref (B 0), .int (iv beat), .int (iv k)] (mUS D cI A (mW cI B M))) (va_Qi (fun r M1 => r = iv (seesAtV (rv M) (pw M) (M 7 0) beat k) ∧ eqx [14, 15] M M1 ∧ InvM M1) (mB D cI B A) A) 0 0 A := by
  refine r_met (by decide) _ rfl (Nat.le_of_ble_eq_true rfl) ?_
  intro p e s m args below meth c Q ls hx hb hr hlk hml hown hts hpre hQ hl
  obtain ⟨hP, hD, hK⟩ := hpre
  have hS : va_S A s.heap s.heap [] := va_S.rf
  have hown : s.vm.findClass RX6 = some m.cls := hown
  have hl : lv_has ls 5 [(0, .ref (B 0)), (1, .int (iv (beat))), (2, .int (iv (k)))] := hl
  have b7 := iM_7 hI 0
  have b1 := iM_1 hI beat
  have erb : rv M 1 beat = M 1 beat := rfl
  refine r_iconst hx hb dX6_seesAt_0 ?_
  refine lv_istore_n (lv' := [(3, .int (iv (0))), (0, .ref (B 0)), (1, .int (iv (beat))), (2, .int (iv (k)))]) hx hb dX6_seesAt_1 rfl hl (by decide) rfl (fun ls hl => ?_)
  refine r_iconst hx hb dX6_seesAt_2 ?_
  refine lv_istore (lv' := [(4, .int (iv (0))), (3, .int (iv (0))), (0, .ref (B 0)), (1, .int (iv (beat))), (2, .int (iv (k)))]) hx hb dX6_seesAt_3 hl (by decide) rfl (fun ls hl => ?_)
  have lp_5 : ∀ (n_5 : Nat) (sum : Int) (i : Int) (Mw : St) (H : Heap) (locs : List Loc), M 7 0 - i < (n_5 : Int) → (0 ≤ i) → (i ≤ M 7 0) → (eqx [14, 15] M Mw) → (i = 0 ∨ 0 < M 1 beat) → (sum = seesV (rv M) (pw M) beat k i) → (0 ≤ sum ∧ sum ≤ 1000 * i) → InvM Mw → wP D vwCl (mW cI B Mw) H → wD A (mW cI B Mw) → va_S A s.heap H locs → ∀ (ls : Array Slot), lv_has ls 5 [(0, .ref (B 0)), (1, .int (iv (beat))), (2, .int (iv (k))), (3, .int (iv (sum))), (4, .int (iv (i)))] → W p l e (rmk 3 0 0) s m args below meth c H locs 0 0 Q (F0 m 5 ls []) := by
    intro n_5
    induction n_5 with
    | zero =>
      intro sum i Mw H locs hn_5 h0 h1 h2 h3 h4 h5 hIMw hP hD hS ls hl
      exfalso
      omega
    | succ n_5 ih_5 =>
      intro sum i Mw H locs hn_5 h0 h1 h2 h3 h4 h5 hIMw hP hD hS ls hl
      have er : rv Mw = rv M := rv_eqx h2 (fun f h q => by simp only [List.mem_cons, List.not_mem_nil, or_false] at q; omega)
      have ep : pw Mw = pw M := pw_x (h2 8 (by decide))
      refine lv_iload hx hb dX6_seesAt_5 (lv_at hl 4 rfl) ?_
      refine lv_aload_n hx hb dX6_seesAt_7 rfl (lv_at hl 0 rfl) ?_
      refine mg_7 hx hb hts hown hK hP dX6_seesAt_8 ?_
      refine r_top (congrFun ((show Mw 7 = M 7 from h2 7 (by decide))) 0) ?_
      have b_2 := iM_7 (M := M) hI (0)
      refine r_icmp_ge (tgt := 54) hx hb dX6_seesAt_11 (by decide) (by omega) (by omega) (fun c_3 => ?_) (fun c_3 => ?_)
      · refine lv_iload_n hx hb dX6_seesAt_54 rfl (lv_at hl 3 rfl) ?_
        exact r_iretS hx hb hr hlk hQ Mw ⟨congrArg iv (seesAtV_of (fun hq => (by omega)) (fun hq => (by first | (have e := h4; rw [show i = M 7 0 by omega] at e; exact e) | (exfalso; omega)))), h2, hIMw⟩ (fun t ht _ => ⟨by rw [ht]; exact hP, hD⟩) hS dX6_seesAt_55
      refine lv_aload_n hx hb dX6_seesAt_14 rfl (lv_at hl 0 rfl) ?_
      refine mg_1 hx hb hts hown hK hP dX6_seesAt_15 ?_
      refine lv_iload_n hx hb dX6_seesAt_18 rfl (lv_at hl 1 rfl) ?_
      refine m_ald hx hb hK hP 1 (n := 16) rfl (by decide) (by omega) dX6_seesAt_19 ?_
      refine r_top (congrFun ((show Mw 1 = M 1 from h2 1 (by decide))) _) ?_
      have b_4 := iM_1 (M := M) hI (beat)
      refine r_if_le (tgt := 54) hx hb dX6_seesAt_20 (by decide) (by omega) (fun c_5 => ?_) (fun c_5 => ?_)
      · refine lv_iload_n hx hb dX6_seesAt_54 rfl (lv_at hl 3 rfl) ?_
        exact r_iretS hx hb hr hlk hQ Mw ⟨congrArg iv (seesAtV_of (fun hq => (by omega)) (fun hq => (by first | (have e := h4; rw [show i = M 7 0 by omega] at e; exact e) | (exfalso; omega)))), h2, hIMw⟩ (fun t ht _ => ⟨by rw [ht]; exact hP, hD⟩) hS dX6_seesAt_55
      refine lv_aload_n hx hb dX6_seesAt_23 rfl (lv_at hl 0 rfl) ?_
      refine lv_iload hx hb dX6_seesAt_24 (lv_at hl 4 rfl) ?_
      refine lv_iload_n hx hb dX6_seesAt_26 rfl (lv_at hl 1 rfl) ?_
      refine lv_iload_n hx hb dX6_seesAt_27 rfl (lv_at hl 2 rfl) ?_
      refine m_cV ⟨hx, hb, hml, hown, hts⟩ (m_oddsOf hIMw (watcher := i) (beat := beat) (k := k) (by omega) (by omega) (by omega)) (cwV 3 hts (lw_V q1247 q1249 qs41 q60 q1250) rfl rfl rfl hdV_X6_oddsOf ⟨Nat.le_of_ble_eq_true rfl, Nat.le_of_ble_eq_true rfl⟩) hK hP hD hS rfl hl.1 rfl (Nat.le_of_ble_eq_true rfl) ⟨Nat.le_of_ble_eq_true rfl, Nat.le_of_ble_eq_true rfl⟩ dX6_seesAt_28 (fun M_6 H locs hq hP hD hS => ?_)
      obtain ⟨aM_6, bM_6, xM_6, hIM_6⟩ := hq
      have f_8 := aboveV_r (RB_rv hIMw) (seat := pw Mw 0 i) (kind := pw Mw 1 i) (doubt := pw Mw 2 i) (beat := beat) (k := k) (VB_pw hIMw 0 i).1 (VB_pw hIMw 2 i) (by omega)
      have f_9 := belowV_r (RB_rv hIMw) (kind := pw Mw 1 i) (doubt := pw Mw 2 i) (beat := beat) (k := k) (VB_pw hIMw 2 i) (by omega)
      refine lv_iload_n hx hb dX6_seesAt_31 rfl (lv_at hl 3 rfl) ?_
      refine lv_aload_n hx hb dX6_seesAt_32 rfl (lv_at hl 0 rfl) ?_
      refine mg_14 hx hb hts hown hK hP dX6_seesAt_33 ?_
      refine r_topl (congrArg jv aM_6) ?_
      refine r_ldc2 hx hb (1000) (by decide) hown (hts _ q1264) dX6_seesAt_36 ?_
      refine r_lmul hx hb dX6_seesAt_39 ?_
      refine lv_aload_n hx hb dX6_seesAt_40 rfl (lv_at hl 0 rfl) ?_
      refine mg_15 hx hb hts hown hK hP dX6_seesAt_41 ?_
      refine r_topl (congrArg jv bM_6) ?_
      refine r_ldiv hx hb (by omega) (by omega) dX6_seesAt_44 ?_
      refine r_l2i hx hb dX6_seesAt_45 ?_
      refine r_iadd hx hb dX6_seesAt_46 ?_
      refine lv_istore_n (lv' := [(3, .int (iv (sum + (((aboveV (rv Mw) (pw Mw 0 i) (pw Mw 1 i) (pw Mw 2 i) beat k) * 1000) / (belowV (rv Mw) (pw Mw 1 i) (pw Mw 2 i) beat k))))), (0, .ref (B 0)), (1, .int (iv (beat))), (2, .int (iv (k))), (4, .int (iv (i)))]) hx hb dX6_seesAt_47 rfl hl (by decide) rfl (fun ls hl => ?_)
      refine lv_iinc (v := iv (i + 1)) (lv' := [(4, .int (iv (i + 1))), (3, .int (iv (sum + (((aboveV (rv Mw) (pw Mw 0 i) (pw Mw 1 i) (pw Mw 2 i) beat k) * 1000) / (belowV (rv Mw) (pw Mw 1 i) (pw Mw 2 i) beat k))))), (0, .ref (B 0)), (1, .int (iv (beat))), (2, .int (iv (k)))]) hx hb dX6_seesAt_48 hl (k := 4) rfl (iv_add _ _) (by decide) rfl (fun ls hl => ?_)
      refine lv_goto (tgt := 5) hx hb dX6_seesAt_51 (by decide) ?_
      exact ih_5 (sum + (((aboveV (rv Mw) (pw Mw 0 i) (pw Mw 1 i) (pw Mw 2 i) beat k) * 1000) / (belowV (rv Mw) (pw Mw 1 i) (pw Mw 2 i) beat k))) (i + 1) M_6 H locs (by omega) (by omega) (by omega) (h2.tr xM_6) (by omega) (by rw [seesV_s _ _ _ _ h0, h4, er, ep]; rfl) (by have hse := seeV_r (RB_rv hI) (VB_pw hI) (beat := beat) g_k i; unfold seeV at hse; rw [er, ep]; omega) hIM_6 hP hD hS ls (lv_sub hl [2, 3, 4, 1, 0] rfl)
  exact lp_5 (M 7 0 - 0 + 1 : Int).toNat 0 0 M s.heap [] (by omega) (by omega) (by omega) (eqx.rf _ _) (by omega) (seesV_0 _ _ _ _) (by omega) hI hP hD hS ls (lv_sub hl [2, 3, 4, 1, 0] rfl)
set_option maxHeartbeats 4000000 in
set_option maxRecDepth 100000 in
theorem m_seesAll {l : Launch} {D : va_G} {cI : ClassId} {B : Nat → Nat} {A : Nat → Prop} {M : St} (hI : InvM M) {k : Int} (g_k : 1 ≤ k ∧ k ≤ 9) : Met l yX6_seesAll (ws_ yX6_seesAll cX6_seesAll 4 (some .int)) (rmk 4 0 0) (va_Pc [.ref (B 0), .int (iv k)] (mUS D cI A (mW cI B M))) (va_Qi (fun r M1 => r = iv (seesAllV (rv M) (pw M) (M 7 0) k 16) ∧ eqx [14, 15] M M1 ∧ InvM M1) (mB D cI B A) A) 0 0 A := by
  refine r_met (by decide) _ rfl (Nat.le_of_ble_eq_true rfl) ?_
  intro p e s m args below meth c Q ls hx hb hr hlk hml hown hts hpre hQ hl
  obtain ⟨hP, hD, hK⟩ := hpre
  have hS : va_S A s.heap s.heap [] := va_S.rf
  have hown : s.vm.findClass RX6 = some m.cls := hown
  have hl : lv_has ls 4 [(0, .ref (B 0)), (1, .int (iv (k)))] := hl
  refine r_iconst hx hb dX6_seesAll_0 ?_
  refine lv_istore_n (lv' := [(2, .int (iv (0))), (0, .ref (B 0)), (1, .int (iv (k)))]) hx hb dX6_seesAll_1 rfl hl (by decide) rfl (fun ls hl => ?_)
  refine r_iconst hx hb dX6_seesAll_2 ?_
  refine lv_istore_n (lv' := [(3, .int (iv (0))), (2, .int (iv (0))), (0, .ref (B 0)), (1, .int (iv (k)))]) hx hb dX6_seesAll_3 rfl hl (by decide) rfl (fun ls hl => ?_)
  have lp_4 : ∀ (n_4 : Nat) (sum : Int) (b : Int) (Mw : St) (H : Heap) (locs : List Loc), 16 - b < (n_4 : Int) → (0 ≤ b) → (b ≤ 16) → (eqx [14, 15] M Mw) → (sum = seesAllV (rv M) (pw M) (M 7 0) k b) → InvM Mw → wP D vwCl (mW cI B Mw) H → wD A (mW cI B Mw) → va_S A s.heap H locs → ∀ (ls : Array Slot), lv_has ls 4 [(0, .ref (B 0)), (1, .int (iv (k))), (2, .int (iv (sum))), (3, .int (iv (b)))] → W p l e (rmk 4 0 0) s m args below meth c H locs 0 0 Q (F0 m 4 ls []) := by
    intro n_4
    induction n_4 with
    | zero =>
      intro sum b Mw H locs hn_4 h0 h1 h2 h3 hIMw hP hD hS ls hl
      exfalso
      omega
    | succ n_4 ih_4 =>
      intro sum b Mw H locs hn_4 h0 h1 h2 h3 hIMw hP hD hS ls hl
      have er : rv Mw = rv M := rv_eqx h2 (fun f h q => by simp only [List.mem_cons, List.not_mem_nil, or_false] at q; omega)
      have ep : pw Mw = pw M := pw_x (h2 8 (by decide))
      have e7 : Mw 7 0 = M 7 0 := congrFun (h2 7 (by decide)) 0
      have b7 := iM_7 hI 0
      refine lv_iload_n hx hb dX6_seesAll_4 rfl (lv_at hl 3 rfl) ?_
      refine r_bipush hx hb (by decide) dX6_seesAll_5 ?_
      refine r_icmp_ge (tgt := 25) hx hb dX6_seesAll_7 (by decide) (by omega) (by omega) (fun c_1 => ?_) (fun c_1 => ?_)
      · refine lv_iload_n hx hb dX6_seesAll_25 rfl (lv_at hl 2 rfl) ?_
        exact r_iretS hx hb hr hlk hQ Mw ⟨congrArg iv (by have e := h3; rw [show b = 16 by omega] at e; exact e), h2, hIMw⟩ (fun t ht _ => ⟨by rw [ht]; exact hP, hD⟩) hS dX6_seesAll_26
      refine lv_iload_n hx hb dX6_seesAll_10 rfl (lv_at hl 2 rfl) ?_
      refine lv_aload_n hx hb dX6_seesAll_11 rfl (lv_at hl 0 rfl) ?_
      refine lv_iload_n hx hb dX6_seesAll_12 rfl (lv_at hl 3 rfl) ?_
      refine lv_iload_n hx hb dX6_seesAll_13 rfl (lv_at hl 1 rfl) ?_
      refine m_cI ⟨hx, hb, hml, hown, hts⟩ (m_seesAt hIMw (beat := b) (k := k) (by omega) (by omega)) (cwV 2 hts (lw_V q1260 q1262 qs43 q60 q1263) rfl rfl rfl hdV_X6_seesAt ⟨Nat.le_of_ble_eq_true rfl, Nat.le_of_ble_eq_true rfl⟩) hK hP hD hS rfl hl.1 rfl (Nat.le_of_ble_eq_true rfl) ⟨Nat.le_of_ble_eq_true rfl, Nat.le_of_ble_eq_true rfl⟩ dX6_seesAll_14 (fun r_3 M_2 H locs hq hP hD hS => ?_)
      obtain ⟨er_3, xM_2, hIM_2⟩ := hq
      subst er_3
      have f_4 := seesAtV_r (RB_rv hIMw) (VB_pw hIMw) (beat := b) (k := k) (n := Mw 7 0) (by omega) (iM_7 hIMw 0)
      refine r_iadd hx hb dX6_seesAll_17 ?_
      refine lv_istore_n (lv' := [(2, .int (iv (sum + (seesAtV (rv Mw) (pw Mw) (Mw 7 0) b k)))), (0, .ref (B 0)), (1, .int (iv (k))), (3, .int (iv (b)))]) hx hb dX6_seesAll_18 rfl hl (by decide) rfl (fun ls hl => ?_)
      refine lv_iinc (v := iv (b + 1)) (lv' := [(3, .int (iv (b + 1))), (2, .int (iv (sum + (seesAtV (rv Mw) (pw Mw) (Mw 7 0) b k)))), (0, .ref (B 0)), (1, .int (iv (k)))]) hx hb dX6_seesAll_19 hl (k := 3) rfl (iv_add _ _) (by decide) rfl (fun ls hl => ?_)
      refine lv_goto (tgt := 4) hx hb dX6_seesAll_22 (by decide) ?_
      exact ih_4 (sum + (seesAtV (rv Mw) (pw Mw) (Mw 7 0) b k)) (b + 1) M_2 H locs (by omega) (by omega) (by omega) (h2.tr xM_2) (by rw [seesAllV_s _ _ _ _ h0, h3, er, ep, e7]) hIM_2 hP hD hS ls (lv_sub hl [2, 3, 1, 0] rfl)
  exact lp_4 (16 - 0 + 1 : Int).toNat 0 0 M s.heap [] (by omega) (by omega) (by omega) (eqx.rf _ _) (seesAllV_0 _ _ _ _) hI hP hD hS ls (lv_sub hl [2, 3, 1, 0] rfl)
set_option maxHeartbeats 4000000 in
set_option maxRecDepth 100000 in
theorem m_sees {l : Launch} {D : va_G} {cI : ClassId} {B : Nat → Nat} {A : Nat → Prop} {M : St} (hI : InvM M) {beat : Int} {k : Int} (g_beat : -2147483648 ≤ beat ∧ beat ≤ 2147483647) (g_k : -2147483648 ≤ k ∧ k ≤ 2147483647) : Met l yX6_sees (ws_ yX6_sees cX6_sees 3 (some .int)) (rmk 5 0 0) (va_Pc [.ref (B 0), .int (iv beat), .int (iv k)] (mUS D cI A (mW cI B M))) (va_Qi (fun r M1 => r = iv (opSees (rv M) (pw M) (M 7 0) beat k) ∧ eqx [14, 15] M M1 ∧ InvM M1) (mB D cI B A) A) 0 0 A := by
  refine r_met (by decide) _ rfl (Nat.le_of_ble_eq_true rfl) ?_
  intro p e s m args below meth c Q ls hx hb hr hlk hml hown hts hpre hQ hl
  obtain ⟨hP, hD, hK⟩ := hpre
  have hS : va_S A s.heap s.heap [] := va_S.rf
  have hown : s.vm.findClass RX6 = some m.cls := hown
  have hl : lv_has ls 3 [(0, .ref (B 0)), (1, .int (iv (beat))), (2, .int (iv (k)))] := hl
  have erb : rv M 1 beat = M 1 beat := rfl
  refine lv_iload_n hx hb dX6_sees_0 rfl (lv_at hl 1 rfl) ?_
  refine r_i2l hx hb (by omega) dX6_sees_1 ?_
  refine r_ldc2 hx hb (-1) (by decide) hown (hts _ q1124) dX6_sees_2 ?_
  refine r_ldc2 hx hb (15) (by decide) hown (hts _ q1110) dX6_sees_5 ?_
  refine s_cR ⟨hx, hb, hml, hown, hts⟩ (m_in (v := beat) (low := -1) (high := 15) (by omega) (by decide) (by decide)) (va_cwS 3 hts (lw_S q1111 q1112 q60 q1113) rfl rfl rfl hdS_X6_in ⟨Nat.le_of_ble_eq_true rfl, Nat.le_of_ble_eq_true rfl⟩) rfl hl.1 rfl (Nat.le_of_ble_eq_true rfl) ⟨Nat.le_of_ble_eq_true rfl, Nat.le_of_ble_eq_true rfl⟩ dX6_sees_8 ?_
  refine r_ifz_eq (tgt := 26) hx hb dX6_sees_11 (by decide) (fun c_1 => ?_) (fun c_1 => ?_)
  · refine r_iconst hx hb dX6_sees_26 ?_
    exact r_iretS hx hb hr hlk hQ M ⟨congrArg iv (by subst_vars; first | (refine Eq.trans ?_ ((if_neg (by first | assumption | omega))).symm; first | rfl | omega) | (refine Eq.trans ?_ ((if_pos (by first | assumption | omega))).symm; first | rfl | omega) | (refine Eq.trans ?_ (((if_neg (by first | assumption | omega))).trans (if_neg (by first | assumption | omega))).symm; first | rfl | omega) | (refine Eq.trans ?_ (((if_neg (by first | assumption | omega))).trans (if_pos (by first | assumption | omega))).symm; first | rfl | omega) | (refine Eq.trans ?_ (((if_pos (by first | assumption | omega))).trans (if_neg (by first | assumption | omega))).symm; first | rfl | omega) | (refine Eq.trans ?_ (((if_pos (by first | assumption | omega))).trans (if_pos (by first | assumption | omega))).symm; first | rfl | omega) | (refine Eq.trans ?_ ((((if_neg (by first | assumption | omega))).trans (if_neg (by first | assumption | omega))).trans (if_neg (by first | assumption | omega))).symm; first | rfl | omega) | (refine Eq.trans ?_ ((((if_neg (by first | assumption | omega))).trans (if_neg (by first | assumption | omega))).trans (if_pos (by first | assumption | omega))).symm; first | rfl | omega) | (refine Eq.trans ?_ ((((if_neg (by first | assumption | omega))).trans (if_pos (by first | assumption | omega))).trans (if_neg (by first | assumption | omega))).symm; first | rfl | omega) | (refine Eq.trans ?_ ((((if_neg (by first | assumption | omega))).trans (if_pos (by first | assumption | omega))).trans (if_pos (by first | assumption | omega))).symm; first | rfl | omega) | (refine Eq.trans ?_ ((((if_pos (by first | assumption | omega))).trans (if_neg (by first | assumption | omega))).trans (if_neg (by first | assumption | omega))).symm; first | rfl | omega) | (refine Eq.trans ?_ ((((if_pos (by first | assumption | omega))).trans (if_neg (by first | assumption | omega))).trans (if_pos (by first | assumption | omega))).symm; first | rfl | omega) | (refine Eq.trans ?_ ((((if_pos (by first | assumption | omega))).trans (if_pos (by first | assumption | omega))).trans (if_neg (by first | assumption | omega))).symm; first | rfl | omega) | (refine Eq.trans ?_ ((((if_pos (by first | assumption | omega))).trans (if_pos (by first | assumption | omega))).trans (if_pos (by first | assumption | omega))).symm; first | rfl | omega)), eqx.rf _ _, hI⟩ (fun t ht _ => ⟨by rw [ht]; exact hP, hD⟩) hS dX6_sees_27
  refine lv_iload_n hx hb dX6_sees_14 rfl (lv_at hl 2 rfl) ?_
  refine r_i2l hx hb (by omega) dX6_sees_15 ?_
  refine r_lconst hx hb 1 (by decide) dX6_sees_16 ?_
  refine r_ldc2 hx hb (9) (by decide) hown (hts _ q1118) dX6_sees_17 ?_
  refine s_cR ⟨hx, hb, hml, hown, hts⟩ (m_in (v := k) (low := 1) (high := 9) (by omega) (by decide) (by decide)) (va_cwS 3 hts (lw_S q1111 q1112 q60 q1113) rfl rfl rfl hdS_X6_in ⟨Nat.le_of_ble_eq_true rfl, Nat.le_of_ble_eq_true rfl⟩) rfl hl.1 rfl (Nat.le_of_ble_eq_true rfl) ⟨Nat.le_of_ble_eq_true rfl, Nat.le_of_ble_eq_true rfl⟩ dX6_sees_20 ?_
  refine r_ifz_ne (tgt := 28) hx hb dX6_sees_23 (by decide) (fun c_2 => ?_) (fun c_2 => ?_)
  rotate_left
  · refine r_iconst hx hb dX6_sees_26 ?_
    exact r_iretS hx hb hr hlk hQ M ⟨congrArg iv (by subst_vars; first | (refine Eq.trans ?_ ((if_neg (by first | assumption | omega))).symm; first | rfl | omega) | (refine Eq.trans ?_ ((if_pos (by first | assumption | omega))).symm; first | rfl | omega) | (refine Eq.trans ?_ (((if_neg (by first | assumption | omega))).trans (if_neg (by first | assumption | omega))).symm; first | rfl | omega) | (refine Eq.trans ?_ (((if_neg (by first | assumption | omega))).trans (if_pos (by first | assumption | omega))).symm; first | rfl | omega) | (refine Eq.trans ?_ (((if_pos (by first | assumption | omega))).trans (if_neg (by first | assumption | omega))).symm; first | rfl | omega) | (refine Eq.trans ?_ (((if_pos (by first | assumption | omega))).trans (if_pos (by first | assumption | omega))).symm; first | rfl | omega) | (refine Eq.trans ?_ ((((if_neg (by first | assumption | omega))).trans (if_neg (by first | assumption | omega))).trans (if_neg (by first | assumption | omega))).symm; first | rfl | omega) | (refine Eq.trans ?_ ((((if_neg (by first | assumption | omega))).trans (if_neg (by first | assumption | omega))).trans (if_pos (by first | assumption | omega))).symm; first | rfl | omega) | (refine Eq.trans ?_ ((((if_neg (by first | assumption | omega))).trans (if_pos (by first | assumption | omega))).trans (if_neg (by first | assumption | omega))).symm; first | rfl | omega) | (refine Eq.trans ?_ ((((if_neg (by first | assumption | omega))).trans (if_pos (by first | assumption | omega))).trans (if_pos (by first | assumption | omega))).symm; first | rfl | omega) | (refine Eq.trans ?_ ((((if_pos (by first | assumption | omega))).trans (if_neg (by first | assumption | omega))).trans (if_neg (by first | assumption | omega))).symm; first | rfl | omega) | (refine Eq.trans ?_ ((((if_pos (by first | assumption | omega))).trans (if_neg (by first | assumption | omega))).trans (if_pos (by first | assumption | omega))).symm; first | rfl | omega) | (refine Eq.trans ?_ ((((if_pos (by first | assumption | omega))).trans (if_pos (by first | assumption | omega))).trans (if_neg (by first | assumption | omega))).symm; first | rfl | omega) | (refine Eq.trans ?_ ((((if_pos (by first | assumption | omega))).trans (if_pos (by first | assumption | omega))).trans (if_pos (by first | assumption | omega))).symm; first | rfl | omega)), eqx.rf _ _, hI⟩ (fun t ht _ => ⟨by rw [ht]; exact hP, hD⟩) hS dX6_sees_27
  refine lv_iload_n hx hb dX6_sees_28 rfl (lv_at hl 1 rfl) ?_
  refine r_if_ge (tgt := 40) hx hb dX6_sees_29 (by decide) (by omega) (fun c_3 => ?_) (fun c_3 => ?_)
  rotate_left
  · refine lv_aload_n hx hb dX6_sees_32 rfl (lv_at hl 0 rfl) ?_
    refine lv_iload_n hx hb dX6_sees_33 rfl (lv_at hl 2 rfl) ?_
    refine m_cI ⟨hx, hb, hml, hown, hts⟩ (m_seesAll hI (k := k) (by omega)) (cwV 1 hts (lw_V q1256 q1258 qs42 q60 q1259) rfl rfl rfl hdV_X6_seesAll ⟨Nat.le_of_ble_eq_true rfl, Nat.le_of_ble_eq_true rfl⟩) hK hP hD hS rfl hl.1 rfl (Nat.le_of_ble_eq_true rfl) ⟨Nat.le_of_ble_eq_true rfl, Nat.le_of_ble_eq_true rfl⟩ dX6_sees_34 (fun r_10 M_9 H locs hq hP hD hS => ?_)
    obtain ⟨er_10, xM_9, hIM_9⟩ := hq
    subst er_10
    have f_11 := seesAllV_r (RB_rv hI) (VB_pw hI) (k := k) (n := M 7 0) (b := 16) (by omega) (iM_7 hI 0) (by decide)
    refine lv_goto (tgt := 60) hx hb dX6_sees_37 (by decide) ?_
    exact r_iretS hx hb hr hlk hQ M_9 ⟨congrArg iv (by subst_vars; first | (refine Eq.trans ?_ ((if_neg (by first | assumption | omega))).symm; first | rfl | omega) | (refine Eq.trans ?_ ((if_pos (by first | assumption | omega))).symm; first | rfl | omega) | (refine Eq.trans ?_ (((if_neg (by first | assumption | omega))).trans (if_neg (by first | assumption | omega))).symm; first | rfl | omega) | (refine Eq.trans ?_ (((if_neg (by first | assumption | omega))).trans (if_pos (by first | assumption | omega))).symm; first | rfl | omega) | (refine Eq.trans ?_ (((if_pos (by first | assumption | omega))).trans (if_neg (by first | assumption | omega))).symm; first | rfl | omega) | (refine Eq.trans ?_ (((if_pos (by first | assumption | omega))).trans (if_pos (by first | assumption | omega))).symm; first | rfl | omega) | (refine Eq.trans ?_ ((((if_neg (by first | assumption | omega))).trans (if_neg (by first | assumption | omega))).trans (if_neg (by first | assumption | omega))).symm; first | rfl | omega) | (refine Eq.trans ?_ ((((if_neg (by first | assumption | omega))).trans (if_neg (by first | assumption | omega))).trans (if_pos (by first | assumption | omega))).symm; first | rfl | omega) | (refine Eq.trans ?_ ((((if_neg (by first | assumption | omega))).trans (if_pos (by first | assumption | omega))).trans (if_neg (by first | assumption | omega))).symm; first | rfl | omega) | (refine Eq.trans ?_ ((((if_neg (by first | assumption | omega))).trans (if_pos (by first | assumption | omega))).trans (if_pos (by first | assumption | omega))).symm; first | rfl | omega) | (refine Eq.trans ?_ ((((if_pos (by first | assumption | omega))).trans (if_neg (by first | assumption | omega))).trans (if_neg (by first | assumption | omega))).symm; first | rfl | omega) | (refine Eq.trans ?_ ((((if_pos (by first | assumption | omega))).trans (if_neg (by first | assumption | omega))).trans (if_pos (by first | assumption | omega))).symm; first | rfl | omega) | (refine Eq.trans ?_ ((((if_pos (by first | assumption | omega))).trans (if_pos (by first | assumption | omega))).trans (if_neg (by first | assumption | omega))).symm; first | rfl | omega) | (refine Eq.trans ?_ ((((if_pos (by first | assumption | omega))).trans (if_pos (by first | assumption | omega))).trans (if_pos (by first | assumption | omega))).symm; first | rfl | omega)), xM_9, hIM_9⟩ (fun t ht _ => ⟨by rw [ht]; exact hP, hD⟩) hS dX6_sees_60
  refine lv_aload_n hx hb dX6_sees_40 rfl (lv_at hl 0 rfl) ?_
  refine mg_1 hx hb hts hown hK hP dX6_sees_41 ?_
  refine lv_iload_n hx hb dX6_sees_44 rfl (lv_at hl 1 rfl) ?_
  refine m_ald hx hb hK hP 1 (n := 16) rfl (by decide) (by omega) dX6_sees_45 ?_
  have b_4 := iM_1 (M := M) hI (beat)
  refine r_if_ne (tgt := 54) hx hb dX6_sees_46 (by decide) (by omega) (fun c_5 => ?_) (fun c_5 => ?_)
  rotate_left
  · refine r_bipush hx hb (by decide) dX6_sees_49 ?_
    refine lv_goto (tgt := 60) hx hb dX6_sees_51 (by decide) ?_
    exact r_iretS hx hb hr hlk hQ M ⟨congrArg iv (by subst_vars; first | (refine Eq.trans ?_ ((if_neg (by first | assumption | omega))).symm; first | rfl | omega) | (refine Eq.trans ?_ ((if_pos (by first | assumption | omega))).symm; first | rfl | omega) | (refine Eq.trans ?_ (((if_neg (by first | assumption | omega))).trans (if_neg (by first | assumption | omega))).symm; first | rfl | omega) | (refine Eq.trans ?_ (((if_neg (by first | assumption | omega))).trans (if_pos (by first | assumption | omega))).symm; first | rfl | omega) | (refine Eq.trans ?_ (((if_pos (by first | assumption | omega))).trans (if_neg (by first | assumption | omega))).symm; first | rfl | omega) | (refine Eq.trans ?_ (((if_pos (by first | assumption | omega))).trans (if_pos (by first | assumption | omega))).symm; first | rfl | omega) | (refine Eq.trans ?_ ((((if_neg (by first | assumption | omega))).trans (if_neg (by first | assumption | omega))).trans (if_neg (by first | assumption | omega))).symm; first | rfl | omega) | (refine Eq.trans ?_ ((((if_neg (by first | assumption | omega))).trans (if_neg (by first | assumption | omega))).trans (if_pos (by first | assumption | omega))).symm; first | rfl | omega) | (refine Eq.trans ?_ ((((if_neg (by first | assumption | omega))).trans (if_pos (by first | assumption | omega))).trans (if_neg (by first | assumption | omega))).symm; first | rfl | omega) | (refine Eq.trans ?_ ((((if_neg (by first | assumption | omega))).trans (if_pos (by first | assumption | omega))).trans (if_pos (by first | assumption | omega))).symm; first | rfl | omega) | (refine Eq.trans ?_ ((((if_pos (by first | assumption | omega))).trans (if_neg (by first | assumption | omega))).trans (if_neg (by first | assumption | omega))).symm; first | rfl | omega) | (refine Eq.trans ?_ ((((if_pos (by first | assumption | omega))).trans (if_neg (by first | assumption | omega))).trans (if_pos (by first | assumption | omega))).symm; first | rfl | omega) | (refine Eq.trans ?_ ((((if_pos (by first | assumption | omega))).trans (if_pos (by first | assumption | omega))).trans (if_neg (by first | assumption | omega))).symm; first | rfl | omega) | (refine Eq.trans ?_ ((((if_pos (by first | assumption | omega))).trans (if_pos (by first | assumption | omega))).trans (if_pos (by first | assumption | omega))).symm; first | rfl | omega)), eqx.rf _ _, hI⟩ (fun t ht _ => ⟨by rw [ht]; exact hP, hD⟩) hS dX6_sees_60
  refine lv_aload_n hx hb dX6_sees_54 rfl (lv_at hl 0 rfl) ?_
  refine lv_iload_n hx hb dX6_sees_55 rfl (lv_at hl 1 rfl) ?_
  refine lv_iload_n hx hb dX6_sees_56 rfl (lv_at hl 2 rfl) ?_
  refine m_cI ⟨hx, hb, hml, hown, hts⟩ (m_seesAt hI (beat := beat) (k := k) (by omega) (by omega)) (cwV 2 hts (lw_V q1260 q1262 qs43 q60 q1263) rfl rfl rfl hdV_X6_seesAt ⟨Nat.le_of_ble_eq_true rfl, Nat.le_of_ble_eq_true rfl⟩) hK hP hD hS rfl hl.1 rfl (Nat.le_of_ble_eq_true rfl) ⟨Nat.le_of_ble_eq_true rfl, Nat.le_of_ble_eq_true rfl⟩ dX6_sees_57 (fun r_7 M_6 H locs hq hP hD hS => ?_)
  obtain ⟨er_7, xM_6, hIM_6⟩ := hq
  subst er_7
  have f_8 := seesAtV_r (RB_rv hI) (VB_pw hI) (beat := beat) (k := k) (n := M 7 0) (by omega) (iM_7 hI 0)
  exact r_iretS hx hb hr hlk hQ M_6 ⟨congrArg iv (by subst_vars; first | (refine Eq.trans ?_ ((if_neg (by first | assumption | omega))).symm; first | rfl | omega) | (refine Eq.trans ?_ ((if_pos (by first | assumption | omega))).symm; first | rfl | omega) | (refine Eq.trans ?_ (((if_neg (by first | assumption | omega))).trans (if_neg (by first | assumption | omega))).symm; first | rfl | omega) | (refine Eq.trans ?_ (((if_neg (by first | assumption | omega))).trans (if_pos (by first | assumption | omega))).symm; first | rfl | omega) | (refine Eq.trans ?_ (((if_pos (by first | assumption | omega))).trans (if_neg (by first | assumption | omega))).symm; first | rfl | omega) | (refine Eq.trans ?_ (((if_pos (by first | assumption | omega))).trans (if_pos (by first | assumption | omega))).symm; first | rfl | omega) | (refine Eq.trans ?_ ((((if_neg (by first | assumption | omega))).trans (if_neg (by first | assumption | omega))).trans (if_neg (by first | assumption | omega))).symm; first | rfl | omega) | (refine Eq.trans ?_ ((((if_neg (by first | assumption | omega))).trans (if_neg (by first | assumption | omega))).trans (if_pos (by first | assumption | omega))).symm; first | rfl | omega) | (refine Eq.trans ?_ ((((if_neg (by first | assumption | omega))).trans (if_pos (by first | assumption | omega))).trans (if_neg (by first | assumption | omega))).symm; first | rfl | omega) | (refine Eq.trans ?_ ((((if_neg (by first | assumption | omega))).trans (if_pos (by first | assumption | omega))).trans (if_pos (by first | assumption | omega))).symm; first | rfl | omega) | (refine Eq.trans ?_ ((((if_pos (by first | assumption | omega))).trans (if_neg (by first | assumption | omega))).trans (if_neg (by first | assumption | omega))).symm; first | rfl | omega) | (refine Eq.trans ?_ ((((if_pos (by first | assumption | omega))).trans (if_neg (by first | assumption | omega))).trans (if_pos (by first | assumption | omega))).symm; first | rfl | omega) | (refine Eq.trans ?_ ((((if_pos (by first | assumption | omega))).trans (if_pos (by first | assumption | omega))).trans (if_neg (by first | assumption | omega))).symm; first | rfl | omega) | (refine Eq.trans ?_ ((((if_pos (by first | assumption | omega))).trans (if_pos (by first | assumption | omega))).trans (if_pos (by first | assumption | omega))).symm; first | rfl | omega)), xM_6, hIM_6⟩ (fun t ht _ => ⟨by rw [ht]; exact hP, hD⟩) hS dX6_sees_60
set_option maxHeartbeats 4000000 in
set_option maxRecDepth 100000 in
theorem m_odds {l : Launch} {D : va_G} {cI : ClassId} {B : Nat → Nat} {A : Nat → Prop} {M : St} (hI : InvM M) {watcher : Int} {beat : Int} {k : Int} {part : Int} (g_watcher : -2147483648 ≤ watcher ∧ watcher ≤ 2147483647) (g_beat : -2147483648 ≤ beat ∧ beat ≤ 2147483647) (g_k : -2147483648 ≤ k ∧ k ≤ 2147483647) (g_part : -2147483648 ≤ part ∧ part ≤ 2147483647) : Met l yX6_odds (ws_ yX6_odds cX6_odds 11 (some .int)) (rmk 4 0 0) (va_Pc [.ref (B 0), .int (iv watcher), .int (iv beat), .int (iv k), .int (iv part)] (mUS D cI A (mW cI B M))) (va_Qi (fun r M1 => r = iv (opOdds (rv M) (pw M) (M 7 0) watcher beat k part) ∧ eqx [14, 15] M M1 ∧ InvM M1) (mB D cI B A) A) 0 0 A := by
  refine r_met (by decide) _ rfl (Nat.le_of_ble_eq_true rfl) ?_
  intro p e s m args below meth c Q ls hx hb hr hlk hml hown hts hpre hQ hl
  obtain ⟨hP, hD, hK⟩ := hpre
  have hS : va_S A s.heap s.heap [] := va_S.rf
  have hown : s.vm.findClass RX6 = some m.cls := hown
  have hl : lv_has ls 11 [(0, .ref (B 0)), (1, .int (iv (watcher))), (2, .int (iv (beat))), (3, .int (iv (k))), (4, .int (iv (part)))] := hl
  have erb : rv M 1 beat = M 1 beat := rfl
  refine lv_aload_n hx hb dX6_odds_0 rfl (lv_at hl 0 rfl) ?_
  refine lv_iload_n hx hb dX6_odds_1 rfl (lv_at hl 1 rfl) ?_
  refine m_cR ⟨hx, hb, hml, hown, hts⟩ (m_isOne hI (w := watcher) (by omega)) (cwV 1 hts (lw_V q1152 q1154 qs29 q60 q1155) rfl rfl rfl hdV_X6_isOne ⟨Nat.le_of_ble_eq_true rfl, Nat.le_of_ble_eq_true rfl⟩) hK hP rfl hl.1 rfl (Nat.le_of_ble_eq_true rfl) ⟨Nat.le_of_ble_eq_true rfl, Nat.le_of_ble_eq_true rfl⟩ dX6_odds_2 ?_
  have f_1 := iM_7 hI 0
  refine r_ifz_eq (tgt := 38) hx hb dX6_odds_5 (by decide) (fun c_2 => ?_) (fun c_2 => ?_)
  · refine r_iconst hx hb dX6_odds_38 ?_
    exact r_iretS hx hb hr hlk hQ M ⟨congrArg iv (by subst_vars; first | (refine Eq.trans ?_ ((if_neg (by first | assumption | omega))).symm; first | rfl | omega) | (refine Eq.trans ?_ ((if_pos (by first | assumption | omega))).symm; first | rfl | omega) | (refine Eq.trans ?_ (((if_neg (by first | assumption | omega))).trans (if_neg (by first | assumption | omega))).symm; first | rfl | omega) | (refine Eq.trans ?_ (((if_neg (by first | assumption | omega))).trans (if_pos (by first | assumption | omega))).symm; first | rfl | omega) | (refine Eq.trans ?_ (((if_pos (by first | assumption | omega))).trans (if_neg (by first | assumption | omega))).symm; first | rfl | omega) | (refine Eq.trans ?_ (((if_pos (by first | assumption | omega))).trans (if_pos (by first | assumption | omega))).symm; first | rfl | omega) | (refine Eq.trans ?_ ((((if_neg (by first | assumption | omega))).trans (if_neg (by first | assumption | omega))).trans (if_neg (by first | assumption | omega))).symm; first | rfl | omega) | (refine Eq.trans ?_ ((((if_neg (by first | assumption | omega))).trans (if_neg (by first | assumption | omega))).trans (if_pos (by first | assumption | omega))).symm; first | rfl | omega) | (refine Eq.trans ?_ ((((if_neg (by first | assumption | omega))).trans (if_pos (by first | assumption | omega))).trans (if_neg (by first | assumption | omega))).symm; first | rfl | omega) | (refine Eq.trans ?_ ((((if_neg (by first | assumption | omega))).trans (if_pos (by first | assumption | omega))).trans (if_pos (by first | assumption | omega))).symm; first | rfl | omega) | (refine Eq.trans ?_ ((((if_pos (by first | assumption | omega))).trans (if_neg (by first | assumption | omega))).trans (if_neg (by first | assumption | omega))).symm; first | rfl | omega) | (refine Eq.trans ?_ ((((if_pos (by first | assumption | omega))).trans (if_neg (by first | assumption | omega))).trans (if_pos (by first | assumption | omega))).symm; first | rfl | omega) | (refine Eq.trans ?_ ((((if_pos (by first | assumption | omega))).trans (if_pos (by first | assumption | omega))).trans (if_neg (by first | assumption | omega))).symm; first | rfl | omega) | (refine Eq.trans ?_ ((((if_pos (by first | assumption | omega))).trans (if_pos (by first | assumption | omega))).trans (if_pos (by first | assumption | omega))).symm; first | rfl | omega)), eqx.rf _ _, hI⟩ (fun t ht _ => ⟨by rw [ht]; exact hP, hD⟩) hS dX6_odds_39
  refine lv_iload_n hx hb dX6_odds_8 rfl (lv_at hl 2 rfl) ?_
  refine s_cR ⟨hx, hb, hml, hown, hts⟩ (m_isBeat (b := beat) (by omega)) (va_cwS 1 hts (lw_S q1107 q1108 q60 q1109) rfl rfl rfl hdS_X6_isBeat ⟨Nat.le_of_ble_eq_true rfl, Nat.le_of_ble_eq_true rfl⟩) rfl hl.1 rfl (Nat.le_of_ble_eq_true rfl) ⟨Nat.le_of_ble_eq_true rfl, Nat.le_of_ble_eq_true rfl⟩ dX6_odds_9 ?_
  refine r_ifz_eq (tgt := 38) hx hb dX6_odds_12 (by decide) (fun c_3 => ?_) (fun c_3 => ?_)
  · refine r_iconst hx hb dX6_odds_38 ?_
    exact r_iretS hx hb hr hlk hQ M ⟨congrArg iv (by subst_vars; first | (refine Eq.trans ?_ ((if_neg (by first | assumption | omega))).symm; first | rfl | omega) | (refine Eq.trans ?_ ((if_pos (by first | assumption | omega))).symm; first | rfl | omega) | (refine Eq.trans ?_ (((if_neg (by first | assumption | omega))).trans (if_neg (by first | assumption | omega))).symm; first | rfl | omega) | (refine Eq.trans ?_ (((if_neg (by first | assumption | omega))).trans (if_pos (by first | assumption | omega))).symm; first | rfl | omega) | (refine Eq.trans ?_ (((if_pos (by first | assumption | omega))).trans (if_neg (by first | assumption | omega))).symm; first | rfl | omega) | (refine Eq.trans ?_ (((if_pos (by first | assumption | omega))).trans (if_pos (by first | assumption | omega))).symm; first | rfl | omega) | (refine Eq.trans ?_ ((((if_neg (by first | assumption | omega))).trans (if_neg (by first | assumption | omega))).trans (if_neg (by first | assumption | omega))).symm; first | rfl | omega) | (refine Eq.trans ?_ ((((if_neg (by first | assumption | omega))).trans (if_neg (by first | assumption | omega))).trans (if_pos (by first | assumption | omega))).symm; first | rfl | omega) | (refine Eq.trans ?_ ((((if_neg (by first | assumption | omega))).trans (if_pos (by first | assumption | omega))).trans (if_neg (by first | assumption | omega))).symm; first | rfl | omega) | (refine Eq.trans ?_ ((((if_neg (by first | assumption | omega))).trans (if_pos (by first | assumption | omega))).trans (if_pos (by first | assumption | omega))).symm; first | rfl | omega) | (refine Eq.trans ?_ ((((if_pos (by first | assumption | omega))).trans (if_neg (by first | assumption | omega))).trans (if_neg (by first | assumption | omega))).symm; first | rfl | omega) | (refine Eq.trans ?_ ((((if_pos (by first | assumption | omega))).trans (if_neg (by first | assumption | omega))).trans (if_pos (by first | assumption | omega))).symm; first | rfl | omega) | (refine Eq.trans ?_ ((((if_pos (by first | assumption | omega))).trans (if_pos (by first | assumption | omega))).trans (if_neg (by first | assumption | omega))).symm; first | rfl | omega) | (refine Eq.trans ?_ ((((if_pos (by first | assumption | omega))).trans (if_pos (by first | assumption | omega))).trans (if_pos (by first | assumption | omega))).symm; first | rfl | omega)), eqx.rf _ _, hI⟩ (fun t ht _ => ⟨by rw [ht]; exact hP, hD⟩) hS dX6_odds_39
  refine lv_iload_n hx hb dX6_odds_15 rfl (lv_at hl 3 rfl) ?_
  refine r_i2l hx hb (by omega) dX6_odds_16 ?_
  refine r_lconst hx hb 1 (by decide) dX6_odds_17 ?_
  refine r_ldc2 hx hb (9) (by decide) hown (hts _ q1118) dX6_odds_18 ?_
  refine s_cR ⟨hx, hb, hml, hown, hts⟩ (m_in (v := k) (low := 1) (high := 9) (by omega) (by decide) (by decide)) (va_cwS 3 hts (lw_S q1111 q1112 q60 q1113) rfl rfl rfl hdS_X6_in ⟨Nat.le_of_ble_eq_true rfl, Nat.le_of_ble_eq_true rfl⟩) rfl hl.1 rfl (Nat.le_of_ble_eq_true rfl) ⟨Nat.le_of_ble_eq_true rfl, Nat.le_of_ble_eq_true rfl⟩ dX6_odds_21 ?_
  refine r_ifz_eq (tgt := 38) hx hb dX6_odds_24 (by decide) (fun c_4 => ?_) (fun c_4 => ?_)
  · refine r_iconst hx hb dX6_odds_38 ?_
    exact r_iretS hx hb hr hlk hQ M ⟨congrArg iv (by subst_vars; first | (refine Eq.trans ?_ ((if_neg (by first | assumption | omega))).symm; first | rfl | omega) | (refine Eq.trans ?_ ((if_pos (by first | assumption | omega))).symm; first | rfl | omega) | (refine Eq.trans ?_ (((if_neg (by first | assumption | omega))).trans (if_neg (by first | assumption | omega))).symm; first | rfl | omega) | (refine Eq.trans ?_ (((if_neg (by first | assumption | omega))).trans (if_pos (by first | assumption | omega))).symm; first | rfl | omega) | (refine Eq.trans ?_ (((if_pos (by first | assumption | omega))).trans (if_neg (by first | assumption | omega))).symm; first | rfl | omega) | (refine Eq.trans ?_ (((if_pos (by first | assumption | omega))).trans (if_pos (by first | assumption | omega))).symm; first | rfl | omega) | (refine Eq.trans ?_ ((((if_neg (by first | assumption | omega))).trans (if_neg (by first | assumption | omega))).trans (if_neg (by first | assumption | omega))).symm; first | rfl | omega) | (refine Eq.trans ?_ ((((if_neg (by first | assumption | omega))).trans (if_neg (by first | assumption | omega))).trans (if_pos (by first | assumption | omega))).symm; first | rfl | omega) | (refine Eq.trans ?_ ((((if_neg (by first | assumption | omega))).trans (if_pos (by first | assumption | omega))).trans (if_neg (by first | assumption | omega))).symm; first | rfl | omega) | (refine Eq.trans ?_ ((((if_neg (by first | assumption | omega))).trans (if_pos (by first | assumption | omega))).trans (if_pos (by first | assumption | omega))).symm; first | rfl | omega) | (refine Eq.trans ?_ ((((if_pos (by first | assumption | omega))).trans (if_neg (by first | assumption | omega))).trans (if_neg (by first | assumption | omega))).symm; first | rfl | omega) | (refine Eq.trans ?_ ((((if_pos (by first | assumption | omega))).trans (if_neg (by first | assumption | omega))).trans (if_pos (by first | assumption | omega))).symm; first | rfl | omega) | (refine Eq.trans ?_ ((((if_pos (by first | assumption | omega))).trans (if_pos (by first | assumption | omega))).trans (if_neg (by first | assumption | omega))).symm; first | rfl | omega) | (refine Eq.trans ?_ ((((if_pos (by first | assumption | omega))).trans (if_pos (by first | assumption | omega))).trans (if_pos (by first | assumption | omega))).symm; first | rfl | omega)), eqx.rf _ _, hI⟩ (fun t ht _ => ⟨by rw [ht]; exact hP, hD⟩) hS dX6_odds_39
  refine lv_iload hx hb dX6_odds_27 (lv_at hl 4 rfl) ?_
  refine r_i2l hx hb (by omega) dX6_odds_29 ?_
  refine r_lconst hx hb 0 (by decide) dX6_odds_30 ?_
  refine r_lconst hx hb 1 (by decide) dX6_odds_31 ?_
  refine s_cR ⟨hx, hb, hml, hown, hts⟩ (m_in (v := part) (low := 0) (high := 1) (by omega) (by decide) (by decide)) (va_cwS 3 hts (lw_S q1111 q1112 q60 q1113) rfl rfl rfl hdS_X6_in ⟨Nat.le_of_ble_eq_true rfl, Nat.le_of_ble_eq_true rfl⟩) rfl hl.1 rfl (Nat.le_of_ble_eq_true rfl) ⟨Nat.le_of_ble_eq_true rfl, Nat.le_of_ble_eq_true rfl⟩ dX6_odds_32 ?_
  refine r_ifz_ne (tgt := 40) hx hb dX6_odds_35 (by decide) (fun c_5 => ?_) (fun c_5 => ?_)
  rotate_left
  · refine r_iconst hx hb dX6_odds_38 ?_
    exact r_iretS hx hb hr hlk hQ M ⟨congrArg iv (by subst_vars; first | (refine Eq.trans ?_ ((if_neg (by first | assumption | omega))).symm; first | rfl | omega) | (refine Eq.trans ?_ ((if_pos (by first | assumption | omega))).symm; first | rfl | omega) | (refine Eq.trans ?_ (((if_neg (by first | assumption | omega))).trans (if_neg (by first | assumption | omega))).symm; first | rfl | omega) | (refine Eq.trans ?_ (((if_neg (by first | assumption | omega))).trans (if_pos (by first | assumption | omega))).symm; first | rfl | omega) | (refine Eq.trans ?_ (((if_pos (by first | assumption | omega))).trans (if_neg (by first | assumption | omega))).symm; first | rfl | omega) | (refine Eq.trans ?_ (((if_pos (by first | assumption | omega))).trans (if_pos (by first | assumption | omega))).symm; first | rfl | omega) | (refine Eq.trans ?_ ((((if_neg (by first | assumption | omega))).trans (if_neg (by first | assumption | omega))).trans (if_neg (by first | assumption | omega))).symm; first | rfl | omega) | (refine Eq.trans ?_ ((((if_neg (by first | assumption | omega))).trans (if_neg (by first | assumption | omega))).trans (if_pos (by first | assumption | omega))).symm; first | rfl | omega) | (refine Eq.trans ?_ ((((if_neg (by first | assumption | omega))).trans (if_pos (by first | assumption | omega))).trans (if_neg (by first | assumption | omega))).symm; first | rfl | omega) | (refine Eq.trans ?_ ((((if_neg (by first | assumption | omega))).trans (if_pos (by first | assumption | omega))).trans (if_pos (by first | assumption | omega))).symm; first | rfl | omega) | (refine Eq.trans ?_ ((((if_pos (by first | assumption | omega))).trans (if_neg (by first | assumption | omega))).trans (if_neg (by first | assumption | omega))).symm; first | rfl | omega) | (refine Eq.trans ?_ ((((if_pos (by first | assumption | omega))).trans (if_neg (by first | assumption | omega))).trans (if_pos (by first | assumption | omega))).symm; first | rfl | omega) | (refine Eq.trans ?_ ((((if_pos (by first | assumption | omega))).trans (if_pos (by first | assumption | omega))).trans (if_neg (by first | assumption | omega))).symm; first | rfl | omega) | (refine Eq.trans ?_ ((((if_pos (by first | assumption | omega))).trans (if_pos (by first | assumption | omega))).trans (if_pos (by first | assumption | omega))).symm; first | rfl | omega)), eqx.rf _ _, hI⟩ (fun t ht _ => ⟨by rw [ht]; exact hP, hD⟩) hS dX6_odds_39
  refine lv_aload_n hx hb dX6_odds_40 rfl (lv_at hl 0 rfl) ?_
  refine mg_1 hx hb hts hown hK hP dX6_odds_41 ?_
  refine lv_iload_n hx hb dX6_odds_44 rfl (lv_at hl 2 rfl) ?_
  refine m_ald hx hb hK hP 1 (n := 16) rfl (by decide) (by omega) dX6_odds_45 ?_
  have b_6 := iM_1 (M := M) hI (beat)
  refine r_if_ne (tgt := 52) hx hb dX6_odds_46 (by decide) (by omega) (fun c_7 => ?_) (fun c_7 => ?_)
  rotate_left
  · refine r_bipush hx hb (by decide) dX6_odds_49 ?_
    exact r_iretS hx hb hr hlk hQ M ⟨congrArg iv (by subst_vars; first | (refine Eq.trans ?_ ((if_neg (by first | assumption | omega))).symm; first | rfl | omega) | (refine Eq.trans ?_ ((if_pos (by first | assumption | omega))).symm; first | rfl | omega) | (refine Eq.trans ?_ (((if_neg (by first | assumption | omega))).trans (if_neg (by first | assumption | omega))).symm; first | rfl | omega) | (refine Eq.trans ?_ (((if_neg (by first | assumption | omega))).trans (if_pos (by first | assumption | omega))).symm; first | rfl | omega) | (refine Eq.trans ?_ (((if_pos (by first | assumption | omega))).trans (if_neg (by first | assumption | omega))).symm; first | rfl | omega) | (refine Eq.trans ?_ (((if_pos (by first | assumption | omega))).trans (if_pos (by first | assumption | omega))).symm; first | rfl | omega) | (refine Eq.trans ?_ ((((if_neg (by first | assumption | omega))).trans (if_neg (by first | assumption | omega))).trans (if_neg (by first | assumption | omega))).symm; first | rfl | omega) | (refine Eq.trans ?_ ((((if_neg (by first | assumption | omega))).trans (if_neg (by first | assumption | omega))).trans (if_pos (by first | assumption | omega))).symm; first | rfl | omega) | (refine Eq.trans ?_ ((((if_neg (by first | assumption | omega))).trans (if_pos (by first | assumption | omega))).trans (if_neg (by first | assumption | omega))).symm; first | rfl | omega) | (refine Eq.trans ?_ ((((if_neg (by first | assumption | omega))).trans (if_pos (by first | assumption | omega))).trans (if_pos (by first | assumption | omega))).symm; first | rfl | omega) | (refine Eq.trans ?_ ((((if_pos (by first | assumption | omega))).trans (if_neg (by first | assumption | omega))).trans (if_neg (by first | assumption | omega))).symm; first | rfl | omega) | (refine Eq.trans ?_ ((((if_pos (by first | assumption | omega))).trans (if_neg (by first | assumption | omega))).trans (if_pos (by first | assumption | omega))).symm; first | rfl | omega) | (refine Eq.trans ?_ ((((if_pos (by first | assumption | omega))).trans (if_pos (by first | assumption | omega))).trans (if_neg (by first | assumption | omega))).symm; first | rfl | omega) | (refine Eq.trans ?_ ((((if_pos (by first | assumption | omega))).trans (if_pos (by first | assumption | omega))).trans (if_pos (by first | assumption | omega))).symm; first | rfl | omega)), eqx.rf _ _, hI⟩ (fun t ht _ => ⟨by rw [ht]; exact hP, hD⟩) hS dX6_odds_51
  refine lv_aload_n hx hb dX6_odds_52 rfl (lv_at hl 0 rfl) ?_
  refine lv_iload_n hx hb dX6_odds_53 rfl (lv_at hl 1 rfl) ?_
  refine lv_iload_n hx hb dX6_odds_54 rfl (lv_at hl 2 rfl) ?_
  refine lv_iload_n hx hb dX6_odds_55 rfl (lv_at hl 3 rfl) ?_
  refine m_cV ⟨hx, hb, hml, hown, hts⟩ (m_oddsOf hI (watcher := watcher) (beat := beat) (k := k) (by omega) (by omega) (by omega)) (cwV 3 hts (lw_V q1247 q1249 qs41 q60 q1250) rfl rfl rfl hdV_X6_oddsOf ⟨Nat.le_of_ble_eq_true rfl, Nat.le_of_ble_eq_true rfl⟩) hK hP hD hS rfl hl.1 rfl (Nat.le_of_ble_eq_true rfl) ⟨Nat.le_of_ble_eq_true rfl, Nat.le_of_ble_eq_true rfl⟩ dX6_odds_56 (fun M_8 H locs hq hP hD hS => ?_)
  obtain ⟨aM_8, bM_8, xM_8, hIM_8⟩ := hq
  have f_10 := aboveV_r (RB_rv hI) (seat := pw M 0 watcher) (kind := pw M 1 watcher) (doubt := pw M 2 watcher) (beat := beat) (k := k) (VB_pw hI 0 watcher).1 (VB_pw hI 2 watcher) (by omega)
  have f_11 := belowV_r (RB_rv hI) (kind := pw M 1 watcher) (doubt := pw M 2 watcher) (beat := beat) (k := k) (VB_pw hI 2 watcher) (by omega)
  refine lv_aload_n hx hb dX6_odds_59 rfl (lv_at hl 0 rfl) ?_
  refine mg_14 hx hb hts hown hK hP dX6_odds_60 ?_
  refine r_topl (congrArg jv aM_8) ?_
  refine lv_lstore (lv' := [(5, .long (jv (aboveV (rv M) (pw M 0 watcher) (pw M 1 watcher) (pw M 2 watcher) beat k))), (0, .ref (B 0)), (1, .int (iv (watcher))), (2, .int (iv (beat))), (3, .int (iv (k))), (4, .int (iv (part)))]) hx hb dX6_odds_63 hl (by decide) rfl (fun ls hl => ?_)
  refine lv_aload_n hx hb dX6_odds_65 rfl (lv_at hl 1 rfl) ?_
  refine mg_15 hx hb hts hown hK hP dX6_odds_66 ?_
  refine r_topl (congrArg jv bM_8) ?_
  refine lv_lstore (lv' := [(7, .long (jv (belowV (rv M) (pw M 1 watcher) (pw M 2 watcher) beat k))), (5, .long (jv (aboveV (rv M) (pw M 0 watcher) (pw M 1 watcher) (pw M 2 watcher) beat k))), (0, .ref (B 0)), (1, .int (iv (watcher))), (2, .int (iv (beat))), (3, .int (iv (k))), (4, .int (iv (part)))]) hx hb dX6_odds_69 hl (by decide) rfl (fun ls hl => ?_)
  have lp_71 : ∀ (n_71 : Nat) (aa : Int) (bb : Int), bb < (n_71 : Int) → (0 ≤ aa) → (0 ≤ bb) → (aa ≤ 1000000000) → (bb ≤ 1000000000) → (0 < aa + bb) → (gcdV aa bb = gcdV (aboveV (rv M) (pw M 0 watcher) (pw M 1 watcher) (pw M 2 watcher) beat k) (belowV (rv M) (pw M 1 watcher) (pw M 2 watcher) beat k)) → ∀ (ls : Array Slot), lv_has ls 11 [(0, .ref (B 0)), (1, .int (iv (watcher))), (2, .int (iv (beat))), (3, .int (iv (k))), (4, .int (iv (part))), (5, .long (jv (aa))), (7, .long (jv (bb)))] → W p l e (rmk 4 0 0) s m args below meth c H locs 0 0 Q (F0 m 71 ls []) := by
    intro n_71
    induction n_71 with
    | zero =>
      intro aa bb hn_71 h0 h1 h2 h3 h4 h5 ls hl
      exfalso
      omega
    | succ n_71 ih_71 =>
      intro aa bb hn_71 h0 h1 h2 h3 h4 h5 ls hl
      refine lv_lload hx hb dX6_odds_71 (lv_at hl 6 rfl) ?_
      refine r_lconst hx hb 0 (by decide) dX6_odds_73 ?_
      refine r_lcmp hx hb (by omega) (by omega) dX6_odds_74 ?_
      refine r_if_eq (tgt := 96) hx hb dX6_odds_75 (by decide) (by have := cj_r (bb) (0); omega) (fun c_14 => ?_) (fun c_14 => ?_)
      rotate_left
      · replace c_14 : ¬ bb = 0 := by have h9 := cj_eq (bb) (0); omega
        refine lv_lload hx hb dX6_odds_78 (lv_at hl 5 rfl) ?_
        refine lv_lload hx hb dX6_odds_80 (lv_at hl 6 rfl) ?_
        refine r_lrem hx hb (by omega) (by omega) dX6_odds_82 ?_
        refine lv_lstore (lv' := [(9, .long (jv (aa % bb))), (0, .ref (B 0)), (1, .int (iv (watcher))), (2, .int (iv (beat))), (3, .int (iv (k))), (4, .int (iv (part))), (5, .long (jv (aa))), (7, .long (jv (bb)))]) hx hb dX6_odds_83 hl (by decide) rfl (fun ls hl => ?_)
        refine lv_lload hx hb dX6_odds_85 (lv_at hl 7 rfl) ?_
        refine lv_lstore (lv' := [(5, .long (jv (bb))), (9, .long (jv (aa % bb))), (0, .ref (B 0)), (1, .int (iv (watcher))), (2, .int (iv (beat))), (3, .int (iv (k))), (4, .int (iv (part))), (7, .long (jv (bb)))]) hx hb dX6_odds_87 hl (by decide) rfl (fun ls hl => ?_)
        refine lv_lload hx hb dX6_odds_89 (lv_at hl 1 rfl) ?_
        refine lv_lstore (lv' := [(7, .long (jv (aa % bb))), (5, .long (jv (bb))), (9, .long (jv (aa % bb))), (0, .ref (B 0)), (1, .int (iv (watcher))), (2, .int (iv (beat))), (3, .int (iv (k))), (4, .int (iv (part)))]) hx hb dX6_odds_91 hl (by decide) rfl (fun ls hl => ?_)
        refine lv_goto (tgt := 71) hx hb dX6_odds_93 (by decide) ?_
        exact ih_71 bb (aa % bb) (by have := Int.emod_lt_of_pos aa (show 0 < bb by omega); omega) (by omega) (Int.emod_nonneg _ (by omega)) (by omega) (by have := Int.emod_lt_of_pos aa (show 0 < bb by omega); omega) (by have := Int.emod_nonneg aa (show bb ≠ 0 by omega); omega) (by rw [← h5]; exact gcdV_step _ _) ls (lv_sub hl [3, 4, 5, 6, 7, 1, 0] rfl)
      replace c_14 : bb = 0 := by have h9 := cj_eq (bb) (0); omega
      refine lv_iload hx hb dX6_odds_96 (lv_at hl 4 rfl) ?_
      have J_18 : ∀ (v_16 : Int) (ls : Array Slot), v_16 = (if part = 0 then aboveV (rv M) (pw M 0 watcher) (pw M 1 watcher) (pw M 2 watcher) beat k else belowV (rv M) (pw M 1 watcher) (pw M 2 watcher) beat k) → lv_has ls 11 [(0, .ref (B 0)), (1, .int (iv (watcher))), (2, .int (iv (beat))), (3, .int (iv (k))), (4, .int (iv (part))), (5, .long (jv (aa))), (7, .long (jv (bb)))] → W p l e (rmk 4 0 0) s m args below meth c H locs 0 0 Q (F0 m 112 ls [.long (jv (v_16))]) := by
        intro v_16 ls ev_16 hl
        refine lv_lload hx hb dX6_odds_112 (lv_at hl 5 rfl) ?_
        refine r_ldiv hx hb (by omega) (by omega) dX6_odds_114 ?_
        refine r_l2i hx hb dX6_odds_115 ?_
        exact r_iretS hx hb hr hlk hQ M_8 ⟨congrArg iv (by have e := h5; rw [show bb = 0 by omega, gcdV_0 (by omega)] at e; unfold opOdds; rw [if_pos (by omega), if_neg (by omega), e]; subst_vars; first | rfl | (rw [if_pos (by omega)]) | (rw [if_neg (by omega)])), xM_8, hIM_8⟩ (fun t ht _ => ⟨by rw [ht]; exact hP, hD⟩) hS dX6_odds_116
      refine r_if_ne (tgt := 108) hx hb dX6_odds_98 (by decide) (by omega) (fun c_15 => ?_) (fun c_15 => ?_)
      · refine lv_aload_n hx hb dX6_odds_108 rfl (lv_at hl 0 rfl) ?_
        refine mg_15 hx hb hts hown hK hP dX6_odds_109 ?_
        refine r_topl (congrArg jv bM_8) ?_
        exact J_18 (belowV (rv M) (pw M 1 watcher) (pw M 2 watcher) beat k) ls (by rw [if_neg c_15]) (lv_sub hl [0, 1, 2, 3, 4, 5, 6] rfl)
      refine lv_aload_n hx hb dX6_odds_101 rfl (lv_at hl 0 rfl) ?_
      refine mg_14 hx hb hts hown hK hP dX6_odds_102 ?_
      refine r_topl (congrArg jv aM_8) ?_
      refine lv_goto (tgt := 112) hx hb dX6_odds_105 (by decide) ?_
      exact J_18 (aboveV (rv M) (pw M 0 watcher) (pw M 1 watcher) (pw M 2 watcher) beat k) ls (by rw [if_pos c_15]) (lv_sub hl [0, 1, 2, 3, 4, 5, 6] rfl)
  exact lp_71 ((belowV (rv M) (pw M 1 watcher) (pw M 2 watcher) beat k) + 1 : Int).toNat (aboveV (rv M) (pw M 0 watcher) (pw M 1 watcher) (pw M 2 watcher) beat k) (belowV (rv M) (pw M 1 watcher) (pw M 2 watcher) beat k) (by omega) (by omega) (by omega) (by omega) (by omega) (by omega) (rfl) ls (lv_sub hl [2, 3, 4, 5, 6, 1, 0] rfl)
