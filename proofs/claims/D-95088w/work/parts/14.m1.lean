set_option maxRecDepth 100000
set_option maxHeartbeats 4000000 in
set_option maxRecDepth 100000 in
theorem m_in {l : Launch} {v : Int} {low : Int} {high : Int} (g_v : -9223372036854775808 ≤ v ∧ v ≤ 9223372036854775807) (g_low : -9223372036854775808 ≤ low ∧ low ≤ 9223372036854775807) (g_high : -9223372036854775808 ≤ high ∧ high ≤ 9223372036854775807) : Met l yX6_in (ws_ yX6_in cX6_in 6 (some .boolean)) (rmk 1 0 0) (va_Pc [.long (jv v), .long (jv low), .long (jv high)] (fun _ => True)) (QcRead (iv (bi (low ≤ v ∧ v ≤ high)))) 0 0 (fun _ => False) := by
  refine r_met (by decide) _ rfl (Nat.le_of_ble_eq_true rfl) ?_
  intro p e s m args below meth c Q ls hx hb hr hlk hml hown hts hpre hQ hl
  have hown : s.vm.findClass RX6 = some m.cls := hown
  have hl : lv_has ls 6 [(0, .long (jv (v))), (2, .long (jv (low))), (4, .long (jv (high)))] := hl
  refine lv_lload_n hx hb dX6_in_0 rfl (lv_at hl 0 rfl) ?_
  refine lv_lload_n hx hb dX6_in_1 rfl (lv_at hl 1 rfl) ?_
  refine r_lcmp hx hb (by omega) (by omega) dX6_in_2 ?_
  have J_4 : ∀ (v_2 : Int) (ls : Array Slot), v_2 = (if v < low then 0 else if high < v then 0 else 1) → lv_has ls 6 [(0, .long (jv (v))), (2, .long (jv (low))), (4, .long (jv (high)))] → W p l e (rmk 1 0 0) s m args below meth c s.heap [] 0 0 Q (F0 m 18 ls [.int (iv (v_2))]) := by
    intro v_2 ls ev_2 hl
    exact r_zretR hx hb hr hlk hQ (by omega) (congrArg iv (by unfold bi; omega)) dX6_in_18
  refine r_if_lt (tgt := 17) hx hb dX6_in_3 (by decide) (by have := cj_r (v) (low); omega) (fun c_1 => ?_) (fun c_1 => ?_)
  · replace c_1 : v < low := by have h9 := cj_lt (v) (low); omega
    refine r_iconst hx hb dX6_in_17 ?_
    exact J_4 0 ls (by rw [if_pos c_1]) (lv_sub hl [0, 1, 2] rfl)
  replace c_1 : ¬ v < low := by have h9 := cj_lt (v) (low); omega
  refine lv_lload_n hx hb dX6_in_6 rfl (lv_at hl 0 rfl) ?_
  refine lv_lload hx hb dX6_in_7 (lv_at hl 2 rfl) ?_
  refine r_lcmp hx hb (by omega) (by omega) dX6_in_9 ?_
  refine r_if_gt (tgt := 17) hx hb dX6_in_10 (by decide) (by have := cj_r (v) (high); omega) (fun c_6 => ?_) (fun c_6 => ?_)
  · replace c_6 : high < v := by have h9 := cj_gt (v) (high); omega
    refine r_iconst hx hb dX6_in_17 ?_
    exact J_4 0 ls (by rw [if_neg c_1]; rw [if_pos c_6]) (lv_sub hl [0, 1, 2] rfl)
  replace c_6 : ¬ high < v := by have h9 := cj_gt (v) (high); omega
  refine r_iconst hx hb dX6_in_13 ?_
  refine lv_goto (tgt := 18) hx hb dX6_in_14 (by decide) ?_
  exact J_4 1 ls (by rw [if_neg c_1]; rw [if_neg c_6]) (lv_sub hl [0, 1, 2] rfl)
set_option maxHeartbeats 4000000 in
set_option maxRecDepth 100000 in
theorem m_isBeat {l : Launch} {b : Int} (g_b : -2147483648 ≤ b ∧ b ≤ 2147483647) : Met l yX6_isBeat (ws_ yX6_isBeat cX6_isBeat 1 (some .boolean)) (rmk 2 0 0) (va_Pc [.int (iv b)] (fun _ => True)) (QcRead (iv (bi (0 ≤ b ∧ b ≤ 15)))) 0 0 (fun _ => False) := by
  refine r_met (by decide) _ rfl (Nat.le_of_ble_eq_true rfl) ?_
  intro p e s m args below meth c Q ls hx hb hr hlk hml hown hts hpre hQ hl
  have hown : s.vm.findClass RX6 = some m.cls := hown
  have hl : lv_has ls 1 [(0, .int (iv (b)))] := hl
  refine lv_iload_n hx hb dX6_isBeat_0 rfl (lv_at hl 0 rfl) ?_
  refine r_i2l hx hb (by omega) dX6_isBeat_1 ?_
  refine r_lconst hx hb 0 (by decide) dX6_isBeat_2 ?_
  refine r_ldc2 hx hb (15) (by decide) hown (hts _ q1110) dX6_isBeat_3 ?_
  refine s_cR ⟨hx, hb, hml, hown, hts⟩ (m_in (v := b) (low := 0) (high := 15) (by omega) (by decide) (by decide)) (va_cwS 3 hts (lw_S q1111 q1112 q60 q1113) rfl rfl rfl hdS_X6_in ⟨Nat.le_of_ble_eq_true rfl, Nat.le_of_ble_eq_true rfl⟩) rfl hl.1 rfl (Nat.le_of_ble_eq_true rfl) ⟨Nat.le_of_ble_eq_true rfl, Nat.le_of_ble_eq_true rfl⟩ dX6_isBeat_6 ?_
  exact r_zretR hx hb hr hlk hQ (bi_01 _) (congrArg iv (bi_iff (by omega))) dX6_isBeat_9
set_option maxHeartbeats 4000000 in
set_option maxRecDepth 100000 in
theorem m_isPlace {l : Launch} {q : Int} (g_q : -2147483648 ≤ q ∧ q ≤ 2147483647) : Met l yX6_isPlace (ws_ yX6_isPlace cX6_isPlace 1 (some .boolean)) (rmk 2 0 0) (va_Pc [.int (iv q)] (fun _ => True)) (QcRead (iv (bi (0 ≤ q ∧ q ≤ 3)))) 0 0 (fun _ => False) := by
  refine r_met (by decide) _ rfl (Nat.le_of_ble_eq_true rfl) ?_
  intro p e s m args below meth c Q ls hx hb hr hlk hml hown hts hpre hQ hl
  have hown : s.vm.findClass RX6 = some m.cls := hown
  have hl : lv_has ls 1 [(0, .int (iv (q)))] := hl
  refine lv_iload_n hx hb dX6_isPlace_0 rfl (lv_at hl 0 rfl) ?_
  refine r_i2l hx hb (by omega) dX6_isPlace_1 ?_
  refine r_lconst hx hb 0 (by decide) dX6_isPlace_2 ?_
  refine r_ldc2 hx hb (3) (by decide) hown (hts _ q1117) dX6_isPlace_3 ?_
  refine s_cR ⟨hx, hb, hml, hown, hts⟩ (m_in (v := q) (low := 0) (high := 3) (by omega) (by decide) (by decide)) (va_cwS 3 hts (lw_S q1111 q1112 q60 q1113) rfl rfl rfl hdS_X6_in ⟨Nat.le_of_ble_eq_true rfl, Nat.le_of_ble_eq_true rfl⟩) rfl hl.1 rfl (Nat.le_of_ble_eq_true rfl) ⟨Nat.le_of_ble_eq_true rfl, Nat.le_of_ble_eq_true rfl⟩ dX6_isPlace_6 ?_
  exact r_zretR hx hb hr hlk hQ (bi_01 _) (congrArg iv (bi_iff (by omega))) dX6_isPlace_9
set_option maxHeartbeats 4000000 in
set_option maxRecDepth 100000 in
theorem m_isSheet {l : Launch} {q : Int} (g_q : -2147483648 ≤ q ∧ q ≤ 2147483647) : Met l yX6_isSheet (ws_ yX6_isSheet cX6_isSheet 1 (some .boolean)) (rmk 2 0 0) (va_Pc [.int (iv q)] (fun _ => True)) (QcRead (iv (bi (0 ≤ q ∧ q ≤ 3)))) 0 0 (fun _ => False) := by
  refine r_met (by decide) _ rfl (Nat.le_of_ble_eq_true rfl) ?_
  intro p e s m args below meth c Q ls hx hb hr hlk hml hown hts hpre hQ hl
  have hown : s.vm.findClass RX6 = some m.cls := hown
  have hl : lv_has ls 1 [(0, .int (iv (q)))] := hl
  refine lv_iload_n hx hb dX6_isSheet_0 rfl (lv_at hl 0 rfl) ?_
  refine r_i2l hx hb (by omega) dX6_isSheet_1 ?_
  refine r_lconst hx hb 0 (by decide) dX6_isSheet_2 ?_
  refine r_ldc2 hx hb (3) (by decide) hown (hts _ q1117) dX6_isSheet_3 ?_
  refine s_cR ⟨hx, hb, hml, hown, hts⟩ (m_in (v := q) (low := 0) (high := 3) (by omega) (by decide) (by decide)) (va_cwS 3 hts (lw_S q1111 q1112 q60 q1113) rfl rfl rfl hdS_X6_in ⟨Nat.le_of_ble_eq_true rfl, Nat.le_of_ble_eq_true rfl⟩) rfl hl.1 rfl (Nat.le_of_ble_eq_true rfl) ⟨Nat.le_of_ble_eq_true rfl, Nat.le_of_ble_eq_true rfl⟩ dX6_isSheet_6 ?_
  exact r_zretR hx hb hr hlk hQ (bi_01 _) (congrArg iv (bi_iff (by omega))) dX6_isSheet_9
set_option maxHeartbeats 4000000 in
set_option maxRecDepth 100000 in
theorem m_isLane {l : Launch} {q : Int} (g_q : -2147483648 ≤ q ∧ q ≤ 2147483647) : Met l yX6_isLane (ws_ yX6_isLane cX6_isLane 1 (some .boolean)) (rmk 2 0 0) (va_Pc [.int (iv q)] (fun _ => True)) (QcRead (iv (bi (0 ≤ q ∧ q ≤ 2)))) 0 0 (fun _ => False) := by
  refine r_met (by decide) _ rfl (Nat.le_of_ble_eq_true rfl) ?_
  intro p e s m args below meth c Q ls hx hb hr hlk hml hown hts hpre hQ hl
  have hown : s.vm.findClass RX6 = some m.cls := hown
  have hl : lv_has ls 1 [(0, .int (iv (q)))] := hl
  refine lv_iload_n hx hb dX6_isLane_0 rfl (lv_at hl 0 rfl) ?_
  refine r_i2l hx hb (by omega) dX6_isLane_1 ?_
  refine r_lconst hx hb 0 (by decide) dX6_isLane_2 ?_
  refine r_ldc2 hx hb (2) (by decide) hown (hts _ q1123) dX6_isLane_3 ?_
  refine s_cR ⟨hx, hb, hml, hown, hts⟩ (m_in (v := q) (low := 0) (high := 2) (by omega) (by decide) (by decide)) (va_cwS 3 hts (lw_S q1111 q1112 q60 q1113) rfl rfl rfl hdS_X6_in ⟨Nat.le_of_ble_eq_true rfl, Nat.le_of_ble_eq_true rfl⟩) rfl hl.1 rfl (Nat.le_of_ble_eq_true rfl) ⟨Nat.le_of_ble_eq_true rfl, Nat.le_of_ble_eq_true rfl⟩ dX6_isLane_6 ?_
  exact r_zretR hx hb hr hlk hQ (bi_01 _) (congrArg iv (bi_iff (by omega))) dX6_isLane_9
set_option maxHeartbeats 4000000 in
set_option maxRecDepth 100000 in
theorem m_isOne {l : Launch} {D : va_G} {cI : ClassId} {B : Nat → Nat} {M : St} (hI : InvM M) {w : Int} (g_w : -2147483648 ≤ w ∧ w ≤ 2147483647) : Met l yX6_isOne (ws_ yX6_isOne cX6_isOne 2 (some .boolean)) (rmk 2 0 0) (va_Pc [.ref (B 0), .int (iv w)] (mU D cI (mW cI B M))) (QcRead (iv (bi (0 ≤ w ∧ w ≤ M 7 0 - 1)))) 0 0 (fun _ => False) := by
  refine r_met (by decide) _ rfl (Nat.le_of_ble_eq_true rfl) ?_
  intro p e s m args below meth c Q ls hx hb hr hlk hml hown hts hpre hQ hl
  obtain ⟨hP, hK⟩ := hpre
  have hown : s.vm.findClass RX6 = some m.cls := hown
  have hl : lv_has ls 2 [(0, .ref (B 0)), (1, .int (iv (w)))] := hl
  refine lv_iload_n hx hb dX6_isOne_0 rfl (lv_at hl 1 rfl) ?_
  refine r_i2l hx hb (by omega) dX6_isOne_1 ?_
  refine r_lconst hx hb 0 (by decide) dX6_isOne_2 ?_
  refine lv_aload_n hx hb dX6_isOne_3 rfl (lv_at hl 0 rfl) ?_
  refine mg_7 hx hb hts hown hK hP dX6_isOne_4 ?_
  have b_1 := iM_7 (M := M) hI (0)
  refine r_iconst hx hb dX6_isOne_7 ?_
  refine r_isub hx hb dX6_isOne_8 ?_
  refine r_i2l hx hb (by omega) dX6_isOne_9 ?_
  refine s_cR ⟨hx, hb, hml, hown, hts⟩ (m_in (v := w) (low := 0) (high := (M 7 0) - 1) (by omega) (by decide) (by omega)) (va_cwS 3 hts (lw_S q1111 q1112 q60 q1113) rfl rfl rfl hdS_X6_in ⟨Nat.le_of_ble_eq_true rfl, Nat.le_of_ble_eq_true rfl⟩) rfl hl.1 rfl (Nat.le_of_ble_eq_true rfl) ⟨Nat.le_of_ble_eq_true rfl, Nat.le_of_ble_eq_true rfl⟩ dX6_isOne_10 ?_
  exact r_zretR hx hb hr hlk hQ (bi_01 _) (congrArg iv (bi_iff (by omega))) dX6_isOne_13
set_option maxHeartbeats 4000000 in
set_option maxRecDepth 100000 in
theorem m_isTaken {l : Launch} {D : va_G} {cI : ClassId} {B : Nat → Nat} {M : St} (hI : InvM M) {seat : Int} (g_seat : -2147483648 ≤ seat ∧ seat ≤ 2147483647) : Met l yX6_isTaken (ws_ yX6_isTaken cX6_isTaken 4 (some .boolean)) (rmk 1 0 0) (va_Pc [.ref (B 0), .int (iv seat)] (mU D cI (mW cI B M))) (QcRead (iv (takenV (pw M 0) seat (M 7 0)))) 0 0 (fun _ => False) := by
  refine r_met (by decide) _ rfl (Nat.le_of_ble_eq_true rfl) ?_
  intro p e s m args below meth c Q ls hx hb hr hlk hml hown hts hpre hQ hl
  obtain ⟨hP, hK⟩ := hpre
  have hown : s.vm.findClass RX6 = some m.cls := hown
  have hl : lv_has ls 4 [(0, .ref (B 0)), (1, .int (iv (seat)))] := hl
  have b7 := iM_7 hI 0
  refine r_iconst hx hb dX6_isTaken_0 ?_
  refine lv_istore_n (lv' := [(2, .int (iv (0))), (0, .ref (B 0)), (1, .int (iv (seat)))]) hx hb dX6_isTaken_1 rfl hl (by decide) rfl (fun ls hl => ?_)
  refine r_iconst hx hb dX6_isTaken_2 ?_
  refine lv_istore_n (lv' := [(3, .int (iv (0))), (2, .int (iv (0))), (0, .ref (B 0)), (1, .int (iv (seat)))]) hx hb dX6_isTaken_3 rfl hl (by decide) rfl (fun ls hl => ?_)
  have lp_4 : ∀ (n_4 : Nat) (is : Int) (i : Int), M 7 0 - i < (n_4 : Int) → (0 ≤ i) → (i ≤ M 7 0) → (is = takenV (pw M 0) seat i) → (is = 0 ∨ is = 1) → ∀ (ls : Array Slot), lv_has ls 4 [(0, .ref (B 0)), (1, .int (iv (seat))), (2, .int (iv (is))), (3, .int (iv (i)))] → W p l e (rmk 1 0 0) s m args below meth c s.heap [] 0 0 Q (F0 m 4 ls []) := by
    intro n_4
    induction n_4 with
    | zero =>
      intro is i hn_4 h0 h1 h2 h3 ls hl
      exfalso
      omega
    | succ n_4 ih_4 =>
      intro is i hn_4 h0 h1 h2 h3 ls hl
      refine lv_iload_n hx hb dX6_isTaken_4 rfl (lv_at hl 3 rfl) ?_
      refine lv_aload_n hx hb dX6_isTaken_5 rfl (lv_at hl 0 rfl) ?_
      refine mg_7 hx hb hts hown hK hP dX6_isTaken_6 ?_
      have b_1 := iM_7 (M := M) hI (0)
      refine r_icmp_ge (tgt := 40) hx hb dX6_isTaken_9 (by decide) (by omega) (by omega) (fun c_2 => ?_) (fun c_2 => ?_)
      · refine lv_iload_n hx hb dX6_isTaken_40 rfl (lv_at hl 2 rfl) ?_
        exact r_zretR hx hb hr hlk hQ (by omega) (congrArg iv (by have e := h2; rw [show i = M 7 0 by omega] at e; exact e)) dX6_isTaken_41
      refine lv_iload_n hx hb dX6_isTaken_12 rfl (lv_at hl 2 rfl) ?_
      have J_6 : ∀ (v_4 : Int) (ls : Array Slot), v_4 = (if is = 0 then if (M 8 (3 * i)) = seat then 1 else 0 else 1) → lv_has ls 4 [(0, .ref (B 0)), (1, .int (iv (seat))), (2, .int (iv (is))), (3, .int (iv (i)))] → W p l e (rmk 1 0 0) s m args below meth c s.heap [] 0 0 Q (F0 m 33 ls [.int (iv (v_4))]) := by
        intro v_4 ls ev_4 hl
        refine lv_istore_n (lv' := [(2, .int (iv (v_4))), (0, .ref (B 0)), (1, .int (iv (seat))), (3, .int (iv (i)))]) hx hb dX6_isTaken_33 rfl hl (by decide) rfl (fun ls hl => ?_)
        refine lv_iinc (v := iv (i + 1)) (lv' := [(3, .int (iv (i + 1))), (2, .int (iv (v_4))), (0, .ref (B 0)), (1, .int (iv (seat)))]) hx hb dX6_isTaken_34 hl (k := 3) rfl (iv_add _ _) (by decide) rfl (fun ls hl => ?_)
        refine lv_goto (tgt := 4) hx hb dX6_isTaken_37 (by decide) ?_
        exact ih_4 v_4 (i + 1) (by omega) (by omega) (by omega) (by rw [takenV_s _ _ h0, ← h2]; subst_vars; rfl) (by omega) ls (lv_sub hl [2, 3, 1, 0] rfl)
      refine r_if_ne (tgt := 28) hx hb dX6_isTaken_13 (by decide) (by omega) (fun c_3 => ?_) (fun c_3 => ?_)
      · refine r_iconst hx hb dX6_isTaken_28 ?_
        refine lv_goto (tgt := 33) hx hb dX6_isTaken_29 (by decide) ?_
        exact J_6 1 ls (by rw [if_neg c_3]) (lv_sub hl [0, 1, 2, 3] rfl)
      refine lv_aload_n hx hb dX6_isTaken_16 rfl (lv_at hl 0 rfl) ?_
      refine mg_8 hx hb hts hown hK hP dX6_isTaken_17 ?_
      refine r_iconst hx hb dX6_isTaken_20 ?_
      refine lv_iload_n hx hb dX6_isTaken_21 rfl (lv_at hl 3 rfl) ?_
      refine r_imul hx hb dX6_isTaken_22 ?_
      refine m_ald hx hb hK hP 8 (n := 24) rfl (by decide) (by omega) dX6_isTaken_23 ?_
      have b_8 := iM_8 (M := M) hI (3 * i)
      refine lv_iload_n hx hb dX6_isTaken_24 rfl (lv_at hl 1 rfl) ?_
      refine r_icmp_ne (tgt := 32) hx hb dX6_isTaken_25 (by decide) (by omega) (by omega) (fun c_9 => ?_) (fun c_9 => ?_)
      · refine r_iconst hx hb dX6_isTaken_32 ?_
        exact J_6 0 ls (by rw [if_pos c_3]; rw [if_neg c_9]) (lv_sub hl [0, 1, 2, 3] rfl)
      refine r_iconst hx hb dX6_isTaken_28 ?_
      refine lv_goto (tgt := 33) hx hb dX6_isTaken_29 (by decide) ?_
      exact J_6 1 ls (by rw [if_pos c_3]; rw [if_pos c_9]) (lv_sub hl [0, 1, 2, 3] rfl)
  exact lp_4 (M 7 0 - 0 + 1 : Int).toNat 0 0 (by omega) (by omega) (by omega) (takenV_0 _ _) (by omega) ls (lv_sub hl [2, 3, 1, 0] rfl)
set_option maxHeartbeats 4000000 in
set_option maxRecDepth 100000 in
theorem m_sight {l : Launch} {D : va_G} {cI : ClassId} {B : Nat → Nat} {M : St} (hI : InvM M) {seat : Int} {place : Int} {column : Int} (g_seat : 0 ≤ seat ∧ seat ≤ 2147483647) (g_place : -2147483648 ≤ place ∧ place ≤ 2147483647) (g_column : 0 ≤ column ∧ column ≤ 3) : Met l yX6_sight (ws_ yX6_sight cX6_sight 5 (some .boolean)) (rmk 1 0 0) (va_Pc [.ref (B 0), .int (iv seat), .int (iv place), .int (iv column)] (mU D cI (mW cI B M))) (QcRead (iv (bi (sightV seat place column)))) 0 0 (fun _ => False) := by
  refine r_met (by decide) _ rfl (Nat.le_of_ble_eq_true rfl) ?_
  intro p e s m args below meth c Q ls hx hb hr hlk hml hown hts hpre hQ hl
  obtain ⟨hP, hK⟩ := hpre
  have hown : s.vm.findClass RX6 = some m.cls := hown
  have hl : lv_has ls 5 [(0, .ref (B 0)), (1, .int (iv (seat))), (2, .int (iv (place))), (3, .int (iv (column)))] := hl
  refine lv_iload_n hx hb dX6_sight_0 rfl (lv_at hl 1 rfl) ?_
  refine r_iconst hx hb dX6_sight_1 ?_
  refine r_irem hx hb (by omega) (by omega) dX6_sight_2 ?_
  refine lv_iload_n hx hb dX6_sight_3 rfl (lv_at hl 3 rfl) ?_
  refine r_isub hx hb dX6_sight_4 ?_
  refine lv_istore (lv' := [(4, .int (iv ((seat % 4) - column))), (0, .ref (B 0)), (1, .int (iv (seat))), (2, .int (iv (place))), (3, .int (iv (column)))]) hx hb dX6_sight_5 hl (by decide) rfl (fun ls hl => ?_)
  refine lv_iload_n hx hb dX6_sight_7 rfl (lv_at hl 3 rfl) ?_
  refine r_iconst hx hb dX6_sight_8 ?_
  have J_4 : ∀ (v_2 : Int) (ls : Array Slot), v_2 = (if place = 1 then if ((seat % 4) - column) < (-1) then 0 else if place = 0 then if 1 < ((seat % 4) - column) then 0 else 1 else 1 else if place = 0 then if 1 < ((seat % 4) - column) then 0 else 1 else 1) → lv_has ls 5 [(0, .ref (B 0)), (1, .int (iv (seat))), (2, .int (iv (place))), (3, .int (iv (column))), (4, .int (iv ((seat % 4) - column)))] → W p l e (rmk 1 0 0) s m args below meth c s.heap [] 0 0 Q (F0 m 33 ls [.int (iv (v_2))]) := by
    intro v_2 ls ev_2 hl
    exact r_zretR hx hb hr hlk hQ (by omega) (congrArg iv (by refine bi_of (fun h => ?_) (fun h => ?_) <;> unfold sightV at h <;> omega)) dX6_sight_33
  refine r_icmp_ne (tgt := 18) hx hb dX6_sight_9 (by decide) (by omega) (by omega) (fun c_1 => ?_) (fun c_1 => ?_)
  · refine lv_iload_n hx hb dX6_sight_18 rfl (lv_at hl 3 rfl) ?_
    refine r_if_ne (tgt := 28) hx hb dX6_sight_19 (by decide) (by omega) (fun c_6 => ?_) (fun c_6 => ?_)
    · refine r_iconst hx hb dX6_sight_28 ?_
      refine lv_goto (tgt := 33) hx hb dX6_sight_29 (by decide) ?_
      exact J_4 1 ls (by rw [if_neg c_1]; rw [if_neg c_6]) (lv_sub hl [1, 2, 3, 4, 0] rfl)
    refine lv_iload hx hb dX6_sight_22 (lv_at hl 0 rfl) ?_
    refine r_iconst hx hb dX6_sight_24 ?_
    refine r_icmp_gt (tgt := 32) hx hb dX6_sight_25 (by decide) (by omega) (by omega) (fun c_7 => ?_) (fun c_7 => ?_)
    · refine r_iconst hx hb dX6_sight_32 ?_
      exact J_4 0 ls (by rw [if_neg c_1]; rw [if_pos c_6]; rw [if_pos c_7]) (lv_sub hl [1, 2, 3, 4, 0] rfl)
    refine r_iconst hx hb dX6_sight_28 ?_
    refine lv_goto (tgt := 33) hx hb dX6_sight_29 (by decide) ?_
    exact J_4 1 ls (by rw [if_neg c_1]; rw [if_pos c_6]; rw [if_neg c_7]) (lv_sub hl [1, 2, 3, 4, 0] rfl)
  refine lv_iload hx hb dX6_sight_12 (lv_at hl 0 rfl) ?_
  refine r_iconst hx hb dX6_sight_14 ?_
  refine r_icmp_lt (tgt := 32) hx hb dX6_sight_15 (by decide) (by omega) (by omega) (fun c_8 => ?_) (fun c_8 => ?_)
  · refine r_iconst hx hb dX6_sight_32 ?_
    exact J_4 0 ls (by rw [if_pos c_1]; rw [if_pos c_8]) (lv_sub hl [1, 2, 3, 4, 0] rfl)
  refine lv_iload_n hx hb dX6_sight_18 rfl (lv_at hl 3 rfl) ?_
  refine r_if_ne (tgt := 28) hx hb dX6_sight_19 (by decide) (by omega) (fun c_9 => ?_) (fun c_9 => ?_)
  · refine r_iconst hx hb dX6_sight_28 ?_
    refine lv_goto (tgt := 33) hx hb dX6_sight_29 (by decide) ?_
    exact J_4 1 ls (by rw [if_pos c_1]; rw [if_neg c_8]; rw [if_neg c_9]) (lv_sub hl [1, 2, 3, 4, 0] rfl)
  refine lv_iload hx hb dX6_sight_22 (lv_at hl 0 rfl) ?_
  refine r_iconst hx hb dX6_sight_24 ?_
  refine r_icmp_gt (tgt := 32) hx hb dX6_sight_25 (by decide) (by omega) (by omega) (fun c_10 => ?_) (fun c_10 => ?_)
  · refine r_iconst hx hb dX6_sight_32 ?_
    exact J_4 0 ls (by rw [if_pos c_1]; rw [if_neg c_8]; rw [if_pos c_9]; rw [if_pos c_10]) (lv_sub hl [1, 2, 3, 4, 0] rfl)
  refine r_iconst hx hb dX6_sight_28 ?_
  refine lv_goto (tgt := 33) hx hb dX6_sight_29 (by decide) ?_
  exact J_4 1 ls (by rw [if_pos c_1]; rw [if_neg c_8]; rw [if_pos c_9]; rw [if_neg c_10]) (lv_sub hl [1, 2, 3, 4, 0] rfl)
set_option maxHeartbeats 4000000 in
set_option maxRecDepth 100000 in
theorem m_pullOn {l : Launch} {D : va_G} {cI : ClassId} {B : Nat → Nat} {M : St} (hI : InvM M) {kind : Int} {doubt : Int} {beat : Int} {place : Int} {k : Int} (g_kind : -2147483648 ≤ kind ∧ kind ≤ 2147483647) (g_doubt : 0 ≤ doubt ∧ doubt ≤ 11) (g_beat : 0 ≤ beat ∧ beat ≤ 15) (g_place : 0 ≤ place ∧ place ≤ 3) (g_k : -2147483648 ≤ k ∧ k ≤ 2147483647) : Met l yX6_pullOn (ws_ yX6_pullOn cX6_pullOn 8 (some .int)) (rmk 1 0 0) (va_Pc [.ref (B 0), .int (iv kind), .int (iv doubt), .int (iv beat), .int (iv place), .int (iv k)] (mU D cI (mW cI B M))) (QcRead (iv (pullV (rv M) kind doubt beat place k))) 0 0 (fun _ => False) := by
  refine r_met (by decide) _ rfl (Nat.le_of_ble_eq_true rfl) ?_
  intro p e s m args below meth c Q ls hx hb hr hlk hml hown hts hpre hQ hl
  obtain ⟨hP, hK⟩ := hpre
  have hown : s.vm.findClass RX6 = some m.cls := hown
  have hl : lv_has ls 8 [(0, .ref (B 0)), (1, .int (iv (kind))), (2, .int (iv (doubt))), (3, .int (iv (beat))), (4, .int (iv (place))), (5, .int (iv (k)))] := hl
  refine lv_iload_n hx hb dX6_pullOn_0 rfl (lv_at hl 1 rfl) ?_
  refine r_iconst hx hb dX6_pullOn_1 ?_
  have J_4 : ∀ (v_2 : Int) (ls : Array Slot), v_2 = (if kind = 3 then if 2 ≤ place then place else 1 - place else place) → lv_has ls 8 [(0, .ref (B 0)), (1, .int (iv (kind))), (2, .int (iv (doubt))), (3, .int (iv (beat))), (4, .int (iv (place))), (5, .int (iv (k)))] → W p l e (rmk 1 0 0) s m args below meth c s.heap [] 0 0 Q (F0 m 20 ls [.int (iv (v_2))]) := by
    intro v_2 ls ev_2 hl
    refine lv_istore (lv' := [(6, .int (iv (v_2))), (0, .ref (B 0)), (1, .int (iv (kind))), (2, .int (iv (doubt))), (3, .int (iv (beat))), (4, .int (iv (place))), (5, .int (iv (k)))]) hx hb dX6_pullOn_20 hl (by decide) rfl (fun ls hl => ?_)
    refine r_iconst hx hb dX6_pullOn_22 ?_
    refine lv_istore (lv' := [(7, .int (iv (1))), (6, .int (iv (v_2))), (0, .ref (B 0)), (1, .int (iv (kind))), (2, .int (iv (doubt))), (3, .int (iv (beat))), (4, .int (iv (place))), (5, .int (iv (k)))]) hx hb dX6_pullOn_23 hl (by decide) rfl (fun ls hl => ?_)
    refine lv_iload hx hb dX6_pullOn_25 (lv_at hl 0 rfl) ?_
    refine lv_aload_n hx hb dX6_pullOn_27 rfl (lv_at hl 2 rfl) ?_
    refine mg_0 hx hb hts hown hK hP dX6_pullOn_28 ?_
    refine lv_iload_n hx hb dX6_pullOn_31 rfl (lv_at hl 5 rfl) ?_
    refine m_ald hx hb hK hP 0 (n := 16) rfl (by decide) (by omega) dX6_pullOn_32 ?_
    have b_5 := iM_0 (M := M) hI (beat)
    have J_9 : ∀ (v_7 : Int) (ls : Array Slot), v_7 = (if (M 0 beat) ≤ 0 then 0 else if ((M 0 beat) / 10) = v_2 then (M 0 beat) % 10 else 0) → lv_has ls 8 [(0, .ref (B 0)), (1, .int (iv (kind))), (2, .int (iv (doubt))), (3, .int (iv (beat))), (4, .int (iv (place))), (5, .int (iv (k))), (6, .int (iv (v_2))), (7, .int (iv (1)))] → W p l e (rmk 1 0 0) s m args below meth c s.heap [] 0 0 Q (F0 m 63 ls [.int (iv (v_7)), .int (iv (1))]) := by
      intro v_7 ls ev_7 hl
      refine r_iadd hx hb dX6_pullOn_63 ?_
      refine lv_istore (lv' := [(7, .int (iv (1 + v_7))), (0, .ref (B 0)), (1, .int (iv (kind))), (2, .int (iv (doubt))), (3, .int (iv (beat))), (4, .int (iv (place))), (5, .int (iv (k))), (6, .int (iv (v_2)))]) hx hb dX6_pullOn_64 hl (by decide) rfl (fun ls hl => ?_)
      refine lv_iload hx hb dX6_pullOn_66 (lv_at hl 0 rfl) ?_
      refine lv_aload_n hx hb dX6_pullOn_68 rfl (lv_at hl 1 rfl) ?_
      refine mg_2 hx hb hts hown hK hP dX6_pullOn_69 ?_
      refine lv_iload_n hx hb dX6_pullOn_72 rfl (lv_at hl 4 rfl) ?_
      refine m_ald hx hb hK hP 2 (n := 16) rfl (by decide) (by omega) dX6_pullOn_73 ?_
      have b_10 := iM_2 (M := M) hI (beat)
      refine lv_iload hx hb dX6_pullOn_74 (lv_at hl 7 rfl) ?_
      have J_14 : ∀ (v_12 : Int) (ls : Array Slot), v_12 = (if (M 2 beat) = v_2 then M 6 0 else 0) → lv_has ls 8 [(0, .ref (B 0)), (1, .int (iv (kind))), (2, .int (iv (doubt))), (3, .int (iv (beat))), (4, .int (iv (place))), (5, .int (iv (k))), (6, .int (iv (v_2))), (7, .int (iv (1 + v_7)))] → W p l e (rmk 1 0 0) s m args below meth c s.heap [] 0 0 Q (F0 m 89 ls [.int (iv (v_12)), .int (iv (1 + v_7))]) := by
        intro v_12 ls ev_12 hl
        refine r_iadd hx hb dX6_pullOn_89 ?_
        refine lv_istore (lv' := [(7, .int (iv ((1 + v_7) + v_12))), (0, .ref (B 0)), (1, .int (iv (kind))), (2, .int (iv (doubt))), (3, .int (iv (beat))), (4, .int (iv (place))), (5, .int (iv (k))), (6, .int (iv (v_2)))]) hx hb dX6_pullOn_90 hl (by decide) rfl (fun ls hl => ?_)
        refine lv_iload hx hb dX6_pullOn_92 (lv_at hl 0 rfl) ?_
        refine lv_aload_n hx hb dX6_pullOn_94 rfl (lv_at hl 1 rfl) ?_
        refine mg_3 hx hb hts hown hK hP dX6_pullOn_95 ?_
        refine lv_iload_n hx hb dX6_pullOn_98 rfl (lv_at hl 4 rfl) ?_
        refine m_ald hx hb hK hP 3 (n := 16) rfl (by decide) (by omega) dX6_pullOn_99 ?_
        have b_15 := iM_3 (M := M) hI (beat)
        refine lv_iload hx hb dX6_pullOn_100 (lv_at hl 7 rfl) ?_
        have J_19 : ∀ (v_17 : Int) (ls : Array Slot), v_17 = (if (M 3 beat) = v_2 then if kind = 2 then 0 else M 6 1 else 0) → lv_has ls 8 [(0, .ref (B 0)), (1, .int (iv (kind))), (2, .int (iv (doubt))), (3, .int (iv (beat))), (4, .int (iv (place))), (5, .int (iv (k))), (6, .int (iv (v_2))), (7, .int (iv ((1 + v_7) + v_12)))] → W p l e (rmk 1 0 0) s m args below meth c s.heap [] 0 0 Q (F0 m 120 ls [.int (iv (v_17)), .int (iv ((1 + v_7) + v_12))]) := by
          intro v_17 ls ev_17 hl
          refine r_iadd hx hb dX6_pullOn_120 ?_
          refine lv_istore (lv' := [(7, .int (iv (((1 + v_7) + v_12) + v_17))), (0, .ref (B 0)), (1, .int (iv (kind))), (2, .int (iv (doubt))), (3, .int (iv (beat))), (4, .int (iv (place))), (5, .int (iv (k))), (6, .int (iv (v_2)))]) hx hb dX6_pullOn_121 hl (by decide) rfl (fun ls hl => ?_)
          refine lv_iload hx hb dX6_pullOn_123 (lv_at hl 0 rfl) ?_
          refine lv_iload_n hx hb dX6_pullOn_125 rfl (lv_at hl 2 rfl) ?_
          refine r_iconst hx hb dX6_pullOn_126 ?_
          have J_23 : ∀ (v_21 : Int) (ls : Array Slot), v_21 = (if kind = 1 then if 2 ≤ v_2 then 0 else if (M 2 beat) = v_2 then 0 else doubt else 0) → lv_has ls 8 [(0, .ref (B 0)), (1, .int (iv (kind))), (2, .int (iv (doubt))), (3, .int (iv (beat))), (4, .int (iv (place))), (5, .int (iv (k))), (6, .int (iv (v_2))), (7, .int (iv (((1 + v_7) + v_12) + v_17)))] → W p l e (rmk 1 0 0) s m args below meth c s.heap [] 0 0 Q (F0 m 152 ls [.int (iv (v_21)), .int (iv (((1 + v_7) + v_12) + v_17))]) := by
            intro v_21 ls ev_21 hl
            refine r_iadd hx hb dX6_pullOn_152 ?_
            refine lv_istore (lv' := [(7, .int (iv ((((1 + v_7) + v_12) + v_17) + v_21))), (0, .ref (B 0)), (1, .int (iv (kind))), (2, .int (iv (doubt))), (3, .int (iv (beat))), (4, .int (iv (place))), (5, .int (iv (k))), (6, .int (iv (v_2)))]) hx hb dX6_pullOn_153 hl (by decide) rfl (fun ls hl => ?_)
            refine lv_iload hx hb dX6_pullOn_155 (lv_at hl 0 rfl) ?_
            refine lv_aload_n hx hb dX6_pullOn_157 rfl (lv_at hl 1 rfl) ?_
            refine mg_1 hx hb hts hown hK hP dX6_pullOn_158 ?_
            refine lv_iload_n hx hb dX6_pullOn_161 rfl (lv_at hl 4 rfl) ?_
            refine m_ald hx hb hK hP 1 (n := 16) rfl (by decide) (by omega) dX6_pullOn_162 ?_
            have b_24 := iM_1 (M := M) hI (beat)
            have J_28 : ∀ (v_26 : Int) (ls : Array Slot), v_26 = (if (M 1 beat) ≤ 0 then 0 else if ((M 1 beat) / 10) = place then (M 6 3) * (k - 1) else 0) → lv_has ls 8 [(0, .ref (B 0)), (1, .int (iv (kind))), (2, .int (iv (doubt))), (3, .int (iv (beat))), (4, .int (iv (place))), (5, .int (iv (k))), (6, .int (iv (v_2))), (7, .int (iv ((((1 + v_7) + v_12) + v_17) + v_21)))] → W p l e (rmk 1 0 0) s m args below meth c s.heap [] 0 0 Q (F0 m 195 ls [.int (iv (v_26)), .int (iv ((((1 + v_7) + v_12) + v_17) + v_21))]) := by
              intro v_26 ls ev_26 hl
              refine r_iadd hx hb dX6_pullOn_195 ?_
              refine lv_istore (lv' := [(7, .int (iv (((((1 + v_7) + v_12) + v_17) + v_21) + v_26))), (0, .ref (B 0)), (1, .int (iv (kind))), (2, .int (iv (doubt))), (3, .int (iv (beat))), (4, .int (iv (place))), (5, .int (iv (k))), (6, .int (iv (v_2)))]) hx hb dX6_pullOn_196 hl (by decide) rfl (fun ls hl => ?_)
              refine lv_iload hx hb dX6_pullOn_198 (lv_at hl 0 rfl) ?_
              exact r_iretR hx hb hr hlk hQ (congrArg iv (by subst_vars; rfl)) dX6_pullOn_200
            refine r_if_le (tgt := 194) hx hb dX6_pullOn_163 (by decide) (by omega) (fun c_25 => ?_) (fun c_25 => ?_)
            · refine r_iconst hx hb dX6_pullOn_194 ?_
              exact J_28 0 ls (by rw [if_pos c_25]) (lv_sub hl [1, 2, 3, 4, 5, 6, 7, 0] rfl)
            refine lv_aload_n hx hb dX6_pullOn_166 rfl (lv_at hl 1 rfl) ?_
            refine mg_1 hx hb hts hown hK hP dX6_pullOn_167 ?_
            refine lv_iload_n hx hb dX6_pullOn_170 rfl (lv_at hl 4 rfl) ?_
            refine m_ald hx hb hK hP 1 (n := 16) rfl (by decide) (by omega) dX6_pullOn_171 ?_
            have b_30 := iM_1 (M := M) hI (beat)
            refine r_bipush hx hb (by decide) dX6_pullOn_172 ?_
            refine r_idiv hx hb (by omega) (by omega) dX6_pullOn_174 ?_
            refine lv_iload hx hb dX6_pullOn_175 (lv_at hl 5 rfl) ?_
            refine r_icmp_ne (tgt := 194) hx hb dX6_pullOn_177 (by decide) (by omega) (by omega) (fun c_31 => ?_) (fun c_31 => ?_)
            · refine r_iconst hx hb dX6_pullOn_194 ?_
              exact J_28 0 ls (by rw [if_neg c_25]; rw [if_neg c_31]) (lv_sub hl [1, 2, 3, 4, 5, 6, 7, 0] rfl)
            refine lv_aload_n hx hb dX6_pullOn_180 rfl (lv_at hl 1 rfl) ?_
            refine mg_6 hx hb hts hown hK hP dX6_pullOn_181 ?_
            refine r_iconst hx hb dX6_pullOn_184 ?_
            refine m_ald hx hb hK hP 6 (n := 5) rfl (by decide) (by omega) dX6_pullOn_185 ?_
            have b_32 := iM_6 (M := M) hI (3)
            refine lv_iload hx hb dX6_pullOn_186 (lv_at hl 6 rfl) ?_
            refine r_iconst hx hb dX6_pullOn_188 ?_
            refine r_isub hx hb dX6_pullOn_189 ?_
            refine r_imul hx hb dX6_pullOn_190 ?_
            refine lv_goto (tgt := 195) hx hb dX6_pullOn_191 (by decide) ?_
            exact J_28 ((M 6 3) * (k - 1)) ls (by rw [if_neg c_25]; rw [if_pos c_31]) (lv_sub hl [1, 2, 3, 4, 5, 6, 7, 0] rfl)
          refine r_icmp_ne (tgt := 151) hx hb dX6_pullOn_127 (by decide) (by omega) (by omega) (fun c_20 => ?_) (fun c_20 => ?_)
          · refine r_iconst hx hb dX6_pullOn_151 ?_
            exact J_23 0 ls (by rw [if_neg c_20]) (lv_sub hl [1, 2, 3, 4, 5, 6, 7, 0] rfl)
          refine lv_iload hx hb dX6_pullOn_130 (lv_at hl 7 rfl) ?_
          refine r_iconst hx hb dX6_pullOn_132 ?_
          refine r_icmp_ge (tgt := 151) hx hb dX6_pullOn_133 (by decide) (by omega) (by omega) (fun c_34 => ?_) (fun c_34 => ?_)
          · refine r_iconst hx hb dX6_pullOn_151 ?_
            exact J_23 0 ls (by rw [if_pos c_20]; rw [if_pos c_34]) (lv_sub hl [1, 2, 3, 4, 5, 6, 7, 0] rfl)
          refine lv_aload_n hx hb dX6_pullOn_136 rfl (lv_at hl 1 rfl) ?_
          refine mg_2 hx hb hts hown hK hP dX6_pullOn_137 ?_
          refine lv_iload_n hx hb dX6_pullOn_140 rfl (lv_at hl 4 rfl) ?_
          refine m_ald hx hb hK hP 2 (n := 16) rfl (by decide) (by omega) dX6_pullOn_141 ?_
          have b_35 := iM_2 (M := M) hI (beat)
          refine lv_iload hx hb dX6_pullOn_142 (lv_at hl 7 rfl) ?_
          refine r_icmp_eq (tgt := 151) hx hb dX6_pullOn_144 (by decide) (by omega) (by omega) (fun c_36 => ?_) (fun c_36 => ?_)
          · refine r_iconst hx hb dX6_pullOn_151 ?_
            exact J_23 0 ls (by rw [if_pos c_20]; rw [if_neg c_34]; rw [if_pos c_36]) (lv_sub hl [1, 2, 3, 4, 5, 6, 7, 0] rfl)
          refine lv_iload_n hx hb dX6_pullOn_147 rfl (lv_at hl 3 rfl) ?_
          refine lv_goto (tgt := 152) hx hb dX6_pullOn_148 (by decide) ?_
          exact J_23 doubt ls (by rw [if_pos c_20]; rw [if_neg c_34]; rw [if_neg c_36]) (lv_sub hl [1, 2, 3, 4, 5, 6, 7, 0] rfl)
        refine r_icmp_ne (tgt := 119) hx hb dX6_pullOn_102 (by decide) (by omega) (by omega) (fun c_16 => ?_) (fun c_16 => ?_)
        · refine r_iconst hx hb dX6_pullOn_119 ?_
          exact J_19 0 ls (by rw [if_neg c_16]) (lv_sub hl [1, 2, 3, 4, 5, 6, 7, 0] rfl)
        refine lv_iload_n hx hb dX6_pullOn_105 rfl (lv_at hl 2 rfl) ?_
        refine r_iconst hx hb dX6_pullOn_106 ?_
        refine r_icmp_eq (tgt := 119) hx hb dX6_pullOn_107 (by decide) (by omega) (by omega) (fun c_38 => ?_) (fun c_38 => ?_)
        · refine r_iconst hx hb dX6_pullOn_119 ?_
          exact J_19 0 ls (by rw [if_pos c_16]; rw [if_pos c_38]) (lv_sub hl [1, 2, 3, 4, 5, 6, 7, 0] rfl)
        refine lv_aload_n hx hb dX6_pullOn_110 rfl (lv_at hl 1 rfl) ?_
        refine mg_6 hx hb hts hown hK hP dX6_pullOn_111 ?_
        refine r_iconst hx hb dX6_pullOn_114 ?_
        refine m_ald hx hb hK hP 6 (n := 5) rfl (by decide) (by omega) dX6_pullOn_115 ?_
        have b_39 := iM_6 (M := M) hI (1)
        refine lv_goto (tgt := 120) hx hb dX6_pullOn_116 (by decide) ?_
        exact J_19 (M 6 1) ls (by rw [if_pos c_16]; rw [if_neg c_38]) (lv_sub hl [1, 2, 3, 4, 5, 6, 7, 0] rfl)
      refine r_icmp_ne (tgt := 88) hx hb dX6_pullOn_76 (by decide) (by omega) (by omega) (fun c_11 => ?_) (fun c_11 => ?_)
      · refine r_iconst hx hb dX6_pullOn_88 ?_
        exact J_14 0 ls (by rw [if_neg c_11]) (lv_sub hl [1, 2, 3, 4, 5, 6, 7, 0] rfl)
      refine lv_aload_n hx hb dX6_pullOn_79 rfl (lv_at hl 1 rfl) ?_
      refine mg_6 hx hb hts hown hK hP dX6_pullOn_80 ?_
      refine r_iconst hx hb dX6_pullOn_83 ?_
      refine m_ald hx hb hK hP 6 (n := 5) rfl (by decide) (by omega) dX6_pullOn_84 ?_
      have b_41 := iM_6 (M := M) hI (0)
      refine lv_goto (tgt := 89) hx hb dX6_pullOn_85 (by decide) ?_
      exact J_14 (M 6 0) ls (by rw [if_pos c_11]) (lv_sub hl [1, 2, 3, 4, 5, 6, 7, 0] rfl)
    refine r_if_le (tgt := 62) hx hb dX6_pullOn_33 (by decide) (by omega) (fun c_6 => ?_) (fun c_6 => ?_)
    · refine r_iconst hx hb dX6_pullOn_62 ?_
      exact J_9 0 ls (by rw [if_pos c_6]) (lv_sub hl [2, 3, 4, 5, 6, 7, 1, 0] rfl)
    refine lv_aload_n hx hb dX6_pullOn_36 rfl (lv_at hl 2 rfl) ?_
    refine mg_0 hx hb hts hown hK hP dX6_pullOn_37 ?_
    refine lv_iload_n hx hb dX6_pullOn_40 rfl (lv_at hl 5 rfl) ?_
    refine m_ald hx hb hK hP 0 (n := 16) rfl (by decide) (by omega) dX6_pullOn_41 ?_
    have b_43 := iM_0 (M := M) hI (beat)
    refine r_bipush hx hb (by decide) dX6_pullOn_42 ?_
    refine r_idiv hx hb (by omega) (by omega) dX6_pullOn_44 ?_
    refine lv_iload hx hb dX6_pullOn_45 (lv_at hl 1 rfl) ?_
    refine r_icmp_ne (tgt := 62) hx hb dX6_pullOn_47 (by decide) (by omega) (by omega) (fun c_44 => ?_) (fun c_44 => ?_)
    · refine r_iconst hx hb dX6_pullOn_62 ?_
      exact J_9 0 ls (by rw [if_neg c_6]; rw [if_neg c_44]) (lv_sub hl [2, 3, 4, 5, 6, 7, 1, 0] rfl)
    refine lv_aload_n hx hb dX6_pullOn_50 rfl (lv_at hl 2 rfl) ?_
    refine mg_0 hx hb hts hown hK hP dX6_pullOn_51 ?_
    refine lv_iload_n hx hb dX6_pullOn_54 rfl (lv_at hl 5 rfl) ?_
    refine m_ald hx hb hK hP 0 (n := 16) rfl (by decide) (by omega) dX6_pullOn_55 ?_
    have b_45 := iM_0 (M := M) hI (beat)
    refine r_bipush hx hb (by decide) dX6_pullOn_56 ?_
    refine r_irem hx hb (by omega) (by omega) dX6_pullOn_58 ?_
    refine lv_goto (tgt := 63) hx hb dX6_pullOn_59 (by decide) ?_
    exact J_9 ((M 0 beat) % 10) ls (by rw [if_neg c_6]; rw [if_pos c_44]) (lv_sub hl [2, 3, 4, 5, 6, 7, 1, 0] rfl)
  refine r_icmp_ne (tgt := 18) hx hb dX6_pullOn_2 (by decide) (by omega) (by omega) (fun c_1 => ?_) (fun c_1 => ?_)
  · refine lv_iload hx hb dX6_pullOn_18 (lv_at hl 4 rfl) ?_
    exact J_4 place ls (by rw [if_neg c_1]) (lv_sub hl [0, 1, 2, 3, 4, 5] rfl)
  refine lv_iload hx hb dX6_pullOn_5 (lv_at hl 4 rfl) ?_
  refine r_iconst hx hb dX6_pullOn_7 ?_
  refine r_icmp_ge (tgt := 18) hx hb dX6_pullOn_8 (by decide) (by omega) (by omega) (fun c_47 => ?_) (fun c_47 => ?_)
  · refine lv_iload hx hb dX6_pullOn_18 (lv_at hl 4 rfl) ?_
    exact J_4 place ls (by rw [if_pos c_1]; rw [if_pos c_47]) (lv_sub hl [0, 1, 2, 3, 4, 5] rfl)
  refine r_iconst hx hb dX6_pullOn_11 ?_
  refine lv_iload hx hb dX6_pullOn_12 (lv_at hl 4 rfl) ?_
  refine r_isub hx hb dX6_pullOn_14 ?_
  refine lv_goto (tgt := 20) hx hb dX6_pullOn_15 (by decide) ?_
  exact J_4 (1 - place) ls (by rw [if_pos c_1]; rw [if_neg c_47]) (lv_sub hl [0, 1, 2, 3, 4, 5] rfl)
set_option maxHeartbeats 4000000 in
set_option maxRecDepth 100000 in
theorem m_heedOf {l : Launch} {D : va_G} {cI : ClassId} {B : Nat → Nat} {M : St} (hI : InvM M) {watcher : Int} {beat : Int} (g_watcher : 0 ≤ watcher ∧ watcher ≤ 7) (g_beat : 0 ≤ beat ∧ beat ≤ 15) : Met l yX6_heedOf (ws_ yX6_heedOf cX6_heedOf 5 (some .int)) (rmk 1 0 0) (va_Pc [.ref (B 0), .int (iv watcher), .int (iv beat)] (mU D cI (mW cI B M))) (QcRead (iv (heedV (rv M) (M 8 (3 * watcher + 1)) (beat + 1)))) 0 0 (fun _ => False) := by
  refine r_met (by decide) _ rfl (Nat.le_of_ble_eq_true rfl) ?_
  intro p e s m args below meth c Q ls hx hb hr hlk hml hown hts hpre hQ hl
  obtain ⟨hP, hK⟩ := hpre
  have hown : s.vm.findClass RX6 = some m.cls := hown
  have hl : lv_has ls 5 [(0, .ref (B 0)), (1, .int (iv (watcher))), (2, .int (iv (beat)))] := hl
  refine r_bipush hx hb (by decide) dX6_heedOf_0 ?_
  refine lv_istore_n (lv' := [(3, .int (iv (9))), (0, .ref (B 0)), (1, .int (iv (watcher))), (2, .int (iv (beat)))]) hx hb dX6_heedOf_2 rfl hl (by decide) rfl (fun ls hl => ?_)
  refine r_iconst hx hb dX6_heedOf_3 ?_
  refine lv_istore (lv' := [(4, .int (iv (0))), (3, .int (iv (9))), (0, .ref (B 0)), (1, .int (iv (watcher))), (2, .int (iv (beat)))]) hx hb dX6_heedOf_4 hl (by decide) rfl (fun ls hl => ?_)
  have lp_6 : ∀ (n_6 : Nat) (heed : Int) (b : Int), beat + 1 - b < (n_6 : Int) → (0 ≤ b) → (b ≤ beat + 1) → (heed = heedV (rv M) (M 8 (3 * watcher + 1)) b) → ∀ (ls : Array Slot), lv_has ls 5 [(0, .ref (B 0)), (1, .int (iv (watcher))), (2, .int (iv (beat))), (3, .int (iv (heed))), (4, .int (iv (b)))] → W p l e (rmk 1 0 0) s m args below meth c s.heap [] 0 0 Q (F0 m 6 ls []) := by
    intro n_6
    induction n_6 with
    | zero =>
      intro heed b hn_6 h0 h1 h2 ls hl
      exfalso
      omega
    | succ n_6 ih_6 =>
      intro heed b hn_6 h0 h1 h2 ls hl
      have hh := heedV_r hI (M 8 (3 * watcher + 1)) b
      refine lv_iload hx hb dX6_heedOf_6 (lv_at hl 4 rfl) ?_
      refine lv_iload_n hx hb dX6_heedOf_8 rfl (lv_at hl 2 rfl) ?_
      refine r_icmp_gt (tgt := 97) hx hb dX6_heedOf_9 (by decide) (by omega) (by omega) (fun c_1 => ?_) (fun c_1 => ?_)
      · refine lv_iload_n hx hb dX6_heedOf_97 rfl (lv_at hl 3 rfl) ?_
        exact r_iretR hx hb hr hlk hQ (congrArg iv (by have e := h2; rw [show b = beat + 1 by omega] at e; exact e)) dX6_heedOf_98
      refine lv_iload_n hx hb dX6_heedOf_12 rfl (lv_at hl 3 rfl) ?_
      refine lv_aload_n hx hb dX6_heedOf_13 rfl (lv_at hl 0 rfl) ?_
      refine mg_6 hx hb hts hown hK hP dX6_heedOf_14 ?_
      refine r_iconst hx hb dX6_heedOf_17 ?_
      refine m_ald hx hb hK hP 6 (n := 5) rfl (by decide) (by omega) dX6_heedOf_18 ?_
      have b_2 := iM_6 (M := M) hI (2)
      refine r_iadd hx hb dX6_heedOf_19 ?_
      refine r_bipush hx hb (by decide) dX6_heedOf_20 ?_
      have J_6 : ∀ (v_4 : Int) (ls : Array Slot), v_4 = (if (heed + (M 6 2)) ≤ 9 then heed + (M 6 2) else 9) → lv_has ls 5 [(0, .ref (B 0)), (1, .int (iv (watcher))), (2, .int (iv (beat))), (3, .int (iv (heed))), (4, .int (iv (b)))] → W p l e (rmk 1 0 0) s m args below meth c s.heap [] 0 0 Q (F0 m 38 ls [.int (iv (v_4))]) := by
        intro v_4 ls ev_4 hl
        refine lv_istore_n (lv' := [(3, .int (iv (v_4))), (0, .ref (B 0)), (1, .int (iv (watcher))), (2, .int (iv (beat))), (4, .int (iv (b)))]) hx hb dX6_heedOf_38 rfl hl (by decide) rfl (fun ls hl => ?_)
        refine lv_iload_n hx hb dX6_heedOf_39 rfl (lv_at hl 0 rfl) ?_
        refine lv_aload_n hx hb dX6_heedOf_40 rfl (lv_at hl 1 rfl) ?_
        refine mg_3 hx hb hts hown hK hP dX6_heedOf_41 ?_
        refine lv_iload hx hb dX6_heedOf_44 (lv_at hl 4 rfl) ?_
        refine m_ald hx hb hK hP 3 (n := 16) rfl (by decide) (by omega) dX6_heedOf_46 ?_
        have b_7 := iM_3 (M := M) hI (b)
        have J_11 : ∀ (v_9 : Int) (ls : Array Slot), v_9 = (if (M 3 b) < 0 then 0 else if (M 8 ((3 * watcher) + 1)) = 2 then 0 else 2) → lv_has ls 5 [(0, .ref (B 0)), (1, .int (iv (watcher))), (2, .int (iv (beat))), (3, .int (iv (v_4))), (4, .int (iv (b)))] → W p l e (rmk 1 0 0) s m args below meth c s.heap [] 0 0 Q (F0 m 69 ls [.int (iv (v_9)), .int (iv (v_4))]) := by
          intro v_9 ls ev_9 hl
          refine r_isub hx hb dX6_heedOf_69 ?_
          refine lv_istore_n (lv' := [(3, .int (iv (v_4 - v_9))), (0, .ref (B 0)), (1, .int (iv (watcher))), (2, .int (iv (beat))), (4, .int (iv (b)))]) hx hb dX6_heedOf_70 rfl hl (by decide) rfl (fun ls hl => ?_)
          refine lv_iload_n hx hb dX6_heedOf_71 rfl (lv_at hl 0 rfl) ?_
          have J_15 : ∀ (v_13 : Int) (ls : Array Slot), v_13 = (if (v_4 - v_9) < 0 then 0 else if (M 4 b) ≤ 0 then v_4 - v_9 else 0) → lv_has ls 5 [(0, .ref (B 0)), (1, .int (iv (watcher))), (2, .int (iv (beat))), (3, .int (iv (v_4 - v_9))), (4, .int (iv (b)))] → W p l e (rmk 1 0 0) s m args below meth c s.heap [] 0 0 Q (F0 m 90 ls [.int (iv (v_13))]) := by
            intro v_13 ls ev_13 hl
            refine lv_istore_n (lv' := [(3, .int (iv (v_13))), (0, .ref (B 0)), (1, .int (iv (watcher))), (2, .int (iv (beat))), (4, .int (iv (b)))]) hx hb dX6_heedOf_90 rfl hl (by decide) rfl (fun ls hl => ?_)
            refine lv_iinc (v := iv (b + 1)) (lv' := [(4, .int (iv (b + 1))), (3, .int (iv (v_13))), (0, .ref (B 0)), (1, .int (iv (watcher))), (2, .int (iv (beat)))]) hx hb dX6_heedOf_91 hl (k := 4) rfl (iv_add _ _) (by decide) rfl (fun ls hl => ?_)
            refine lv_goto (tgt := 6) hx hb dX6_heedOf_94 (by decide) ?_
            exact ih_6 v_13 (b + 1) (by omega) (by omega) (by omega) (by rw [heedV_s _ _ h0]; subst_vars; rfl) ls (lv_sub hl [2, 3, 4, 1, 0] rfl)
          refine r_if_lt (tgt := 85) hx hb dX6_heedOf_72 (by decide) (by omega) (fun c_12 => ?_) (fun c_12 => ?_)
          · refine r_iconst hx hb dX6_heedOf_85 ?_
            refine lv_goto (tgt := 90) hx hb dX6_heedOf_86 (by decide) ?_
            exact J_15 0 ls (by rw [if_pos c_12]) (lv_sub hl [1, 2, 3, 0, 4] rfl)
          refine lv_aload_n hx hb dX6_heedOf_75 rfl (lv_at hl 1 rfl) ?_
          refine mg_4 hx hb hts hown hK hP dX6_heedOf_76 ?_
          refine lv_iload hx hb dX6_heedOf_79 (lv_at hl 4 rfl) ?_
          refine m_ald hx hb hK hP 4 (n := 16) rfl (by decide) (by omega) dX6_heedOf_81 ?_
          have b_17 := iM_4 (M := M) hI (b)
          refine r_if_le (tgt := 89) hx hb dX6_heedOf_82 (by decide) (by omega) (fun c_18 => ?_) (fun c_18 => ?_)
          · refine lv_iload_n hx hb dX6_heedOf_89 rfl (lv_at hl 0 rfl) ?_
            exact J_15 (v_4 - v_9) ls (by rw [if_neg c_12]; rw [if_pos c_18]) (lv_sub hl [1, 2, 3, 0, 4] rfl)
          refine r_iconst hx hb dX6_heedOf_85 ?_
          refine lv_goto (tgt := 90) hx hb dX6_heedOf_86 (by decide) ?_
          exact J_15 0 ls (by rw [if_neg c_12]; rw [if_neg c_18]) (lv_sub hl [1, 2, 3, 0, 4] rfl)
        refine r_if_lt (tgt := 68) hx hb dX6_heedOf_47 (by decide) (by omega) (fun c_8 => ?_) (fun c_8 => ?_)
        · refine r_iconst hx hb dX6_heedOf_68 ?_
          exact J_11 0 ls (by rw [if_pos c_8]) (lv_sub hl [1, 2, 3, 0, 4] rfl)
        refine lv_aload_n hx hb dX6_heedOf_50 rfl (lv_at hl 1 rfl) ?_
        refine mg_8 hx hb hts hown hK hP dX6_heedOf_51 ?_
        refine r_iconst hx hb dX6_heedOf_54 ?_
        refine lv_iload_n hx hb dX6_heedOf_55 rfl (lv_at hl 2 rfl) ?_
        refine r_imul hx hb dX6_heedOf_56 ?_
        refine r_iconst hx hb dX6_heedOf_57 ?_
        refine r_iadd hx hb dX6_heedOf_58 ?_
        refine m_ald hx hb hK hP 8 (n := 24) rfl (by decide) (by omega) dX6_heedOf_59 ?_
        have b_20 := iM_8 (M := M) hI ((3 * watcher) + 1)
        refine r_iconst hx hb dX6_heedOf_60 ?_
        refine r_icmp_eq (tgt := 68) hx hb dX6_heedOf_61 (by decide) (by omega) (by omega) (fun c_21 => ?_) (fun c_21 => ?_)
        · refine r_iconst hx hb dX6_heedOf_68 ?_
          exact J_11 0 ls (by rw [if_neg c_8]; rw [if_pos c_21]) (lv_sub hl [1, 2, 3, 0, 4] rfl)
        refine r_iconst hx hb dX6_heedOf_64 ?_
        refine lv_goto (tgt := 69) hx hb dX6_heedOf_65 (by decide) ?_
        exact J_11 2 ls (by rw [if_neg c_8]; rw [if_neg c_21]) (lv_sub hl [1, 2, 3, 0, 4] rfl)
      refine r_icmp_le (tgt := 30) hx hb dX6_heedOf_22 (by decide) (by omega) (by omega) (fun c_3 => ?_) (fun c_3 => ?_)
      rotate_left
      · refine r_bipush hx hb (by decide) dX6_heedOf_25 ?_
        refine lv_goto (tgt := 38) hx hb dX6_heedOf_27 (by decide) ?_
        exact J_6 9 ls (by rw [if_neg c_3]) (lv_sub hl [0, 1, 2, 3, 4] rfl)
      refine lv_iload_n hx hb dX6_heedOf_30 rfl (lv_at hl 3 rfl) ?_
      refine lv_aload_n hx hb dX6_heedOf_31 rfl (lv_at hl 0 rfl) ?_
      refine mg_6 hx hb hts hown hK hP dX6_heedOf_32 ?_
      refine r_iconst hx hb dX6_heedOf_35 ?_
      refine m_ald hx hb hK hP 6 (n := 5) rfl (by decide) (by omega) dX6_heedOf_36 ?_
      have b_23 := iM_6 (M := M) hI (2)
      refine r_iadd hx hb dX6_heedOf_37 ?_
      exact J_6 (heed + (M 6 2)) ls (by rw [if_pos c_3]) (lv_sub hl [0, 1, 2, 3, 4] rfl)
  exact lp_6 (beat + 1 - 0 + 1 : Int).toNat 9 0 (by omega) (by omega) (by omega) (heedV_0 _ _) ls (lv_sub hl [2, 3, 4, 1, 0] rfl)
set_option maxHeartbeats 4000000 in
set_option maxRecDepth 100000 in
theorem m_heed {l : Launch} {D : va_G} {cI : ClassId} {B : Nat → Nat} {M : St} (hI : InvM M) {watcher : Int} {beat : Int} (g_watcher : -2147483648 ≤ watcher ∧ watcher ≤ 2147483647) (g_beat : -2147483648 ≤ beat ∧ beat ≤ 2147483647) : Met l yX6_heed (ws_ yX6_heed cX6_heed 3 (some .int)) (rmk 3 0 0) (va_Pc [.ref (B 0), .int (iv watcher), .int (iv beat)] (mU D cI (mW cI B M))) (QcRead (iv (opHeed (rv M) (pw M) (M 7 0) watcher beat))) 0 0 (fun _ => False) := by
  refine r_met (by decide) _ rfl (Nat.le_of_ble_eq_true rfl) ?_
  intro p e s m args below meth c Q ls hx hb hr hlk hml hown hts hpre hQ hl
  obtain ⟨hP, hK⟩ := hpre
  have hown : s.vm.findClass RX6 = some m.cls := hown
  have hl : lv_has ls 3 [(0, .ref (B 0)), (1, .int (iv (watcher))), (2, .int (iv (beat)))] := hl
  refine lv_aload_n hx hb dX6_heed_0 rfl (lv_at hl 0 rfl) ?_
  refine lv_iload_n hx hb dX6_heed_1 rfl (lv_at hl 1 rfl) ?_
  refine m_cR ⟨hx, hb, hml, hown, hts⟩ (m_isOne hI (w := watcher) (by omega)) (cwV 1 hts (lw_V q1152 q1154 qs29 q60 q1155) rfl rfl rfl hdV_X6_isOne ⟨Nat.le_of_ble_eq_true rfl, Nat.le_of_ble_eq_true rfl⟩) hK hP rfl hl.1 rfl (Nat.le_of_ble_eq_true rfl) ⟨Nat.le_of_ble_eq_true rfl, Nat.le_of_ble_eq_true rfl⟩ dX6_heed_2 ?_
  have f_1 := iM_7 hI 0
  refine r_ifz_eq (tgt := 24) hx hb dX6_heed_5 (by decide) (fun c_2 => ?_) (fun c_2 => ?_)
  · refine r_iconst hx hb dX6_heed_24 ?_
    exact r_iretR hx hb hr hlk hQ (congrArg iv (by subst_vars; first | (refine Eq.trans ?_ ((if_neg (by first | assumption | omega))).symm; first | rfl | omega) | (refine Eq.trans ?_ ((if_pos (by first | assumption | omega))).symm; first | rfl | omega) | (refine Eq.trans ?_ (((if_neg (by first | assumption | omega))).trans (if_neg (by first | assumption | omega))).symm; first | rfl | omega) | (refine Eq.trans ?_ (((if_neg (by first | assumption | omega))).trans (if_pos (by first | assumption | omega))).symm; first | rfl | omega) | (refine Eq.trans ?_ (((if_pos (by first | assumption | omega))).trans (if_neg (by first | assumption | omega))).symm; first | rfl | omega) | (refine Eq.trans ?_ (((if_pos (by first | assumption | omega))).trans (if_pos (by first | assumption | omega))).symm; first | rfl | omega))) dX6_heed_25
  refine lv_iload_n hx hb dX6_heed_8 rfl (lv_at hl 2 rfl) ?_
  refine s_cR ⟨hx, hb, hml, hown, hts⟩ (m_isBeat (b := beat) (by omega)) (va_cwS 1 hts (lw_S q1107 q1108 q60 q1109) rfl rfl rfl hdS_X6_isBeat ⟨Nat.le_of_ble_eq_true rfl, Nat.le_of_ble_eq_true rfl⟩) rfl hl.1 rfl (Nat.le_of_ble_eq_true rfl) ⟨Nat.le_of_ble_eq_true rfl, Nat.le_of_ble_eq_true rfl⟩ dX6_heed_9 ?_
  refine r_ifz_eq (tgt := 24) hx hb dX6_heed_12 (by decide) (fun c_3 => ?_) (fun c_3 => ?_)
  · refine r_iconst hx hb dX6_heed_24 ?_
    exact r_iretR hx hb hr hlk hQ (congrArg iv (by subst_vars; first | (refine Eq.trans ?_ ((if_neg (by first | assumption | omega))).symm; first | rfl | omega) | (refine Eq.trans ?_ ((if_pos (by first | assumption | omega))).symm; first | rfl | omega) | (refine Eq.trans ?_ (((if_neg (by first | assumption | omega))).trans (if_neg (by first | assumption | omega))).symm; first | rfl | omega) | (refine Eq.trans ?_ (((if_neg (by first | assumption | omega))).trans (if_pos (by first | assumption | omega))).symm; first | rfl | omega) | (refine Eq.trans ?_ (((if_pos (by first | assumption | omega))).trans (if_neg (by first | assumption | omega))).symm; first | rfl | omega) | (refine Eq.trans ?_ (((if_pos (by first | assumption | omega))).trans (if_pos (by first | assumption | omega))).symm; first | rfl | omega))) dX6_heed_25
  refine lv_aload_n hx hb dX6_heed_15 rfl (lv_at hl 0 rfl) ?_
  refine lv_iload_n hx hb dX6_heed_16 rfl (lv_at hl 1 rfl) ?_
  refine lv_iload_n hx hb dX6_heed_17 rfl (lv_at hl 2 rfl) ?_
  refine m_cR ⟨hx, hb, hml, hown, hts⟩ (m_heedOf hI (watcher := watcher) (beat := beat) (by omega) (by omega)) (cwV 2 hts (lw_V q1160 q1162 qs30 q60 q1163) rfl rfl rfl hdV_X6_heedOf ⟨Nat.le_of_ble_eq_true rfl, Nat.le_of_ble_eq_true rfl⟩) hK hP rfl hl.1 rfl (Nat.le_of_ble_eq_true rfl) ⟨Nat.le_of_ble_eq_true rfl, Nat.le_of_ble_eq_true rfl⟩ dX6_heed_18 ?_
  have f_4 := heedV_r hI (M 8 (3 * watcher + 1)) (beat + 1)
  refine lv_goto (tgt := 25) hx hb dX6_heed_21 (by decide) ?_
  exact r_iretR hx hb hr hlk hQ (congrArg iv (by subst_vars; first | (refine Eq.trans ?_ ((if_neg (by first | assumption | omega))).symm; first | rfl | omega) | (refine Eq.trans ?_ ((if_pos (by first | assumption | omega))).symm; first | rfl | omega) | (refine Eq.trans ?_ (((if_neg (by first | assumption | omega))).trans (if_neg (by first | assumption | omega))).symm; first | rfl | omega) | (refine Eq.trans ?_ (((if_neg (by first | assumption | omega))).trans (if_pos (by first | assumption | omega))).symm; first | rfl | omega) | (refine Eq.trans ?_ (((if_pos (by first | assumption | omega))).trans (if_neg (by first | assumption | omega))).symm; first | rfl | omega) | (refine Eq.trans ?_ (((if_pos (by first | assumption | omega))).trans (if_pos (by first | assumption | omega))).symm; first | rfl | omega))) dX6_heed_25
set_option maxHeartbeats 4000000 in
set_option maxRecDepth 100000 in
theorem m_can {l : Launch} {D : va_G} {cI : ClassId} {B : Nat → Nat} {M : St} (hI : InvM M) {seat : Int} {place : Int} (g_seat : -2147483648 ≤ seat ∧ seat ≤ 2147483647) (g_place : -2147483648 ≤ place ∧ place ≤ 2147483647) : Met l yX6_can (ws_ yX6_can cX6_can 3 (some .int)) (rmk 3 0 0) (va_Pc [.ref (B 0), .int (iv seat), .int (iv place)] (mU D cI (mW cI B M))) (QcRead (iv (opCan (rv M) seat place))) 0 0 (fun _ => False) := by
  refine r_met (by decide) _ rfl (Nat.le_of_ble_eq_true rfl) ?_
  intro p e s m args below meth c Q ls hx hb hr hlk hml hown hts hpre hQ hl
  obtain ⟨hP, hK⟩ := hpre
  have hown : s.vm.findClass RX6 = some m.cls := hown
  have hl : lv_has ls 3 [(0, .ref (B 0)), (1, .int (iv (seat))), (2, .int (iv (place)))] := hl
  refine lv_iload_n hx hb dX6_can_0 rfl (lv_at hl 1 rfl) ?_
  refine r_i2l hx hb (by omega) dX6_can_1 ?_
  refine r_lconst hx hb 0 (by decide) dX6_can_2 ?_
  refine r_ldc2 hx hb (11) (by decide) hown (hts _ q1139) dX6_can_3 ?_
  refine s_cR ⟨hx, hb, hml, hown, hts⟩ (m_in (v := seat) (low := 0) (high := 11) (by omega) (by decide) (by decide)) (va_cwS 3 hts (lw_S q1111 q1112 q60 q1113) rfl rfl rfl hdS_X6_in ⟨Nat.le_of_ble_eq_true rfl, Nat.le_of_ble_eq_true rfl⟩) rfl hl.1 rfl (Nat.le_of_ble_eq_true rfl) ⟨Nat.le_of_ble_eq_true rfl, Nat.le_of_ble_eq_true rfl⟩ dX6_can_6 ?_
  refine r_ifz_eq (tgt := 19) hx hb dX6_can_9 (by decide) (fun c_1 => ?_) (fun c_1 => ?_)
  · refine r_iconst hx hb dX6_can_19 ?_
    exact r_iretR hx hb hr hlk hQ (congrArg iv (by first | exact (if_neg (by omega)).symm | (unfold opCan; rw [if_pos (by omega)]; first | exact (if_pos (by assumption)).symm | exact (if_neg (by assumption)).symm))) dX6_can_20
  refine lv_iload_n hx hb dX6_can_12 rfl (lv_at hl 2 rfl) ?_
  refine s_cR ⟨hx, hb, hml, hown, hts⟩ (m_isPlace (q := place) (by omega)) (va_cwS 1 hts (lw_S q1114 q1115 q60 q1116) rfl rfl rfl hdS_X6_isPlace ⟨Nat.le_of_ble_eq_true rfl, Nat.le_of_ble_eq_true rfl⟩) rfl hl.1 rfl (Nat.le_of_ble_eq_true rfl) ⟨Nat.le_of_ble_eq_true rfl, Nat.le_of_ble_eq_true rfl⟩ dX6_can_13 ?_
  refine r_ifz_ne (tgt := 21) hx hb dX6_can_16 (by decide) (fun c_2 => ?_) (fun c_2 => ?_)
  rotate_left
  · refine r_iconst hx hb dX6_can_19 ?_
    exact r_iretR hx hb hr hlk hQ (congrArg iv (by first | exact (if_neg (by omega)).symm | (unfold opCan; rw [if_pos (by omega)]; first | exact (if_pos (by assumption)).symm | exact (if_neg (by assumption)).symm))) dX6_can_20
  refine lv_aload_n hx hb dX6_can_21 rfl (lv_at hl 0 rfl) ?_
  refine lv_iload_n hx hb dX6_can_22 rfl (lv_at hl 1 rfl) ?_
  refine lv_iload_n hx hb dX6_can_23 rfl (lv_at hl 2 rfl) ?_
  refine lv_aload_n hx hb dX6_can_24 rfl (lv_at hl 0 rfl) ?_
  refine mg_5 hx hb hts hown hK hP dX6_can_25 ?_
  have b_3 := iM_5 (M := M) hI (0)
  refine m_cR ⟨hx, hb, hml, hown, hts⟩ (m_sight hI (seat := seat) (place := place) (column := M 5 0) (by omega) (by omega) (by omega)) (cwV 3 hts (lw_V q1239 q1241 qs40 q60 q1242) rfl rfl rfl hdV_X6_sight ⟨Nat.le_of_ble_eq_true rfl, Nat.le_of_ble_eq_true rfl⟩) hK hP rfl hl.1 rfl (Nat.le_of_ble_eq_true rfl) ⟨Nat.le_of_ble_eq_true rfl, Nat.le_of_ble_eq_true rfl⟩ dX6_can_28 ?_
  refine r_ifz_eq (tgt := 38) hx hb dX6_can_31 (by decide) (fun c_4 => ?_) (fun c_4 => ?_)
  · refine r_iconst hx hb dX6_can_38 ?_
    exact r_iretR hx hb hr hlk hQ (congrArg iv (by first | exact (if_neg (by omega)).symm | (unfold opCan; rw [if_pos (by omega)]; first | exact (if_pos (by assumption)).symm | exact (if_neg (by assumption)).symm))) dX6_can_39
  refine r_iconst hx hb dX6_can_34 ?_
  refine lv_goto (tgt := 39) hx hb dX6_can_35 (by decide) ?_
  exact r_iretR hx hb hr hlk hQ (congrArg iv (by first | exact (if_neg (by omega)).symm | (unfold opCan; rw [if_pos (by omega)]; first | exact (if_pos (by assumption)).symm | exact (if_neg (by assumption)).symm))) dX6_can_39
set_option maxHeartbeats 4000000 in
set_option maxRecDepth 100000 in
theorem m_pull {l : Launch} {D : va_G} {cI : ClassId} {B : Nat → Nat} {M : St} (hI : InvM M) {watcher : Int} {beat : Int} {place : Int} {k : Int} (g_watcher : -2147483648 ≤ watcher ∧ watcher ≤ 2147483647) (g_beat : -2147483648 ≤ beat ∧ beat ≤ 2147483647) (g_place : -2147483648 ≤ place ∧ place ≤ 2147483647) (g_k : -2147483648 ≤ k ∧ k ≤ 2147483647) : Met l yX6_pull (ws_ yX6_pull cX6_pull 5 (some .int)) (rmk 3 0 0) (va_Pc [.ref (B 0), .int (iv watcher), .int (iv beat), .int (iv place), .int (iv k)] (mU D cI (mW cI B M))) (QcRead (iv (opPull (rv M) (pw M) (M 7 0) watcher beat place k))) 0 0 (fun _ => False) := by
  refine r_met (by decide) _ rfl (Nat.le_of_ble_eq_true rfl) ?_
  intro p e s m args below meth c Q ls hx hb hr hlk hml hown hts hpre hQ hl
  obtain ⟨hP, hK⟩ := hpre
  have hown : s.vm.findClass RX6 = some m.cls := hown
  have hl : lv_has ls 5 [(0, .ref (B 0)), (1, .int (iv (watcher))), (2, .int (iv (beat))), (3, .int (iv (place))), (4, .int (iv (k)))] := hl
  refine lv_aload_n hx hb dX6_pull_0 rfl (lv_at hl 0 rfl) ?_
  refine lv_iload_n hx hb dX6_pull_1 rfl (lv_at hl 1 rfl) ?_
  refine m_cR ⟨hx, hb, hml, hown, hts⟩ (m_isOne hI (w := watcher) (by omega)) (cwV 1 hts (lw_V q1152 q1154 qs29 q60 q1155) rfl rfl rfl hdV_X6_isOne ⟨Nat.le_of_ble_eq_true rfl, Nat.le_of_ble_eq_true rfl⟩) hK hP rfl hl.1 rfl (Nat.le_of_ble_eq_true rfl) ⟨Nat.le_of_ble_eq_true rfl, Nat.le_of_ble_eq_true rfl⟩ dX6_pull_2 ?_
  have f_1 := iM_7 hI 0
  refine r_ifz_eq (tgt := 35) hx hb dX6_pull_5 (by decide) (fun c_2 => ?_) (fun c_2 => ?_)
  · refine r_iconst hx hb dX6_pull_35 ?_
    exact r_iretR hx hb hr hlk hQ (congrArg iv (by subst_vars; first | (refine Eq.trans ?_ ((if_neg (by first | assumption | omega))).symm; first | rfl | omega) | (refine Eq.trans ?_ ((if_pos (by first | assumption | omega))).symm; first | rfl | omega) | (refine Eq.trans ?_ (((if_neg (by first | assumption | omega))).trans (if_neg (by first | assumption | omega))).symm; first | rfl | omega) | (refine Eq.trans ?_ (((if_neg (by first | assumption | omega))).trans (if_pos (by first | assumption | omega))).symm; first | rfl | omega) | (refine Eq.trans ?_ (((if_pos (by first | assumption | omega))).trans (if_neg (by first | assumption | omega))).symm; first | rfl | omega) | (refine Eq.trans ?_ (((if_pos (by first | assumption | omega))).trans (if_pos (by first | assumption | omega))).symm; first | rfl | omega))) dX6_pull_36
  refine lv_iload_n hx hb dX6_pull_8 rfl (lv_at hl 2 rfl) ?_
  refine s_cR ⟨hx, hb, hml, hown, hts⟩ (m_isBeat (b := beat) (by omega)) (va_cwS 1 hts (lw_S q1107 q1108 q60 q1109) rfl rfl rfl hdS_X6_isBeat ⟨Nat.le_of_ble_eq_true rfl, Nat.le_of_ble_eq_true rfl⟩) rfl hl.1 rfl (Nat.le_of_ble_eq_true rfl) ⟨Nat.le_of_ble_eq_true rfl, Nat.le_of_ble_eq_true rfl⟩ dX6_pull_9 ?_
  refine r_ifz_eq (tgt := 35) hx hb dX6_pull_12 (by decide) (fun c_3 => ?_) (fun c_3 => ?_)
  · refine r_iconst hx hb dX6_pull_35 ?_
    exact r_iretR hx hb hr hlk hQ (congrArg iv (by subst_vars; first | (refine Eq.trans ?_ ((if_neg (by first | assumption | omega))).symm; first | rfl | omega) | (refine Eq.trans ?_ ((if_pos (by first | assumption | omega))).symm; first | rfl | omega) | (refine Eq.trans ?_ (((if_neg (by first | assumption | omega))).trans (if_neg (by first | assumption | omega))).symm; first | rfl | omega) | (refine Eq.trans ?_ (((if_neg (by first | assumption | omega))).trans (if_pos (by first | assumption | omega))).symm; first | rfl | omega) | (refine Eq.trans ?_ (((if_pos (by first | assumption | omega))).trans (if_neg (by first | assumption | omega))).symm; first | rfl | omega) | (refine Eq.trans ?_ (((if_pos (by first | assumption | omega))).trans (if_pos (by first | assumption | omega))).symm; first | rfl | omega))) dX6_pull_36
  refine lv_iload_n hx hb dX6_pull_15 rfl (lv_at hl 3 rfl) ?_
  refine s_cR ⟨hx, hb, hml, hown, hts⟩ (m_isPlace (q := place) (by omega)) (va_cwS 1 hts (lw_S q1114 q1115 q60 q1116) rfl rfl rfl hdS_X6_isPlace ⟨Nat.le_of_ble_eq_true rfl, Nat.le_of_ble_eq_true rfl⟩) rfl hl.1 rfl (Nat.le_of_ble_eq_true rfl) ⟨Nat.le_of_ble_eq_true rfl, Nat.le_of_ble_eq_true rfl⟩ dX6_pull_16 ?_
  refine r_ifz_eq (tgt := 35) hx hb dX6_pull_19 (by decide) (fun c_4 => ?_) (fun c_4 => ?_)
  · refine r_iconst hx hb dX6_pull_35 ?_
    exact r_iretR hx hb hr hlk hQ (congrArg iv (by subst_vars; first | (refine Eq.trans ?_ ((if_neg (by first | assumption | omega))).symm; first | rfl | omega) | (refine Eq.trans ?_ ((if_pos (by first | assumption | omega))).symm; first | rfl | omega) | (refine Eq.trans ?_ (((if_neg (by first | assumption | omega))).trans (if_neg (by first | assumption | omega))).symm; first | rfl | omega) | (refine Eq.trans ?_ (((if_neg (by first | assumption | omega))).trans (if_pos (by first | assumption | omega))).symm; first | rfl | omega) | (refine Eq.trans ?_ (((if_pos (by first | assumption | omega))).trans (if_neg (by first | assumption | omega))).symm; first | rfl | omega) | (refine Eq.trans ?_ (((if_pos (by first | assumption | omega))).trans (if_pos (by first | assumption | omega))).symm; first | rfl | omega))) dX6_pull_36
  refine lv_iload hx hb dX6_pull_22 (lv_at hl 4 rfl) ?_
  refine r_i2l hx hb (by omega) dX6_pull_24 ?_
  refine r_lconst hx hb 1 (by decide) dX6_pull_25 ?_
  refine r_ldc2 hx hb (9) (by decide) hown (hts _ q1118) dX6_pull_26 ?_
  refine s_cR ⟨hx, hb, hml, hown, hts⟩ (m_in (v := k) (low := 1) (high := 9) (by omega) (by decide) (by decide)) (va_cwS 3 hts (lw_S q1111 q1112 q60 q1113) rfl rfl rfl hdS_X6_in ⟨Nat.le_of_ble_eq_true rfl, Nat.le_of_ble_eq_true rfl⟩) rfl hl.1 rfl (Nat.le_of_ble_eq_true rfl) ⟨Nat.le_of_ble_eq_true rfl, Nat.le_of_ble_eq_true rfl⟩ dX6_pull_29 ?_
  refine r_ifz_ne (tgt := 37) hx hb dX6_pull_32 (by decide) (fun c_5 => ?_) (fun c_5 => ?_)
  rotate_left
  · refine r_iconst hx hb dX6_pull_35 ?_
    exact r_iretR hx hb hr hlk hQ (congrArg iv (by subst_vars; first | (refine Eq.trans ?_ ((if_neg (by first | assumption | omega))).symm; first | rfl | omega) | (refine Eq.trans ?_ ((if_pos (by first | assumption | omega))).symm; first | rfl | omega) | (refine Eq.trans ?_ (((if_neg (by first | assumption | omega))).trans (if_neg (by first | assumption | omega))).symm; first | rfl | omega) | (refine Eq.trans ?_ (((if_neg (by first | assumption | omega))).trans (if_pos (by first | assumption | omega))).symm; first | rfl | omega) | (refine Eq.trans ?_ (((if_pos (by first | assumption | omega))).trans (if_neg (by first | assumption | omega))).symm; first | rfl | omega) | (refine Eq.trans ?_ (((if_pos (by first | assumption | omega))).trans (if_pos (by first | assumption | omega))).symm; first | rfl | omega))) dX6_pull_36
  refine lv_aload_n hx hb dX6_pull_37 rfl (lv_at hl 0 rfl) ?_
  refine lv_aload_n hx hb dX6_pull_38 rfl (lv_at hl 0 rfl) ?_
  refine mg_8 hx hb hts hown hK hP dX6_pull_39 ?_
  refine r_iconst hx hb dX6_pull_42 ?_
  refine lv_iload_n hx hb dX6_pull_43 rfl (lv_at hl 1 rfl) ?_
  refine r_imul hx hb dX6_pull_44 ?_
  refine r_iconst hx hb dX6_pull_45 ?_
  refine r_iadd hx hb dX6_pull_46 ?_
  refine m_ald hx hb hK hP 8 (n := 24) rfl (by decide) (by omega) dX6_pull_47 ?_
  have b_6 := iM_8 (M := M) hI ((3 * watcher) + 1)
  refine lv_aload_n hx hb dX6_pull_48 rfl (lv_at hl 0 rfl) ?_
  refine mg_8 hx hb hts hown hK hP dX6_pull_49 ?_
  refine r_iconst hx hb dX6_pull_52 ?_
  refine lv_iload_n hx hb dX6_pull_53 rfl (lv_at hl 1 rfl) ?_
  refine r_imul hx hb dX6_pull_54 ?_
  refine r_iconst hx hb dX6_pull_55 ?_
  refine r_iadd hx hb dX6_pull_56 ?_
  refine m_ald hx hb hK hP 8 (n := 24) rfl (by decide) (by omega) dX6_pull_57 ?_
  have b_7 := iM_8 (M := M) hI ((3 * watcher) + 2)
  refine lv_iload_n hx hb dX6_pull_58 rfl (lv_at hl 2 rfl) ?_
  refine lv_iload_n hx hb dX6_pull_59 rfl (lv_at hl 3 rfl) ?_
  refine lv_iload hx hb dX6_pull_60 (lv_at hl 4 rfl) ?_
  refine m_cR ⟨hx, hb, hml, hown, hts⟩ (m_pullOn hI (kind := M 8 ((3 * watcher) + 1)) (doubt := M 8 ((3 * watcher) + 2)) (beat := beat) (place := place) (k := k) (by omega) (by omega) (by omega) (by omega) (by omega)) (cwV 5 hts (lw_V q1227 q1229 qs39 q60 q1230) rfl rfl rfl hdV_X6_pullOn ⟨Nat.le_of_ble_eq_true rfl, Nat.le_of_ble_eq_true rfl⟩) hK hP rfl hl.1 rfl (Nat.le_of_ble_eq_true rfl) ⟨Nat.le_of_ble_eq_true rfl, Nat.le_of_ble_eq_true rfl⟩ dX6_pull_62 ?_
  exact r_iretR hx hb hr hlk hQ (congrArg iv (by subst_vars; first | (refine Eq.trans ?_ ((if_neg (by first | assumption | omega))).symm; first | rfl | omega) | (refine Eq.trans ?_ ((if_pos (by first | assumption | omega))).symm; first | rfl | omega) | (refine Eq.trans ?_ (((if_neg (by first | assumption | omega))).trans (if_neg (by first | assumption | omega))).symm; first | rfl | omega) | (refine Eq.trans ?_ (((if_neg (by first | assumption | omega))).trans (if_pos (by first | assumption | omega))).symm; first | rfl | omega) | (refine Eq.trans ?_ (((if_pos (by first | assumption | omega))).trans (if_neg (by first | assumption | omega))).symm; first | rfl | omega) | (refine Eq.trans ?_ (((if_pos (by first | assumption | omega))).trans (if_pos (by first | assumption | omega))).symm; first | rfl | omega))) dX6_pull_65
set_option maxHeartbeats 4000000 in
set_option maxRecDepth 100000 in
theorem m_told {l : Launch} {D : va_G} {cI : ClassId} {B : Nat → Nat} {M : St} (hI : InvM M) {watcher : Int} {what : Int} (g_watcher : -2147483648 ≤ watcher ∧ watcher ≤ 2147483647) (g_what : -2147483648 ≤ what ∧ what ≤ 2147483647) : Met l yX6_told (ws_ yX6_told cX6_told 3 (some .int)) (rmk 3 0 0) (va_Pc [.ref (B 0), .int (iv watcher), .int (iv what)] (mU D cI (mW cI B M))) (QcRead (iv (opTold (rv M) (pw M) (M 7 0) watcher what))) 0 0 (fun _ => False) := by
  refine r_met (by decide) _ rfl (Nat.le_of_ble_eq_true rfl) ?_
  intro p e s m args below meth c Q ls hx hb hr hlk hml hown hts hpre hQ hl
  obtain ⟨hP, hK⟩ := hpre
  have hown : s.vm.findClass RX6 = some m.cls := hown
  have hl : lv_has ls 3 [(0, .ref (B 0)), (1, .int (iv (watcher))), (2, .int (iv (what)))] := hl
  refine lv_aload_n hx hb dX6_told_0 rfl (lv_at hl 0 rfl) ?_
  refine lv_iload_n hx hb dX6_told_1 rfl (lv_at hl 1 rfl) ?_
  refine m_cR ⟨hx, hb, hml, hown, hts⟩ (m_isOne hI (w := watcher) (by omega)) (cwV 1 hts (lw_V q1152 q1154 qs29 q60 q1155) rfl rfl rfl hdV_X6_isOne ⟨Nat.le_of_ble_eq_true rfl, Nat.le_of_ble_eq_true rfl⟩) hK hP rfl hl.1 rfl (Nat.le_of_ble_eq_true rfl) ⟨Nat.le_of_ble_eq_true rfl, Nat.le_of_ble_eq_true rfl⟩ dX6_told_2 ?_
  have f_1 := iM_7 hI 0
  refine r_ifz_eq (tgt := 20) hx hb dX6_told_5 (by decide) (fun c_2 => ?_) (fun c_2 => ?_)
  · refine r_iconst hx hb dX6_told_20 ?_
    exact r_iretR hx hb hr hlk hQ (congrArg iv (by first | exact (if_neg (by omega)).symm | (unfold opTold toldV; rw [if_pos (by omega)]; first | (rw [if_neg (by omega), if_neg (by omega)]; rfl) | (rcases (show what = 0 ∨ what = 1 by omega) with h | h <;> subst h <;> first | rfl | (rw [Int.add_zero]; rfl))))) dX6_told_21
  refine lv_iload_n hx hb dX6_told_8 rfl (lv_at hl 2 rfl) ?_
  refine r_i2l hx hb (by omega) dX6_told_9 ?_
  refine r_lconst hx hb 0 (by decide) dX6_told_10 ?_
  refine r_ldc2 hx hb (2) (by decide) hown (hts _ q1123) dX6_told_11 ?_
  refine s_cR ⟨hx, hb, hml, hown, hts⟩ (m_in (v := what) (low := 0) (high := 2) (by omega) (by decide) (by decide)) (va_cwS 3 hts (lw_S q1111 q1112 q60 q1113) rfl rfl rfl hdS_X6_in ⟨Nat.le_of_ble_eq_true rfl, Nat.le_of_ble_eq_true rfl⟩) rfl hl.1 rfl (Nat.le_of_ble_eq_true rfl) ⟨Nat.le_of_ble_eq_true rfl, Nat.le_of_ble_eq_true rfl⟩ dX6_told_14 ?_
  refine r_ifz_ne (tgt := 22) hx hb dX6_told_17 (by decide) (fun c_3 => ?_) (fun c_3 => ?_)
  rotate_left
  · refine r_iconst hx hb dX6_told_20 ?_
    exact r_iretR hx hb hr hlk hQ (congrArg iv (by first | exact (if_neg (by omega)).symm | (unfold opTold toldV; rw [if_pos (by omega)]; first | (rw [if_neg (by omega), if_neg (by omega)]; rfl) | (rcases (show what = 0 ∨ what = 1 by omega) with h | h <;> subst h <;> first | rfl | (rw [Int.add_zero]; rfl))))) dX6_told_21
  refine lv_iload_n hx hb dX6_told_22 rfl (lv_at hl 2 rfl) ?_
  refine r_iconst hx hb dX6_told_23 ?_
  refine r_icmp_ge (tgt := 40) hx hb dX6_told_24 (by decide) (by omega) (by omega) (fun c_4 => ?_) (fun c_4 => ?_)
  · refine lv_aload_n hx hb dX6_told_40 rfl (lv_at hl 0 rfl) ?_
    refine lv_iload_n hx hb dX6_told_41 rfl (lv_at hl 1 rfl) ?_
    refine r_bipush hx hb (by decide) dX6_told_42 ?_
    refine m_cR ⟨hx, hb, hml, hown, hts⟩ (m_heedOf hI (watcher := watcher) (beat := 15) (by omega) (by decide)) (cwV 2 hts (lw_V q1160 q1162 qs30 q60 q1163) rfl rfl rfl hdV_X6_heedOf ⟨Nat.le_of_ble_eq_true rfl, Nat.le_of_ble_eq_true rfl⟩) hK hP rfl hl.1 rfl (Nat.le_of_ble_eq_true rfl) ⟨Nat.le_of_ble_eq_true rfl, Nat.le_of_ble_eq_true rfl⟩ dX6_told_44 ?_
    have f_5 := heedV_r hI (M 8 (3 * watcher + 1)) (((15 : Int)) + 1)
    exact r_iretR hx hb hr hlk hQ (congrArg iv (by first | exact (if_neg (by omega)).symm | (unfold opTold toldV; rw [if_pos (by omega)]; first | (rw [if_neg (by omega), if_neg (by omega)]; rfl) | (rcases (show what = 0 ∨ what = 1 by omega) with h | h <;> subst h <;> first | rfl | (rw [Int.add_zero]; rfl))))) dX6_told_47
  refine lv_aload_n hx hb dX6_told_27 rfl (lv_at hl 0 rfl) ?_
  refine mg_8 hx hb hts hown hK hP dX6_told_28 ?_
  refine r_iconst hx hb dX6_told_31 ?_
  refine lv_iload_n hx hb dX6_told_32 rfl (lv_at hl 1 rfl) ?_
  refine r_imul hx hb dX6_told_33 ?_
  refine lv_iload_n hx hb dX6_told_34 rfl (lv_at hl 2 rfl) ?_
  refine r_iadd hx hb dX6_told_35 ?_
  refine m_ald hx hb hK hP 8 (n := 24) rfl (by decide) (by omega) dX6_told_36 ?_
  have b_6 := iM_8 (M := M) hI ((3 * watcher) + what)
  refine lv_goto (tgt := 47) hx hb dX6_told_37 (by decide) ?_
  exact r_iretR hx hb hr hlk hQ (congrArg iv (by first | exact (if_neg (by omega)).symm | (unfold opTold toldV; rw [if_pos (by omega)]; first | (rw [if_neg (by omega), if_neg (by omega)]; rfl) | (rcases (show what = 0 ∨ what = 1 by omega) with h | h <;> subst h <;> first | rfl | (rw [Int.add_zero]; rfl))))) dX6_told_47
set_option maxHeartbeats 4000000 in
set_option maxRecDepth 100000 in
theorem m_share {l : Launch} {saw : Int} {not : Int} (g_saw : 0 ≤ saw ∧ saw ≤ 999) (g_not : 0 ≤ not ∧ not ≤ 999) : Met l yX6_share (ws_ yX6_share cX6_share 2 (some .int)) (rmk 1 0 0) (va_Pc [.int (iv saw), .int (iv not)] (fun _ => True)) (QcRead (iv (shareV saw not))) 0 0 (fun _ => False) := by
  refine r_met (by decide) _ rfl (Nat.le_of_ble_eq_true rfl) ?_
  intro p e s m args below meth c Q ls hx hb hr hlk hml hown hts hpre hQ hl
  have hown : s.vm.findClass RX6 = some m.cls := hown
  have hl : lv_has ls 2 [(0, .int (iv (saw))), (1, .int (iv (not)))] := hl
  refine lv_iload_n hx hb dX6_share_0 rfl (lv_at hl 0 rfl) ?_
  refine lv_iload_n hx hb dX6_share_1 rfl (lv_at hl 1 rfl) ?_
  refine r_iadd hx hb dX6_share_2 ?_
  refine r_if_ne (tgt := 10) hx hb dX6_share_3 (by decide) (by omega) (fun c_1 => ?_) (fun c_1 => ?_)
  rotate_left
  · refine r_iconst hx hb dX6_share_6 ?_
    refine lv_goto (tgt := 19) hx hb dX6_share_7 (by decide) ?_
    exact r_iretR hx hb hr hlk hQ (congrArg iv (by subst_vars; first | (refine Eq.trans ?_ ((if_neg (by first | assumption | omega))).symm; first | rfl | omega) | (refine Eq.trans ?_ ((if_pos (by first | assumption | omega))).symm; first | rfl | omega) | (refine Eq.trans ?_ (((if_neg (by first | assumption | omega))).trans (if_neg (by first | assumption | omega))).symm; first | rfl | omega) | (refine Eq.trans ?_ (((if_neg (by first | assumption | omega))).trans (if_pos (by first | assumption | omega))).symm; first | rfl | omega) | (refine Eq.trans ?_ (((if_pos (by first | assumption | omega))).trans (if_neg (by first | assumption | omega))).symm; first | rfl | omega) | (refine Eq.trans ?_ (((if_pos (by first | assumption | omega))).trans (if_pos (by first | assumption | omega))).symm; first | rfl | omega))) dX6_share_19
  refine r_sipush hx hb (by decide) dX6_share_10 ?_
  refine lv_iload_n hx hb dX6_share_13 rfl (lv_at hl 0 rfl) ?_
  refine r_imul hx hb dX6_share_14 ?_
  refine lv_iload_n hx hb dX6_share_15 rfl (lv_at hl 0 rfl) ?_
  refine lv_iload_n hx hb dX6_share_16 rfl (lv_at hl 1 rfl) ?_
  refine r_iadd hx hb dX6_share_17 ?_
  refine r_idiv hx hb (by omega) (by omega) dX6_share_18 ?_
  exact r_iretR hx hb hr hlk hQ (congrArg iv (by subst_vars; first | (refine Eq.trans ?_ ((if_neg (by first | assumption | omega))).symm; first | rfl | omega) | (refine Eq.trans ?_ ((if_pos (by first | assumption | omega))).symm; first | rfl | omega) | (refine Eq.trans ?_ (((if_neg (by first | assumption | omega))).trans (if_neg (by first | assumption | omega))).symm; first | rfl | omega) | (refine Eq.trans ?_ (((if_neg (by first | assumption | omega))).trans (if_pos (by first | assumption | omega))).symm; first | rfl | omega) | (refine Eq.trans ?_ (((if_pos (by first | assumption | omega))).trans (if_neg (by first | assumption | omega))).symm; first | rfl | omega) | (refine Eq.trans ?_ (((if_pos (by first | assumption | omega))).trans (if_pos (by first | assumption | omega))).symm; first | rfl | omega))) dX6_share_19
