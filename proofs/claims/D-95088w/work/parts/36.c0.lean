set_option maxRecDepth 100000
set_option maxHeartbeats 4000000 in
set_option maxRecDepth 100000 in
theorem c_isIn {l : Launch} {v : Int} {least : Int} {most : Int} (g_v : -2147483648 ≤ v ∧ v ≤ 2147483647) (g_least : -2147483648 ≤ least ∧ least ≤ 2147483647) (g_most : -2147483648 ≤ most ∧ most ≤ 2147483647) : Met l yX0_isIn (ws_ yX0_isIn cX0_isIn 3 (some .boolean)) (rmk 1 0 0) (va_Pc [.int (iv v), .int (iv least), .int (iv most)] (fun _ => True)) (QcRead (iv (bi (least ≤ v ∧ v ≤ most)))) 0 0 (fun _ => False) := by
  refine r_met (by decide) _ rfl (Nat.le_of_ble_eq_true rfl) ?_
  intro p e s m args below meth c Q ls hx hb hr hlk hml hown hts hpre hQ hl
  have hown : s.vm.findClass RX0 = some m.cls := hown
  have hl : lv_has ls 3 [(0, .int (iv (v))), (1, .int (iv (least))), (2, .int (iv (most)))] := hl
  refine lv_iload_n hx hb dX0_isIn_0 rfl (lv_at hl 0 rfl) ?_
  refine lv_iload_n hx hb dX0_isIn_1 rfl (lv_at hl 1 rfl) ?_
  have J_4 : ∀ (v_2 : Int) (ls : Array Slot), v_2 = (if v < least then 0 else if most < v then 0 else 1) → lv_has ls 3 [(0, .int (iv (v))), (1, .int (iv (least))), (2, .int (iv (most)))] → W p l e (rmk 1 0 0) s m args below meth c s.heap [] 0 0 Q (F0 m 15 ls [.int (iv (v_2))]) := by
    intro v_2 ls ev_2 hl
    exact r_zretR hx hb hr hlk hQ (by omega) (congrArg iv (by unfold bi; omega)) dX0_isIn_15
  refine r_icmp_lt (tgt := 14) hx hb dX0_isIn_2 (by decide) (by omega) (by omega) (fun c_1 => ?_) (fun c_1 => ?_)
  · refine r_iconst hx hb dX0_isIn_14 ?_
    exact J_4 0 ls (by rw [if_pos c_1]) (lv_sub hl [0, 1, 2] rfl)
  refine lv_iload_n hx hb dX0_isIn_5 rfl (lv_at hl 0 rfl) ?_
  refine lv_iload_n hx hb dX0_isIn_6 rfl (lv_at hl 2 rfl) ?_
  refine r_icmp_gt (tgt := 14) hx hb dX0_isIn_7 (by decide) (by omega) (by omega) (fun c_6 => ?_) (fun c_6 => ?_)
  · refine r_iconst hx hb dX0_isIn_14 ?_
    exact J_4 0 ls (by rw [if_neg c_1]; rw [if_pos c_6]) (lv_sub hl [0, 1, 2] rfl)
  refine r_iconst hx hb dX0_isIn_10 ?_
  refine lv_goto (tgt := 15) hx hb dX0_isIn_11 (by decide) ?_
  exact J_4 1 ls (by rw [if_neg c_1]; rw [if_neg c_6]) (lv_sub hl [0, 1, 2] rfl)
set_option maxHeartbeats 4000000 in
set_option maxRecDepth 100000 in
theorem c_isBeat {l : Launch} {b : Int} (g_b : -2147483648 ≤ b ∧ b ≤ 2147483647) : Met l yX0_isBeat (ws_ yX0_isBeat cX0_isBeat 1 (some .boolean)) (rmk 2 0 0) (va_Pc [.int (iv b)] (fun _ => True)) (QcRead (iv (bi (0 ≤ b ∧ b ≤ 15)))) 0 0 (fun _ => False) := by
  refine r_met (by decide) _ rfl (Nat.le_of_ble_eq_true rfl) ?_
  intro p e s m args below meth c Q ls hx hb hr hlk hml hown hts hpre hQ hl
  have hown : s.vm.findClass RX0 = some m.cls := hown
  have hl : lv_has ls 1 [(0, .int (iv (b)))] := hl
  refine lv_iload_n hx hb dX0_isBeat_0 rfl (lv_at hl 0 rfl) ?_
  refine r_iconst hx hb dX0_isBeat_1 ?_
  refine r_bipush hx hb (by decide) dX0_isBeat_2 ?_
  refine s_cR ⟨hx, hb, hml, hown, hts⟩ (c_isIn (v := b) (least := 0) (most := 15) (by omega) (by decide) (by decide)) (va_cwS 3 hts (lw_S q355 q356 q49 q357) rfl rfl rfl hdS_X0_isIn ⟨Nat.le_of_ble_eq_true rfl, Nat.le_of_ble_eq_true rfl⟩) rfl hl.1 rfl (Nat.le_of_ble_eq_true rfl) ⟨Nat.le_of_ble_eq_true rfl, Nat.le_of_ble_eq_true rfl⟩ dX0_isBeat_4 ?_
  exact r_zretR hx hb hr hlk hQ (bi_01 _) (congrArg iv (bi_iff (by omega))) dX0_isBeat_7
set_option maxHeartbeats 4000000 in
set_option maxRecDepth 100000 in
theorem c_isPlace {l : Launch} {q : Int} (g_q : -2147483648 ≤ q ∧ q ≤ 2147483647) : Met l yX0_isPlace (ws_ yX0_isPlace cX0_isPlace 1 (some .boolean)) (rmk 2 0 0) (va_Pc [.int (iv q)] (fun _ => True)) (QcRead (iv (bi (0 ≤ q ∧ q ≤ 3)))) 0 0 (fun _ => False) := by
  refine r_met (by decide) _ rfl (Nat.le_of_ble_eq_true rfl) ?_
  intro p e s m args below meth c Q ls hx hb hr hlk hml hown hts hpre hQ hl
  have hown : s.vm.findClass RX0 = some m.cls := hown
  have hl : lv_has ls 1 [(0, .int (iv (q)))] := hl
  refine lv_iload_n hx hb dX0_isPlace_0 rfl (lv_at hl 0 rfl) ?_
  refine r_iconst hx hb dX0_isPlace_1 ?_
  refine r_iconst hx hb dX0_isPlace_2 ?_
  refine s_cR ⟨hx, hb, hml, hown, hts⟩ (c_isIn (v := q) (least := 0) (most := 3) (by omega) (by decide) (by decide)) (va_cwS 3 hts (lw_S q355 q356 q49 q357) rfl rfl rfl hdS_X0_isIn ⟨Nat.le_of_ble_eq_true rfl, Nat.le_of_ble_eq_true rfl⟩) rfl hl.1 rfl (Nat.le_of_ble_eq_true rfl) ⟨Nat.le_of_ble_eq_true rfl, Nat.le_of_ble_eq_true rfl⟩ dX0_isPlace_3 ?_
  exact r_zretR hx hb hr hlk hQ (bi_01 _) (congrArg iv (bi_iff (by omega))) dX0_isPlace_6
set_option maxHeartbeats 4000000 in
set_option maxRecDepth 100000 in
theorem c_isSheet {l : Launch} {q : Int} (g_q : -2147483648 ≤ q ∧ q ≤ 2147483647) : Met l yX0_isSheet (ws_ yX0_isSheet cX0_isSheet 1 (some .boolean)) (rmk 2 0 0) (va_Pc [.int (iv q)] (fun _ => True)) (QcRead (iv (bi (0 ≤ q ∧ q ≤ 3)))) 0 0 (fun _ => False) := by
  refine r_met (by decide) _ rfl (Nat.le_of_ble_eq_true rfl) ?_
  intro p e s m args below meth c Q ls hx hb hr hlk hml hown hts hpre hQ hl
  have hown : s.vm.findClass RX0 = some m.cls := hown
  have hl : lv_has ls 1 [(0, .int (iv (q)))] := hl
  refine lv_iload_n hx hb dX0_isSheet_0 rfl (lv_at hl 0 rfl) ?_
  refine r_iconst hx hb dX0_isSheet_1 ?_
  refine r_iconst hx hb dX0_isSheet_2 ?_
  refine s_cR ⟨hx, hb, hml, hown, hts⟩ (c_isIn (v := q) (least := 0) (most := 3) (by omega) (by decide) (by decide)) (va_cwS 3 hts (lw_S q355 q356 q49 q357) rfl rfl rfl hdS_X0_isIn ⟨Nat.le_of_ble_eq_true rfl, Nat.le_of_ble_eq_true rfl⟩) rfl hl.1 rfl (Nat.le_of_ble_eq_true rfl) ⟨Nat.le_of_ble_eq_true rfl, Nat.le_of_ble_eq_true rfl⟩ dX0_isSheet_3 ?_
  exact r_zretR hx hb hr hlk hQ (bi_01 _) (congrArg iv (bi_iff (by omega))) dX0_isSheet_6
set_option maxHeartbeats 4000000 in
set_option maxRecDepth 100000 in
theorem c_isLane {l : Launch} {q : Int} (g_q : -2147483648 ≤ q ∧ q ≤ 2147483647) : Met l yX0_isLane (ws_ yX0_isLane cX0_isLane 1 (some .boolean)) (rmk 2 0 0) (va_Pc [.int (iv q)] (fun _ => True)) (QcRead (iv (bi (0 ≤ q ∧ q ≤ 2)))) 0 0 (fun _ => False) := by
  refine r_met (by decide) _ rfl (Nat.le_of_ble_eq_true rfl) ?_
  intro p e s m args below meth c Q ls hx hb hr hlk hml hown hts hpre hQ hl
  have hown : s.vm.findClass RX0 = some m.cls := hown
  have hl : lv_has ls 1 [(0, .int (iv (q)))] := hl
  refine lv_iload_n hx hb dX0_isLane_0 rfl (lv_at hl 0 rfl) ?_
  refine r_iconst hx hb dX0_isLane_1 ?_
  refine r_iconst hx hb dX0_isLane_2 ?_
  refine s_cR ⟨hx, hb, hml, hown, hts⟩ (c_isIn (v := q) (least := 0) (most := 2) (by omega) (by decide) (by decide)) (va_cwS 3 hts (lw_S q355 q356 q49 q357) rfl rfl rfl hdS_X0_isIn ⟨Nat.le_of_ble_eq_true rfl, Nat.le_of_ble_eq_true rfl⟩) rfl hl.1 rfl (Nat.le_of_ble_eq_true rfl) ⟨Nat.le_of_ble_eq_true rfl, Nat.le_of_ble_eq_true rfl⟩ dX0_isLane_3 ?_
  exact r_zretR hx hb hr hlk hQ (bi_01 _) (congrArg iv (bi_iff (by omega))) dX0_isLane_6
set_option maxHeartbeats 4000000 in
set_option maxRecDepth 100000 in
theorem c_isTime {l : Launch} {k : Int} (g_k : -2147483648 ≤ k ∧ k ≤ 2147483647) : Met l yX0_isTime (ws_ yX0_isTime cX0_isTime 1 (some .boolean)) (rmk 2 0 0) (va_Pc [.int (iv k)] (fun _ => True)) (QcRead (iv (bi (1 ≤ k ∧ k ≤ 9)))) 0 0 (fun _ => False) := by
  refine r_met (by decide) _ rfl (Nat.le_of_ble_eq_true rfl) ?_
  intro p e s m args below meth c Q ls hx hb hr hlk hml hown hts hpre hQ hl
  have hown : s.vm.findClass RX0 = some m.cls := hown
  have hl : lv_has ls 1 [(0, .int (iv (k)))] := hl
  refine lv_iload_n hx hb dX0_isTime_0 rfl (lv_at hl 0 rfl) ?_
  refine r_iconst hx hb dX0_isTime_1 ?_
  refine r_bipush hx hb (by decide) dX0_isTime_2 ?_
  refine s_cR ⟨hx, hb, hml, hown, hts⟩ (c_isIn (v := k) (least := 1) (most := 9) (by omega) (by decide) (by decide)) (va_cwS 3 hts (lw_S q355 q356 q49 q357) rfl rfl rfl hdS_X0_isIn ⟨Nat.le_of_ble_eq_true rfl, Nat.le_of_ble_eq_true rfl⟩) rfl hl.1 rfl (Nat.le_of_ble_eq_true rfl) ⟨Nat.le_of_ble_eq_true rfl, Nat.le_of_ble_eq_true rfl⟩ dX0_isTime_4 ?_
  exact r_zretR hx hb hr hlk hQ (bi_01 _) (congrArg iv (bi_iff (by omega))) dX0_isTime_7
set_option maxHeartbeats 4000000 in
set_option maxRecDepth 100000 in
theorem c_has {l : Launch} {set : Int} {k : Int} (g_set : 0 ≤ set ∧ set ≤ 255) (g_k : 0 ≤ k ∧ k ≤ 7) : Met l yX0_has (ws_ yX0_has cX0_has 2 (some .boolean)) (rmk 1 0 0) (va_Pc [.int (iv set), .int (iv k)] (fun _ => True)) (QcRead (iv (bi (bitV set k = 1)))) 0 0 (fun _ => False) := by
  refine r_met (by decide) _ rfl (Nat.le_of_ble_eq_true rfl) ?_
  intro p e s m args below meth c Q ls hx hb hr hlk hml hown hts hpre hQ hl
  have hown : s.vm.findClass RX0 = some m.cls := hown
  have hl : lv_has ls 2 [(0, .int (iv (set))), (1, .int (iv (k)))] := hl
  refine lv_iload_n hx hb dX0_has_0 rfl (lv_at hl 0 rfl) ?_
  refine lv_iload_n hx hb dX0_has_1 rfl (lv_at hl 1 rfl) ?_
  refine lv_ishr hx hb dX0_has_2 ?_
  refine r_iconst hx hb dX0_has_3 ?_
  refine lv_iand hx hb dX0_has_4 ?_
  refine r_topv (b := bitV set k) (bit_iv (by omega) (by omega)) ?_
  have f_1 := bitV_r set k
  refine r_iconst hx hb dX0_has_5 ?_
  have J_5 : ∀ (v_3 : Int) (ls : Array Slot), v_3 = (if (bitV set k) = 1 then 1 else 0) → lv_has ls 2 [(0, .int (iv (set))), (1, .int (iv (k)))] → W p l e (rmk 1 0 0) s m args below meth c s.heap [] 0 0 Q (F0 m 14 ls [.int (iv (v_3))]) := by
    intro v_3 ls ev_3 hl
    exact r_zretR hx hb hr hlk hQ (by omega) (congrArg iv (by unfold bi; omega)) dX0_has_14
  refine r_icmp_ne (tgt := 13) hx hb dX0_has_6 (by decide) (by omega) (by omega) (fun c_2 => ?_) (fun c_2 => ?_)
  · refine r_iconst hx hb dX0_has_13 ?_
    exact J_5 0 ls (by rw [if_neg c_2]) (lv_sub hl [0, 1] rfl)
  refine r_iconst hx hb dX0_has_9 ?_
  refine lv_goto (tgt := 14) hx hb dX0_has_10 (by decide) ?_
  exact J_5 1 ls (by rw [if_pos c_2]) (lv_sub hl [0, 1] rfl)
set_option maxHeartbeats 4000000 in
set_option maxRecDepth 100000 in
theorem c_share {l : Launch} {saw : Int} {not : Int} (g_saw : 0 ≤ saw ∧ saw ≤ 999) (g_not : 0 ≤ not ∧ not ≤ 999) : Met l yX0_share (ws_ yX0_share cX0_share 2 (some .int)) (rmk 1 0 0) (va_Pc [.int (iv saw), .int (iv not)] (fun _ => True)) (QcRead (iv (shareV saw not))) 0 0 (fun _ => False) := by
  refine r_met (by decide) _ rfl (Nat.le_of_ble_eq_true rfl) ?_
  intro p e s m args below meth c Q ls hx hb hr hlk hml hown hts hpre hQ hl
  have hown : s.vm.findClass RX0 = some m.cls := hown
  have hl : lv_has ls 2 [(0, .int (iv (saw))), (1, .int (iv (not)))] := hl
  refine lv_iload_n hx hb dX0_share_0 rfl (lv_at hl 0 rfl) ?_
  refine lv_iload_n hx hb dX0_share_1 rfl (lv_at hl 1 rfl) ?_
  refine r_iadd hx hb dX0_share_2 ?_
  refine r_if_ne (tgt := 10) hx hb dX0_share_3 (by decide) (by omega) (fun c_1 => ?_) (fun c_1 => ?_)
  rotate_left
  · refine r_iconst hx hb dX0_share_6 ?_
    refine lv_goto (tgt := 19) hx hb dX0_share_7 (by decide) ?_
    exact r_iretR hx hb hr hlk hQ (congrArg iv (by subst_vars; first | (refine Eq.trans ?_ ((if_neg (by first | assumption | omega))).symm; first | rfl | omega) | (refine Eq.trans ?_ ((if_pos (by first | assumption | omega))).symm; first | rfl | omega) | (refine Eq.trans ?_ (((if_neg (by first | assumption | omega))).trans (if_neg (by first | assumption | omega))).symm; first | rfl | omega) | (refine Eq.trans ?_ (((if_neg (by first | assumption | omega))).trans (if_pos (by first | assumption | omega))).symm; first | rfl | omega) | (refine Eq.trans ?_ (((if_pos (by first | assumption | omega))).trans (if_neg (by first | assumption | omega))).symm; first | rfl | omega) | (refine Eq.trans ?_ (((if_pos (by first | assumption | omega))).trans (if_pos (by first | assumption | omega))).symm; first | rfl | omega))) dX0_share_19
  refine r_sipush hx hb (by decide) dX0_share_10 ?_
  refine lv_iload_n hx hb dX0_share_13 rfl (lv_at hl 0 rfl) ?_
  refine r_imul hx hb dX0_share_14 ?_
  refine lv_iload_n hx hb dX0_share_15 rfl (lv_at hl 0 rfl) ?_
  refine lv_iload_n hx hb dX0_share_16 rfl (lv_at hl 1 rfl) ?_
  refine r_iadd hx hb dX0_share_17 ?_
  refine r_idiv hx hb (by omega) (by omega) dX0_share_18 ?_
  exact r_iretR hx hb hr hlk hQ (congrArg iv (by subst_vars; first | (refine Eq.trans ?_ ((if_neg (by first | assumption | omega))).symm; first | rfl | omega) | (refine Eq.trans ?_ ((if_pos (by first | assumption | omega))).symm; first | rfl | omega) | (refine Eq.trans ?_ (((if_neg (by first | assumption | omega))).trans (if_neg (by first | assumption | omega))).symm; first | rfl | omega) | (refine Eq.trans ?_ (((if_neg (by first | assumption | omega))).trans (if_pos (by first | assumption | omega))).symm; first | rfl | omega) | (refine Eq.trans ?_ (((if_pos (by first | assumption | omega))).trans (if_neg (by first | assumption | omega))).symm; first | rfl | omega) | (refine Eq.trans ?_ (((if_pos (by first | assumption | omega))).trans (if_pos (by first | assumption | omega))).symm; first | rfl | omega))) dX0_share_19
set_option maxHeartbeats 4000000 in
set_option maxRecDepth 100000 in
theorem c_common {l : Launch} {a : Int} {b : Int} (g_a : 0 ≤ a ∧ a ≤ 1000000000) (g_b : 0 ≤ b ∧ b ≤ 1000000000) : Met l yX0_common (ws_ yX0_common cX0_common 5 (some .int)) (rmk 1 0 0) (va_Pc [.int (iv a), .int (iv b)] (fun _ => True)) (QcRead (iv (gcdV a b))) 0 0 (fun _ => False) := by
  refine r_met (by decide) _ rfl (Nat.le_of_ble_eq_true rfl) ?_
  intro p e s m args below meth c Q ls hx hb hr hlk hml hown hts hpre hQ hl
  have hown : s.vm.findClass RX0 = some m.cls := hown
  have hl : lv_has ls 5 [(0, .int (iv (a))), (1, .int (iv (b)))] := hl
  refine lv_iload_n hx hb dX0_common_0 rfl (lv_at hl 0 rfl) ?_
  refine lv_istore_n (lv' := [(2, .int (iv (a))), (0, .int (iv (a))), (1, .int (iv (b)))]) hx hb dX0_common_1 rfl hl (by decide) rfl (fun ls hl => ?_)
  refine lv_iload_n hx hb dX0_common_2 rfl (lv_at hl 2 rfl) ?_
  refine lv_istore_n (lv' := [(3, .int (iv (b))), (2, .int (iv (a))), (0, .int (iv (a))), (1, .int (iv (b)))]) hx hb dX0_common_3 rfl hl (by decide) rfl (fun ls hl => ?_)
  have lp_4 : ∀ (n_4 : Nat) (aa : Int) (bb : Int), bb < (n_4 : Int) → (0 ≤ aa) → (0 ≤ bb) → (aa ≤ 1000000000) → (bb ≤ 1000000000) → (gcdV aa bb = gcdV a b) → ∀ (ls : Array Slot), lv_has ls 5 [(0, .int (iv (a))), (1, .int (iv (b))), (2, .int (iv (aa))), (3, .int (iv (bb)))] → W p l e (rmk 1 0 0) s m args below meth c s.heap [] 0 0 Q (F0 m 4 ls []) := by
    intro n_4
    induction n_4 with
    | zero =>
      intro aa bb hn_4 h0 h1 h2 h3 h4 ls hl
      exfalso
      omega
    | succ n_4 ih_4 =>
      intro aa bb hn_4 h0 h1 h2 h3 h4 ls hl
      refine lv_iload_n hx hb dX0_common_4 rfl (lv_at hl 3 rfl) ?_
      refine r_if_eq (tgt := 21) hx hb dX0_common_5 (by decide) (by omega) (fun c_1 => ?_) (fun c_1 => ?_)
      · refine lv_iload_n hx hb dX0_common_21 rfl (lv_at hl 2 rfl) ?_
        exact r_iretR hx hb hr hlk hQ (congrArg iv (by have e := h4; rw [show bb = 0 by omega, gcdV_0 (by omega)] at e; exact e)) dX0_common_22
      refine lv_iload_n hx hb dX0_common_8 rfl (lv_at hl 2 rfl) ?_
      refine lv_iload_n hx hb dX0_common_9 rfl (lv_at hl 3 rfl) ?_
      refine r_irem hx hb (by omega) (by omega) dX0_common_10 ?_
      refine lv_istore (lv' := [(4, .int (iv (aa % bb))), (0, .int (iv (a))), (1, .int (iv (b))), (2, .int (iv (aa))), (3, .int (iv (bb)))]) hx hb dX0_common_11 hl (by decide) rfl (fun ls hl => ?_)
      refine lv_iload_n hx hb dX0_common_13 rfl (lv_at hl 4 rfl) ?_
      refine lv_istore_n (lv' := [(2, .int (iv (bb))), (4, .int (iv (aa % bb))), (0, .int (iv (a))), (1, .int (iv (b))), (3, .int (iv (bb)))]) hx hb dX0_common_14 rfl hl (by decide) rfl (fun ls hl => ?_)
      refine lv_iload hx hb dX0_common_15 (lv_at hl 1 rfl) ?_
      refine lv_istore_n (lv' := [(3, .int (iv (aa % bb))), (2, .int (iv (bb))), (4, .int (iv (aa % bb))), (0, .int (iv (a))), (1, .int (iv (b)))]) hx hb dX0_common_17 rfl hl (by decide) rfl (fun ls hl => ?_)
      refine lv_goto (tgt := 4) hx hb dX0_common_18 (by decide) ?_
      exact ih_4 bb (aa % bb) (by have := Int.emod_lt_of_pos aa (show 0 < bb by omega); omega) (by omega) (Int.emod_nonneg _ (by omega)) (by omega) (by have := Int.emod_lt_of_pos aa (show 0 < bb by omega); omega) (by rw [← h4]; exact gcdV_step _ _) ls (lv_sub hl [3, 4, 1, 0] rfl)
  exact lp_4 (b + 1 : Int).toNat a b (by omega) (by omega) (by omega) (by omega) (by omega) (rfl) ls (lv_sub hl [2, 3, 1, 0] rfl)
