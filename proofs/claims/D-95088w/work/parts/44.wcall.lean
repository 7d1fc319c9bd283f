set_option maxRecDepth 100000
section WC
variable {p : Program} {l : Launch} {e : Env} {R : Room} {s : State} {m : MethodId} {args : Array Value} {below : List Frame} {meth : Method} {c : Code} {H : Heap} {locs : List Loc} {cells slots : Nat} {Q : State → Prop}
variable {cc : ByteArray} {pc : Nat} {ls : Array Slot} {rest st : List Value} {D : va_G} {A : Nat → Prop} {H0 : Heap}
variable {cs : Nat → ClassId} {B : Nat → Nat} {e0 : Nat} {X : St}
variable {y : MethodName} {bytes : ByteArray} {maxL n index nL mc ms : Nat} {ret : Option FieldType} {rm : Room} {As : List Value} {own : String} {free : Addr → Prop}
theorem wc_X4_23 (hts : ∀ w ∈ lw_all, w.before args s = true) (S : CallFix p m c cc nL s args lw_all RX4) (hI : InvX X) (hk : xK D cs e0 A s H) (hP : wP D vwCl (xW cs B e0 X) H) (hD : wD A (xW cs B e0 X)) {b : Nat} (hkd : 0 ≤ X 62 (b : Int) ∧ X 62 (b : Int) ≤ 3)  (hsize : ls.size = nL) (hroom : (rest.map fun v => v.category).sum ≤ 8) (hf : cells ≤ R.cells ∧ slots ≤ R.slots) (hR : 2 ≤ R.frames) (hR2 : 89 ≤ R.locals) (d : decode cc pc = .ok (.invokevirtual 23, 3)) (k : W p l e R s m args below meth c H locs cells slots Q (F0 m (pc + 3) ls (.int (iv (if X 62 (b : Int) = 2 then 0 else 1)) :: rest))) : W p l e R s m args below meth c H locs cells slots Q (F0 m pc ls (.ref b :: rest)) := by
  rcases (show X 62 (b : Int) = 0 ∨ X 62 (b : Int) = 1 ∨ X 62 (b : Int) = 2 ∨ X 62 (b : Int) = 3 by omega) with h | h | h | h
  · refine c_cRU (As := []) (i := 100 + b) S (c_listens_1 hI) hk hP hD (xW_P0 h) rfl (va_cwU (x := yX4_listens) (owner := RX4) 0 hts (lw_U q573 q576 q575 q574 q58 q582) rfl rfl rfl rfl ⟨hdV_X4_listens.2.1, hdV_X4_listens.2.2.1, hdV_X4_listens.2.2.2⟩ ⟨hR, Nat.le_trans (Nat.le_of_ble_eq_true rfl) hR2⟩) rfl hsize rfl hroom hf d ?_
    rw [if_neg (by omega)] at k; exact k
  · refine c_cRU (As := []) (i := 100 + b) S (c_listens_1 hI) hk hP hD (xW_P1 h) rfl (va_cwU (x := yX4_listens) (owner := RX4) 0 hts (lw_U q573 q576 q581 q574 q58 q582) rfl rfl rfl rfl ⟨hdV_X4_listens.2.1, hdV_X4_listens.2.2.1, hdV_X4_listens.2.2.2⟩ ⟨hR, Nat.le_trans (Nat.le_of_ble_eq_true rfl) hR2⟩) rfl hsize rfl hroom hf d ?_
    rw [if_neg (by omega)] at k; exact k
  · refine c_cRU (As := []) (i := 100 + b) S (c_listens_0 hI) hk hP hD (xW_P2 h) rfl (va_cwO (x := yX4_listens) (owner := RX4) 0 hts (lw_O q573 q576 q574 q577 q578 q64 q579) rfl rfl rfl q582 ⟨hdV_X4_listens.2.1, hdV_X4_listens.2.2.1, hdV_X4_listens.2.2.2⟩ ⟨hR, Nat.le_trans (Nat.le_of_ble_eq_true rfl) hR2⟩) rfl hsize rfl hroom hf d ?_
    rw [if_pos h] at k; exact k
  · refine c_cRU (As := []) (i := 100 + b) S (c_listens_1 hI) hk hP hD (xW_P3 h) rfl (va_cwU (x := yX4_listens) (owner := RX4) 0 hts (lw_U q573 q576 q580 q574 q58 q582) rfl rfl rfl rfl ⟨hdV_X4_listens.2.1, hdV_X4_listens.2.2.1, hdV_X4_listens.2.2.2⟩ ⟨hR, Nat.le_trans (Nat.le_of_ble_eq_true rfl) hR2⟩) rfl hsize rfl hroom hf d ?_
    rw [if_neg (by omega)] at k; exact k
theorem wc_X0_156 (hts : ∀ w ∈ lw_all, w.before args s = true) (S : CallFix p m c cc nL s args lw_all RX0) (hI : InvX X) (hk : xK D cs e0 A s H) (hP : wP D vwCl (xW cs B e0 X) H) (hD : wD A (xW cs B e0 X)) {b : Nat} (hkd : 0 ≤ X 62 (b : Int) ∧ X 62 (b : Int) ≤ 3)  (hsize : ls.size = nL) (hroom : (rest.map fun v => v.category).sum ≤ 8) (hf : cells ≤ R.cells ∧ slots ≤ R.slots) (hR : 2 ≤ R.frames) (hR2 : 89 ≤ R.locals) (d : decode cc pc = .ok (.invokevirtual 156, 3)) (k : W p l e R s m args below meth c H locs cells slots Q (F0 m (pc + 3) ls (.int (iv (X 62 (b : Int))) :: rest))) : W p l e R s m args below meth c H locs cells slots Q (F0 m pc ls (.ref b :: rest)) := by
  rcases (show X 62 (b : Int) = 0 ∨ X 62 (b : Int) = 1 ∨ X 62 (b : Int) = 2 ∨ X 62 (b : Int) = 3 by omega) with h | h | h | h
  · refine c_cRU (As := []) (i := 100 + b) S (c_kind_0 hI) hk hP hD (xW_P0 h) rfl (va_cwU (x := yX4_kind) (owner := RX4) 0 hts (lw_U q550 q553 q552 q551 q58 q563) rfl rfl rfl rfl ⟨hdV_X4_kind.2.1, hdV_X4_kind.2.2.1, hdV_X4_kind.2.2.2⟩ ⟨hR, Nat.le_trans (Nat.le_of_ble_eq_true rfl) hR2⟩) rfl hsize rfl hroom hf d ?_
    rw [h] at k; exact k
  · refine c_cRU (As := []) (i := 100 + b) S (c_kind_1 hI) hk hP hD (xW_P1 h) rfl (va_cwO (x := yX4_kind) (owner := RX4) 0 hts (lw_O q550 q553 q551 q560 q561 q63 q562) rfl rfl rfl q563 ⟨hdV_X4_kind.2.1, hdV_X4_kind.2.2.1, hdV_X4_kind.2.2.2⟩ ⟨hR, Nat.le_trans (Nat.le_of_ble_eq_true rfl) hR2⟩) rfl hsize rfl hroom hf d ?_
    rw [h] at k; exact k
  · refine c_cRU (As := []) (i := 100 + b) S (c_kind_2 hI) hk hP hD (xW_P2 h) rfl (va_cwO (x := yX4_kind) (owner := RX4) 0 hts (lw_O q550 q553 q551 q554 q555 q64 q556) rfl rfl rfl q563 ⟨hdV_X4_kind.2.1, hdV_X4_kind.2.2.1, hdV_X4_kind.2.2.2⟩ ⟨hR, Nat.le_trans (Nat.le_of_ble_eq_true rfl) hR2⟩) rfl hsize rfl hroom hf d ?_
    rw [h] at k; exact k
  · refine c_cRU (As := []) (i := 100 + b) S (c_kind_3 hI) hk hP hD (xW_P3 h) rfl (va_cwO (x := yX4_kind) (owner := RX4) 0 hts (lw_O q550 q553 q551 q557 q558 q65 q559) rfl rfl rfl q563 ⟨hdV_X4_kind.2.1, hdV_X4_kind.2.2.1, hdV_X4_kind.2.2.2⟩ ⟨hR, Nat.le_trans (Nat.le_of_ble_eq_true rfl) hR2⟩) rfl hsize rfl hroom hf d ?_
    rw [h] at k; exact k
end WC
