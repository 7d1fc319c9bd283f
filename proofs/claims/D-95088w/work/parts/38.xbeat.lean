/-! ===== the component: beats by routine and place ===== -/
theorem xbe {X : St} {r : Nat} {z : Int} (f : Nat) (hz : 0 ≤ z ∧ z < 16) : X (10 * ((16 * r + z.toNat) / 16) + f) (((16 * r + z.toNat) % 16 : Nat) : Int) = X (10 * r + f) z := by
  rw [show (16 * r + z.toNat) / 16 = r by omega, show (((16 * r + z.toNat) % 16 : Nat) : Int) = z by omega]
theorem xbu {X : St} {r : Nat} {z : Int} (f : Nat) (v : Int) (hz : 0 ≤ z ∧ z < 16) : upd2 X (10 * ((16 * r + z.toNat) / 16) + f) (((16 * r + z.toNat) % 16 : Nat) : Int) v = upd2 X (10 * r + f) z v := by
  rw [show (16 * r + z.toNat) / 16 = r by omega, show (((16 * r + z.toNat) % 16 : Nat) : Int) = z by omega]
theorem xbn {r : Nat} {z : Int} (hr : r < 3) (hz : 0 ≤ z ∧ z < 16) : 16 * r + z.toNat < 48 := by omega
/-- writing back what is there -/
theorem upd2_w0 {M : St} {j k : Nat} {y z v : Int} (h : k ≠ j) : upd2 (upd2 M j y v) k z (M k z) = upd2 M j y v := by
  have e : M k z = (upd2 M j y v) k z := (congrFun (upd2_k h) z).symm
  rw [e]
  exact upd2_id _ _ _
def nzV (v : Int) : Int := if v < 0 then -4 else v
def cueX (M : St) (beat what v : Int) : St := if cueOK beat what v then (if what = 0 then upd2 M 2 beat (nzV v) else if what = 1 then upd2 M 3 beat (nzV v) else upd2 M 4 beat v) else M
def ptX (M : St) (beat place : Int) : St := upd2 (upd2 (upd2 M 37 (2 * M 38 0) beat) 37 (2 * M 38 0 + 1) place) 38 0 (M 38 0 + 1)
def pointX (M : St) (beat place : Int) : St := if (0 ≤ beat ∧ beat ≤ 15) ∧ 0 ≤ place ∧ place ≤ 3 then (if M 38 0 = 24 then M else ptX M beat place) else M
def clearX (M : St) : St := upd2 (upd2 M 36 0 0) 38 0 0
def mx (a b : Int) : Int := if a < b then b else a
def mn (a b : Int) : Int := if b < a then b else a
theorem mx_d (a b : Int) : mx a b = if a < b then b else a := rfl
theorem mn_d (a b : Int) : mn a b = if b < a then b else a := rfl
theorem iv_max {a b : Int} (ha : -2147483648 ≤ a ∧ a ≤ 2147483647) (hb : -2147483648 ≤ b ∧ b ≤ 2147483647) : (if iv a < iv b then iv b else iv a) = iv (mx a b) := by
  have e := iv_lt ha hb
  unfold mx
  by_cases h : a < b
  · rw [if_pos h, if_pos (e.mpr h)]
  · rw [if_neg h, if_neg (fun q => h (e.mp q))]
theorem iv_min {a b : Int} (ha : -2147483648 ≤ a ∧ a ≤ 2147483647) (hb : -2147483648 ≤ b ∧ b ≤ 2147483647) : (if iv b < iv a then iv b else iv a) = iv (mn a b) := by
  have e := iv_lt hb ha
  unfold mn
  by_cases h : b < a
  · rw [if_pos h, if_pos (e.mpr h)]
  · rw [if_neg h, if_neg (fun q => h (e.mp q))]
