/-! ===== ints and longs as whole numbers (own rows) ===== -/
def iv (z : Int) : Int32 := Int32.ofInt z
def jv (z : Int) : Int64 := Int64.ofInt z
theorem iv_add (a b : Int) : iv a + iv b = iv (a + b) := (Int32.ofInt_add a b).symm
theorem iv_sub (a b : Int) : iv a - iv b = iv (a - b) := (Int32.ofInt_sub a b).symm
theorem iv_mul (a b : Int) : iv a * iv b = iv (a * b) := (Int32.ofInt_mul a b).symm
theorem iv_neg (a : Int) : -iv a = iv (-a) := (Int32.ofInt_neg a).symm
theorem jv_add (a b : Int) : jv a + jv b = jv (a + b) := (Int64.ofInt_add a b).symm
theorem jv_sub (a b : Int) : jv a - jv b = jv (a - b) := (Int64.ofInt_sub a b).symm
theorem jv_mul (a b : Int) : jv a * jv b = jv (a * b) := (Int64.ofInt_mul a b).symm
theorem iv_self (x : Int32) : iv x.toInt = x := Int32.ofInt_toInt x
theorem iv_toInt {z : Int} (h : -2147483648 ≤ z ∧ z ≤ 2147483647) : (iv z).toInt = z := Int32.toInt_ofInt_of_le (by omega) (by omega)
theorem jv_toInt {z : Int} (h : -9223372036854775808 ≤ z ∧ z ≤ 9223372036854775807) : (jv z).toInt = z := Int64.toInt_ofInt_of_le (by omega) (by omega)
theorem iv_lt {a b : Int} (ha : -2147483648 ≤ a ∧ a ≤ 2147483647) (hb : -2147483648 ≤ b ∧ b ≤ 2147483647) : iv a < iv b ↔ a < b := by
  rw [Int32.lt_iff_toInt_lt, iv_toInt ha, iv_toInt hb]
theorem iv_le {a b : Int} (ha : -2147483648 ≤ a ∧ a ≤ 2147483647) (hb : -2147483648 ≤ b ∧ b ≤ 2147483647) : iv a ≤ iv b ↔ a ≤ b := by
  rw [Int32.le_iff_toInt_le, iv_toInt ha, iv_toInt hb]
theorem iv_eq {a b : Int} (ha : -2147483648 ≤ a ∧ a ≤ 2147483647) (hb : -2147483648 ≤ b ∧ b ≤ 2147483647) : iv a = iv b ↔ a = b := by
  constructor
  · intro h
    have h2 := congrArg Int32.toInt h
    rwa [iv_toInt ha, iv_toInt hb] at h2
  · intro h
    rw [h]
theorem jv_lt {a b : Int} (ha : -9223372036854775808 ≤ a ∧ a ≤ 9223372036854775807) (hb : -9223372036854775808 ≤ b ∧ b ≤ 9223372036854775807) : jv a < jv b ↔ a < b := by
  rw [Int64.lt_iff_toInt_lt, jv_toInt ha, jv_toInt hb]
theorem jv_eq {a b : Int} (ha : -9223372036854775808 ≤ a ∧ a ≤ 9223372036854775807) (hb : -9223372036854775808 ≤ b ∧ b ≤ 9223372036854775807) : jv a = jv b ↔ a = b := by
  constructor
  · intro h
    have h2 := congrArg Int64.toInt h
    rwa [jv_toInt ha, jv_toInt hb] at h2
  · intro h
    rw [h]
theorem iv_clamp {z : Int} (h : 0 ≤ z ∧ z ≤ 2147483647) : (iv z).toNatClampNeg = z.toNat := by
  show (iv z).toInt.toNat = z.toNat
  rw [iv_toInt (by omega)]
theorem iv_0 : iv 0 = 0 := by decide
theorem iv_1 : iv 1 = 1 := by decide
theorem iv_in {z : Int} {n : Nat} (h : 0 ≤ z ∧ z < (n : Int)) (hn : n ≤ 2147483647) : vp_in (iv z) n := by
  rw [vp_in_iff, iv_toInt (by omega)]
  exact h
theorem iv_div {a b : Int} (ha : 0 ≤ a ∧ a ≤ 2147483647) (hb : 0 < b ∧ b ≤ 2147483647) : iv a / iv b = iv (a / b) := by
  have h := Int32.ofInt_tdiv (a := a) (b := b) (by rw [Int32.toInt_minValue]; omega) (by rw [Int32.toInt_maxValue]; omega) (by rw [Int32.toInt_minValue]; omega) (by rw [Int32.toInt_maxValue]; omega)
  rw [Int.tdiv_eq_ediv_of_nonneg ha.1] at h
  exact h.symm
theorem iv_rem {a b : Int} (ha : 0 ≤ a ∧ a ≤ 2147483647) (hb : 0 < b ∧ b ≤ 2147483647) : iv a - iv a / iv b * iv b = iv (a % b) := by
  rw [iv_div ha hb, iv_mul, iv_sub]
  have h := Int.mul_ediv_add_emod a b
  have h2 : a / b * b = b * (a / b) := Int.mul_comm _ _
  congr 1
  omega
theorem jv_div {a b : Int} (ha : 0 ≤ a ∧ a ≤ 9223372036854775807) (hb : 0 < b ∧ b ≤ 9223372036854775807) : jv a / jv b = jv (a / b) := by
  have h := Int64.ofInt_tdiv (a := a) (b := b) (by rw [Int64.toInt_minValue]; omega) (by rw [Int64.toInt_maxValue]; omega) (by rw [Int64.toInt_minValue]; omega) (by rw [Int64.toInt_maxValue]; omega)
  rw [Int.tdiv_eq_ediv_of_nonneg ha.1] at h
  exact h.symm
theorem jv_rem {a b : Int} (ha : 0 ≤ a ∧ a ≤ 9223372036854775807) (hb : 0 < b ∧ b ≤ 9223372036854775807) : jv a - jv a / jv b * jv b = jv (a % b) := by
  rw [jv_div ha hb, jv_mul, jv_sub]
  have h := Int.mul_ediv_add_emod a b
  have h2 : a / b * b = b * (a / b) := Int.mul_comm _ _
  congr 1
  omega
theorem iv_i2l {z : Int} (h : -2147483648 ≤ z ∧ z ≤ 2147483647) : (iv z).toInt64 = jv z := Int32.toInt64_ofInt (by rw [Int32.toInt_minValue]; omega) (by rw [Int32.toInt_maxValue]; omega)
theorem jv_l2i (z : Int) : (jv z).toInt32 = iv z := Int64.toInt32_ofInt
theorem iv_nat (n : Nat) : iv (n : Int) = nI n := Int32.ofInt_eq_ofNat
theorem iv_range (x : Int32) : -2147483648 ≤ x.toInt ∧ x.toInt ≤ 2147483647 := by
  have h1 := Int32.le_toInt x
  have h2 := Int32.toInt_lt x
  omega
/-- a truth value as a number -/
def bi (c : Prop) [Decidable c] : Int := if c then 1 else 0
theorem bi_1 {c : Prop} [Decidable c] (h : c) : bi c = 1 := if_pos h
theorem bi_0 {c : Prop} [Decidable c] (h : ¬ c) : bi c = 0 := if_neg h
theorem bi_01 (c : Prop) [Decidable c] : bi c = 0 ∨ bi c = 1 := by
  unfold bi
  split
  · exact Or.inr rfl
  · exact Or.inl rfl
theorem bi_iff {c d : Prop} [Decidable c] [Decidable d] (h : c ↔ d) : bi c = bi d := by
  by_cases hc : c
  · rw [bi_1 hc, bi_1 (h.mp hc)]
  · rw [bi_0 hc, bi_0 (fun q => hc (h.mpr q))]
theorem iv_z01 {z : Int} (h : z = 0 ∨ z = 1) : narrow .boolean (.int (iv z)) = .int (iv z) ∧ fits .boolean (.int (iv z)) = true := by
  rcases h with rfl | rfl
  · exact ⟨rfl, rfl⟩
  · exact ⟨rfl, rfl⟩
/-- one entry of a table of numbers replaced -/
def upd2 (M : Nat → Int → Int) (k : Nat) (i v : Int) : Nat → Int → Int := fun k' i' => if k' = k then (if i' = i then v else M k' i') else M k' i'
theorem upd2_k {M : Nat → Int → Int} {k k' : Nat} {i v : Int} (h : k' ≠ k) : upd2 M k i v k' = M k' := by
  funext j
  exact if_neg h
theorem upd2_e {M : Nat → Int → Int} {k : Nat} {i v : Int} : upd2 M k i v k i = v := by
  unfold upd2
  rw [if_pos rfl, if_pos rfl]
theorem upd2_n {M : Nat → Int → Int} {k : Nat} {i j v : Int} (h : j ≠ i) : upd2 M k i v k j = M k j := by
  unfold upd2
  rw [if_pos rfl, if_neg h]
theorem upd2_s {M : Nat → Int → Int} {k : Nat} {i j v : Int} : upd2 M k i v k j = if j = i then v else M k j := by
  unfold upd2
  rw [if_pos rfl]
theorem upd_iv (M : Nat → Int → Int) (k : Nat) {z : Int} (v : Int) (h : 0 ≤ z ∧ z ≤ 2147483647) : upd (fun j : Nat => iv (M k (j : Int))) (iv z).toNatClampNeg (iv v) = fun j : Nat => iv (upd2 M k z v k (j : Int)) := by
  funext j
  rw [iv_clamp h, upd2_s]
  unfold upd
  by_cases hj : j = z.toNat
  · rw [if_pos hj, if_pos (by omega)]
  · rw [if_neg hj, if_neg (by omega)]
/-- how longs compare -/
def cj (a b : Int) : Int := if b < a then 1 else if a = b then 0 else -1
theorem cj_iv {a b : Int} (ha : -9223372036854775808 ≤ a ∧ a ≤ 9223372036854775807) (hb : -9223372036854775808 ≤ b ∧ b ≤ 9223372036854775807) : lg_cmp (jv a) (jv b) = iv (cj a b) := by
  unfold lg_cmp cj
  by_cases h1 : b < a
  · rw [if_pos h1, if_pos (show jv a > jv b from (jv_lt hb ha).mpr h1)]
    rfl
  · rw [if_neg h1, if_neg (fun h : jv a > jv b => h1 ((jv_lt hb ha).mp h))]
    by_cases h2 : a = b
    · rw [if_pos h2, if_pos (by rw [h2])]
      rfl
    · rw [if_neg h2, if_neg (fun h => h2 ((jv_eq ha hb).mp h))]
      rfl
theorem cj_lt (a b : Int) : cj a b < 0 ↔ a < b := by
  unfold cj
  split
  · omega
  · split <;> omega
theorem cj_gt (a b : Int) : 0 < cj a b ↔ b < a := by
  unfold cj
  split
  · omega
  · split <;> omega
theorem cj_eq (a b : Int) : cj a b = 0 ↔ a = b := by
  unfold cj
  split
  · omega
  · split <;> omega
theorem cj_r (a b : Int) : -1 ≤ cj a b ∧ cj a b ≤ 1 := by
  unfold cj
  split
  · omega
  · split <;> omega
/-! ===== instructions over whole numbers ===== -/
section RW
variable {p : Program} {l : Launch} {e : Env} {R : Room} {s : State} {m : MethodId} {args : Array Value} {below : List Frame} {meth : Method} {c : Code} {H : Heap} {locs : List Loc} {cells slots : Nat} {Q : State → Prop}
variable {cc : ByteArray} {pc : Nat} {ls : Array Slot} {rest : List Value}
theorem r_iconst (hx : p.tables.exec = Jvm.exec) (hb : c.code = cc) {n : Int} (d : decode cc pc = .ok (.iconst n, 1)) (k : W p l e R s m args below meth c H locs cells slots Q (F0 m (pc + 1) ls (.int (iv n) :: rest))) : W p l e R s m args below meth c H locs cells slots Q (F0 m pc ls rest) := lv_iconst hx hb d rfl k
theorem r_bipush (hx : p.tables.exec = Jvm.exec) (hb : c.code = cc) {n : Int} (hn : (Int8.ofInt n).toInt32 = iv n) (d : decode cc pc = .ok (.bipush n, 2)) (k : W p l e R s m args below meth c H locs cells slots Q (F0 m (pc + 2) ls (.int (iv n) :: rest))) : W p l e R s m args below meth c H locs cells slots Q (F0 m pc ls rest) := lv_bipush hx hb d hn k
theorem r_sipush (hx : p.tables.exec = Jvm.exec) (hb : c.code = cc) {n : Int} (hn : (Int16.ofInt n).toInt32 = iv n) (d : decode cc pc = .ok (.sipush n, 3)) (k : W p l e R s m args below meth c H locs cells slots Q (F0 m (pc + 3) ls (.int (iv n) :: rest))) : W p l e R s m args below meth c H locs cells slots Q (F0 m pc ls rest) := lv_sipush hx hb d hn k
theorem r_ldc (hx : p.tables.exec = Jvm.exec) (hb : c.code = cc) {own : String} {index : Nat} {v : Int32} (n : Int) (hn : v = iv n) (hown : s.vm.findClass own = some m.cls) (hc : (Jvm.Cond.constant own index v).before args s = true) (d : decode cc pc = .ok (.ldc index, 2)) (k : W p l e R s m args below meth c H locs cells slots Q (F0 m (pc + 2) ls (.int (iv n) :: rest))) : W p l e R s m args below meth c H locs cells slots Q (F0 m pc ls rest) := lv_ldc hx hb hown hc d (hn ▸ k)
theorem r_lconst (hx : p.tables.exec = Jvm.exec) (hb : c.code = cc) {n : Fin 2} (z : Int) (hz : Int64.ofNat (n : Nat) = jv z) (d : decode cc pc = .ok (.lconst n, 1)) (k : W p l e R s m args below meth c H locs cells slots Q (F0 m (pc + 1) ls (.long (jv z) :: rest))) : W p l e R s m args below meth c H locs cells slots Q (F0 m pc ls rest) := lv_lconst hx hb d hz k
theorem r_ldc2 (hx : p.tables.exec = Jvm.exec) (hb : c.code = cc) {own : String} {index : Nat} {v : Int64} (n : Int) (hn : v = jv n) (hown : s.vm.findClass own = some m.cls) (hc : (Jvm.Cond.constantLong own index v).before args s = true) (d : decode cc pc = .ok (.ldc2_w index, 3)) (k : W p l e R s m args below meth c H locs cells slots Q (F0 m (pc + 3) ls (.long (jv n) :: rest))) : W p l e R s m args below meth c H locs cells slots Q (F0 m pc ls rest) := lv_ldc2 hx hb hown hc d (hn ▸ k)
theorem r_iadd (hx : p.tables.exec = Jvm.exec) (hb : c.code = cc) {a b : Int} (d : decode cc pc = .ok (.iadd, 1)) (k : W p l e R s m args below meth c H locs cells slots Q (F0 m (pc + 1) ls (.int (iv (a + b)) :: rest))) : W p l e R s m args below meth c H locs cells slots Q (F0 m pc ls (.int (iv b) :: .int (iv a) :: rest)) := lv_iadd hx hb d (by rw [iv_add]; exact k)
theorem r_isub (hx : p.tables.exec = Jvm.exec) (hb : c.code = cc) {a b : Int} (d : decode cc pc = .ok (.isub, 1)) (k : W p l e R s m args below meth c H locs cells slots Q (F0 m (pc + 1) ls (.int (iv (a - b)) :: rest))) : W p l e R s m args below meth c H locs cells slots Q (F0 m pc ls (.int (iv b) :: .int (iv a) :: rest)) := lv_isub hx hb d (by rw [iv_sub]; exact k)
theorem r_imul (hx : p.tables.exec = Jvm.exec) (hb : c.code = cc) {a b : Int} (d : decode cc pc = .ok (.imul, 1)) (k : W p l e R s m args below meth c H locs cells slots Q (F0 m (pc + 1) ls (.int (iv (a * b)) :: rest))) : W p l e R s m args below meth c H locs cells slots Q (F0 m pc ls (.int (iv b) :: .int (iv a) :: rest)) := lv_imul hx hb d (by rw [iv_mul]; exact k)
theorem r_idiv (hx : p.tables.exec = Jvm.exec) (hb : c.code = cc) {a b : Int} (ha : 0 ≤ a ∧ a ≤ 2147483647) (hb2 : 0 < b ∧ b ≤ 2147483647) (d : decode cc pc = .ok (.idiv, 1)) (k : W p l e R s m args below meth c H locs cells slots Q (F0 m (pc + 1) ls (.int (iv (a / b)) :: rest))) : W p l e R s m args below meth c H locs cells slots Q (F0 m pc ls (.int (iv b) :: .int (iv a) :: rest)) := lv_idiv hx hb d (by rw [← iv_0, iv_eq (by omega) (by omega)]; omega) (by rw [iv_div ha hb2]; exact k)
theorem r_irem (hx : p.tables.exec = Jvm.exec) (hb : c.code = cc) {a b : Int} (ha : 0 ≤ a ∧ a ≤ 2147483647) (hb2 : 0 < b ∧ b ≤ 2147483647) (d : decode cc pc = .ok (.irem, 1)) (k : W p l e R s m args below meth c H locs cells slots Q (F0 m (pc + 1) ls (.int (iv (a % b)) :: rest))) : W p l e R s m args below meth c H locs cells slots Q (F0 m pc ls (.int (iv b) :: .int (iv a) :: rest)) := lv_irem hx hb d (by rw [← iv_0, iv_eq (by omega) (by omega)]; omega) (by rw [iv_rem ha hb2]; exact k)
theorem r_ineg (hx : p.tables.exec = Jvm.exec) (hb : c.code = cc) {a : Int} (d : decode cc pc = .ok (.ineg, 1)) (k : W p l e R s m args below meth c H locs cells slots Q (F0 m (pc + 1) ls (.int (iv (-a)) :: rest))) : W p l e R s m args below meth c H locs cells slots Q (F0 m pc ls (.int (iv a) :: rest)) := lv_ineg hx hb d (by rw [iv_neg]; exact k)
theorem r_ladd (hx : p.tables.exec = Jvm.exec) (hb : c.code = cc) {a b : Int} (d : decode cc pc = .ok (.ladd, 1)) (k : W p l e R s m args below meth c H locs cells slots Q (F0 m (pc + 1) ls (.long (jv (a + b)) :: rest))) : W p l e R s m args below meth c H locs cells slots Q (F0 m pc ls (.long (jv b) :: .long (jv a) :: rest)) := lv_ladd hx hb d (by rw [jv_add]; exact k)
theorem r_lsub (hx : p.tables.exec = Jvm.exec) (hb : c.code = cc) {a b : Int} (d : decode cc pc = .ok (.lsub, 1)) (k : W p l e R s m args below meth c H locs cells slots Q (F0 m (pc + 1) ls (.long (jv (a - b)) :: rest))) : W p l e R s m args below meth c H locs cells slots Q (F0 m pc ls (.long (jv b) :: .long (jv a) :: rest)) := lv_lsub hx hb d (by rw [jv_sub]; exact k)
theorem r_lmul (hx : p.tables.exec = Jvm.exec) (hb : c.code = cc) {a b : Int} (d : decode cc pc = .ok (.lmul, 1)) (k : W p l e R s m args below meth c H locs cells slots Q (F0 m (pc + 1) ls (.long (jv (a * b)) :: rest))) : W p l e R s m args below meth c H locs cells slots Q (F0 m pc ls (.long (jv b) :: .long (jv a) :: rest)) := lv_lmul hx hb d (by rw [jv_mul]; exact k)
theorem jv_0 : jv 0 = 0 := by decide
theorem r_ldiv (hx : p.tables.exec = Jvm.exec) (hb : c.code = cc) {a b : Int} (ha : 0 ≤ a ∧ a ≤ 9223372036854775807) (hb2 : 0 < b ∧ b ≤ 9223372036854775807) (d : decode cc pc = .ok (.ldiv, 1)) (k : W p l e R s m args below meth c H locs cells slots Q (F0 m (pc + 1) ls (.long (jv (a / b)) :: rest))) : W p l e R s m args below meth c H locs cells slots Q (F0 m pc ls (.long (jv b) :: .long (jv a) :: rest)) := lv_ldiv hx hb d (by rw [← jv_0, jv_eq (by omega) (by omega)]; omega) (by rw [jv_div ha hb2]; exact k)
theorem r_lrem (hx : p.tables.exec = Jvm.exec) (hb : c.code = cc) {a b : Int} (ha : 0 ≤ a ∧ a ≤ 9223372036854775807) (hb2 : 0 < b ∧ b ≤ 9223372036854775807) (d : decode cc pc = .ok (.lrem, 1)) (k : W p l e R s m args below meth c H locs cells slots Q (F0 m (pc + 1) ls (.long (jv (a % b)) :: rest))) : W p l e R s m args below meth c H locs cells slots Q (F0 m pc ls (.long (jv b) :: .long (jv a) :: rest)) := lv_lrem hx hb d (by rw [← jv_0, jv_eq (by omega) (by omega)]; omega) (by rw [jv_rem ha hb2]; exact k)
theorem r_i2l (hx : p.tables.exec = Jvm.exec) (hb : c.code = cc) {a : Int} (ha : -2147483648 ≤ a ∧ a ≤ 2147483647) (d : decode cc pc = .ok (.i2l, 1)) (k : W p l e R s m args below meth c H locs cells slots Q (F0 m (pc + 1) ls (.long (jv a) :: rest))) : W p l e R s m args below meth c H locs cells slots Q (F0 m pc ls (.int (iv a) :: rest)) := lv_i2l hx hb d (iv_i2l ha) k
theorem r_l2i (hx : p.tables.exec = Jvm.exec) (hb : c.code = cc) {a : Int} (d : decode cc pc = .ok (.l2i, 1)) (k : W p l e R s m args below meth c H locs cells slots Q (F0 m (pc + 1) ls (.int (iv a) :: rest))) : W p l e R s m args below meth c H locs cells slots Q (F0 m pc ls (.long (jv a) :: rest)) := lv_l2i hx hb d (jv_l2i a) k
theorem r_lcmp (hx : p.tables.exec = Jvm.exec) (hb : c.code = cc) {a b : Int} (ha : -9223372036854775808 ≤ a ∧ a ≤ 9223372036854775807) (hb2 : -9223372036854775808 ≤ b ∧ b ≤ 9223372036854775807) (d : decode cc pc = .ok (.lcmp, 1)) (k : W p l e R s m args below meth c H locs cells slots Q (F0 m (pc + 1) ls (.int (iv (cj a b)) :: rest))) : W p l e R s m args below meth c H locs cells slots Q (F0 m pc ls (.long (jv b) :: .long (jv a) :: rest)) := W.lcmp hx hb d (by rw [cj_iv ha hb2]; exact k)
/-- the number on top under another name -/
theorem r_top {a b : Int} (h : a = b) (k : W p l e R s m args below meth c H locs cells slots Q (F0 m pc ls (.int (iv b) :: rest))) : W p l e R s m args below meth c H locs cells slots Q (F0 m pc ls (.int (iv a) :: rest)) := by rw [h]; exact k
theorem r_topv {a : Int32} {b : Int} (h : a = iv b) (k : W p l e R s m args below meth c H locs cells slots Q (F0 m pc ls (.int (iv b) :: rest))) : W p l e R s m args below meth c H locs cells slots Q (F0 m pc ls (.int a :: rest)) := by rw [h]; exact k
theorem r_topl {a : Int64} {b : Int} (h : a = jv b) (k : W p l e R s m args below meth c H locs cells slots Q (F0 m pc ls (.long (jv b) :: rest))) : W p l e R s m args below meth c H locs cells slots Q (F0 m pc ls (.long a :: rest)) := by rw [h]; exact k
theorem r_if_eq (hx : p.tables.exec = Jvm.exec) (hb : c.code = cc) {a : Int} {off : Int} {tgt : Nat} (d : decode cc pc = .ok (.ifCond .eq off, 3)) (ht : (pc : Int) + off = (tgt : Int)) (ha : -2147483648 ≤ a ∧ a ≤ 2147483647) (kt : a = 0 → W p l e R s m args below meth c H locs cells slots Q (F0 m tgt ls rest)) (kf : ¬ a = 0 → W p l e R s m args below meth c H locs cells slots Q (F0 m (pc + 3) ls rest)) : W p l e R s m args below meth c H locs cells slots Q (F0 m pc ls (.int (iv a) :: rest)) := lv_if_eq hx hb d ht (fun h => kt ((iv_eq ha (by omega)).mp (h.trans iv_0.symm))) (fun h => kf (fun q => h (by rw [q]; exact iv_0)))
theorem r_if_ne (hx : p.tables.exec = Jvm.exec) (hb : c.code = cc) {a : Int} {off : Int} {tgt : Nat} (d : decode cc pc = .ok (.ifCond .ne off, 3)) (ht : (pc : Int) + off = (tgt : Int)) (ha : -2147483648 ≤ a ∧ a ≤ 2147483647) (kt : ¬ a = 0 → W p l e R s m args below meth c H locs cells slots Q (F0 m tgt ls rest)) (kf : a = 0 → W p l e R s m args below meth c H locs cells slots Q (F0 m (pc + 3) ls rest)) : W p l e R s m args below meth c H locs cells slots Q (F0 m pc ls (.int (iv a) :: rest)) := by
  refine lv_if_ne hx hb d ht (fun h => ?_) (fun h => ?_)
  · exact kt (fun q => by rw [q, iv_0] at h; exact absurd rfl h)
  · exact kf ((iv_eq ha (by omega)).mp (Eq.trans (Classical.byContradiction fun q => absurd q (by simpa using h)) iv_0.symm))
theorem r_if_lt (hx : p.tables.exec = Jvm.exec) (hb : c.code = cc) {a : Int} {off : Int} {tgt : Nat} (d : decode cc pc = .ok (.ifCond .lt off, 3)) (ht : (pc : Int) + off = (tgt : Int)) (ha : -2147483648 ≤ a ∧ a ≤ 2147483647) (kt : a < 0 → W p l e R s m args below meth c H locs cells slots Q (F0 m tgt ls rest)) (kf : ¬ a < 0 → W p l e R s m args below meth c H locs cells slots Q (F0 m (pc + 3) ls rest)) : W p l e R s m args below meth c H locs cells slots Q (F0 m pc ls (.int (iv a) :: rest)) := lv_if_lt hx hb d ht (fun h => kt ((iv_lt ha (by omega)).mp (iv_0 ▸ h))) (fun h => kf (fun q => h (iv_0 ▸ (iv_lt ha (by omega)).mpr q)))
theorem r_if_ge (hx : p.tables.exec = Jvm.exec) (hb : c.code = cc) {a : Int} {off : Int} {tgt : Nat} (d : decode cc pc = .ok (.ifCond .ge off, 3)) (ht : (pc : Int) + off = (tgt : Int)) (ha : -2147483648 ≤ a ∧ a ≤ 2147483647) (kt : 0 ≤ a → W p l e R s m args below meth c H locs cells slots Q (F0 m tgt ls rest)) (kf : ¬ 0 ≤ a → W p l e R s m args below meth c H locs cells slots Q (F0 m (pc + 3) ls rest)) : W p l e R s m args below meth c H locs cells slots Q (F0 m pc ls (.int (iv a) :: rest)) := lv_if_ge hx hb d ht (fun h => kt ((iv_le (by omega) ha).mp (iv_0 ▸ h))) (fun h => kf (fun q => h (iv_0 ▸ (iv_le (by omega) ha).mpr q)))
theorem r_if_gt (hx : p.tables.exec = Jvm.exec) (hb : c.code = cc) {a : Int} {off : Int} {tgt : Nat} (d : decode cc pc = .ok (.ifCond .gt off, 3)) (ht : (pc : Int) + off = (tgt : Int)) (ha : -2147483648 ≤ a ∧ a ≤ 2147483647) (kt : 0 < a → W p l e R s m args below meth c H locs cells slots Q (F0 m tgt ls rest)) (kf : ¬ 0 < a → W p l e R s m args below meth c H locs cells slots Q (F0 m (pc + 3) ls rest)) : W p l e R s m args below meth c H locs cells slots Q (F0 m pc ls (.int (iv a) :: rest)) := lv_if_gt hx hb d ht (fun h => kt ((iv_lt (by omega) ha).mp (iv_0 ▸ h))) (fun h => kf (fun q => h (iv_0 ▸ (iv_lt (by omega) ha).mpr q)))
theorem r_if_le (hx : p.tables.exec = Jvm.exec) (hb : c.code = cc) {a : Int} {off : Int} {tgt : Nat} (d : decode cc pc = .ok (.ifCond .le off, 3)) (ht : (pc : Int) + off = (tgt : Int)) (ha : -2147483648 ≤ a ∧ a ≤ 2147483647) (kt : a ≤ 0 → W p l e R s m args below meth c H locs cells slots Q (F0 m tgt ls rest)) (kf : ¬ a ≤ 0 → W p l e R s m args below meth c H locs cells slots Q (F0 m (pc + 3) ls rest)) : W p l e R s m args below meth c H locs cells slots Q (F0 m pc ls (.int (iv a) :: rest)) := lv_if_le hx hb d ht (fun h => kt ((iv_le ha (by omega)).mp (iv_0 ▸ h))) (fun h => kf (fun q => h (iv_0 ▸ (iv_le ha (by omega)).mpr q)))
theorem r_icmp_eq (hx : p.tables.exec = Jvm.exec) (hb : c.code = cc) {a b : Int} {off : Int} {tgt : Nat} (d : decode cc pc = .ok (.if_icmp .eq off, 3)) (ht : (pc : Int) + off = (tgt : Int)) (ha : -2147483648 ≤ a ∧ a ≤ 2147483647) (hb2 : -2147483648 ≤ b ∧ b ≤ 2147483647) (kt : a = b → W p l e R s m args below meth c H locs cells slots Q (F0 m tgt ls rest)) (kf : ¬ a = b → W p l e R s m args below meth c H locs cells slots Q (F0 m (pc + 3) ls rest)) : W p l e R s m args below meth c H locs cells slots Q (F0 m pc ls (.int (iv b) :: .int (iv a) :: rest)) := lv_icmp_eq hx hb d ht (fun h => kt ((iv_eq ha hb2).mp h)) (fun h => kf (fun q => h (by rw [q])))
theorem r_icmp_ne (hx : p.tables.exec = Jvm.exec) (hb : c.code = cc) {a b : Int} {off : Int} {tgt : Nat} (d : decode cc pc = .ok (.if_icmp .ne off, 3)) (ht : (pc : Int) + off = (tgt : Int)) (ha : -2147483648 ≤ a ∧ a ≤ 2147483647) (hb2 : -2147483648 ≤ b ∧ b ≤ 2147483647) (kt : ¬ a = b → W p l e R s m args below meth c H locs cells slots Q (F0 m tgt ls rest)) (kf : a = b → W p l e R s m args below meth c H locs cells slots Q (F0 m (pc + 3) ls rest)) : W p l e R s m args below meth c H locs cells slots Q (F0 m pc ls (.int (iv b) :: .int (iv a) :: rest)) := by
  refine lv_icmp_ne hx hb d ht (fun h => ?_) (fun h => ?_)
  · exact kt (fun q => by rw [q] at h; exact absurd rfl h)
  · exact kf ((iv_eq ha hb2).mp (Classical.byContradiction fun q => absurd q (by simpa using h)))
theorem r_icmp_lt (hx : p.tables.exec = Jvm.exec) (hb : c.code = cc) {a b : Int} {off : Int} {tgt : Nat} (d : decode cc pc = .ok (.if_icmp .lt off, 3)) (ht : (pc : Int) + off = (tgt : Int)) (ha : -2147483648 ≤ a ∧ a ≤ 2147483647) (hb2 : -2147483648 ≤ b ∧ b ≤ 2147483647) (kt : a < b → W p l e R s m args below meth c H locs cells slots Q (F0 m tgt ls rest)) (kf : ¬ a < b → W p l e R s m args below meth c H locs cells slots Q (F0 m (pc + 3) ls rest)) : W p l e R s m args below meth c H locs cells slots Q (F0 m pc ls (.int (iv b) :: .int (iv a) :: rest)) := lv_icmp_lt hx hb d ht (fun h => kt ((iv_lt ha hb2).mp h)) (fun h => kf (fun q => h ((iv_lt ha hb2).mpr q)))
theorem r_icmp_ge (hx : p.tables.exec = Jvm.exec) (hb : c.code = cc) {a b : Int} {off : Int} {tgt : Nat} (d : decode cc pc = .ok (.if_icmp .ge off, 3)) (ht : (pc : Int) + off = (tgt : Int)) (ha : -2147483648 ≤ a ∧ a ≤ 2147483647) (hb2 : -2147483648 ≤ b ∧ b ≤ 2147483647) (kt : b ≤ a → W p l e R s m args below meth c H locs cells slots Q (F0 m tgt ls rest)) (kf : ¬ b ≤ a → W p l e R s m args below meth c H locs cells slots Q (F0 m (pc + 3) ls rest)) : W p l e R s m args below meth c H locs cells slots Q (F0 m pc ls (.int (iv b) :: .int (iv a) :: rest)) := lv_icmp_ge hx hb d ht (fun h => kt ((iv_le hb2 ha).mp h)) (fun h => kf (fun q => h ((iv_le hb2 ha).mpr q)))
theorem r_icmp_gt (hx : p.tables.exec = Jvm.exec) (hb : c.code = cc) {a b : Int} {off : Int} {tgt : Nat} (d : decode cc pc = .ok (.if_icmp .gt off, 3)) (ht : (pc : Int) + off = (tgt : Int)) (ha : -2147483648 ≤ a ∧ a ≤ 2147483647) (hb2 : -2147483648 ≤ b ∧ b ≤ 2147483647) (kt : b < a → W p l e R s m args below meth c H locs cells slots Q (F0 m tgt ls rest)) (kf : ¬ b < a → W p l e R s m args below meth c H locs cells slots Q (F0 m (pc + 3) ls rest)) : W p l e R s m args below meth c H locs cells slots Q (F0 m pc ls (.int (iv b) :: .int (iv a) :: rest)) := lv_icmp_gt hx hb d ht (fun h => kt ((iv_lt hb2 ha).mp h)) (fun h => kf (fun q => h ((iv_lt hb2 ha).mpr q)))
theorem r_icmp_le (hx : p.tables.exec = Jvm.exec) (hb : c.code = cc) {a b : Int} {off : Int} {tgt : Nat} (d : decode cc pc = .ok (.if_icmp .le off, 3)) (ht : (pc : Int) + off = (tgt : Int)) (ha : -2147483648 ≤ a ∧ a ≤ 2147483647) (hb2 : -2147483648 ≤ b ∧ b ≤ 2147483647) (kt : a ≤ b → W p l e R s m args below meth c H locs cells slots Q (F0 m tgt ls rest)) (kf : ¬ a ≤ b → W p l e R s m args below meth c H locs cells slots Q (F0 m (pc + 3) ls rest)) : W p l e R s m args below meth c H locs cells slots Q (F0 m pc ls (.int (iv b) :: .int (iv a) :: rest)) := lv_icmp_le hx hb d ht (fun h => kt ((iv_le ha hb2).mp h)) (fun h => kf (fun q => h ((iv_le ha hb2).mpr q)))
/-- a truth value is asked -/
theorem r_ifz_eq (hx : p.tables.exec = Jvm.exec) (hb : c.code = cc) {q : Prop} [Decidable q] {off : Int} {tgt : Nat} (d : decode cc pc = .ok (.ifCond .eq off, 3)) (ht : (pc : Int) + off = (tgt : Int)) (kt : ¬ q → W p l e R s m args below meth c H locs cells slots Q (F0 m tgt ls rest)) (kf : q → W p l e R s m args below meth c H locs cells slots Q (F0 m (pc + 3) ls rest)) : W p l e R s m args below meth c H locs cells slots Q (F0 m pc ls (.int (iv (bi q)) :: rest)) := by
  refine r_if_eq hx hb d ht (by rcases bi_01 q with h | h <;> omega) (fun h => kt (fun hq => ?_)) (fun h => kf (Classical.byContradiction fun hq => h (bi_0 hq)))
  rw [bi_1 hq] at h
  exact absurd h (by decide)
theorem r_ifz_ne (hx : p.tables.exec = Jvm.exec) (hb : c.code = cc) {q : Prop} [Decidable q] {off : Int} {tgt : Nat} (d : decode cc pc = .ok (.ifCond .ne off, 3)) (ht : (pc : Int) + off = (tgt : Int)) (kt : q → W p l e R s m args below meth c H locs cells slots Q (F0 m tgt ls rest)) (kf : ¬ q → W p l e R s m args below meth c H locs cells slots Q (F0 m (pc + 3) ls rest)) : W p l e R s m args below meth c H locs cells slots Q (F0 m pc ls (.int (iv (bi q)) :: rest)) := by
  refine r_if_ne hx hb d ht (by rcases bi_01 q with h | h <;> omega) (fun h => kt (Classical.byContradiction fun hq => h (bi_0 hq))) (fun h => kf (fun hq => ?_))
  rw [bi_1 hq] at h
  exact absurd h (by decide)
/-! ends -/
theorem r_iretR (hx : p.tables.exec = Jvm.exec) (hb : c.code = cc) (hr : meth.sig.returnType = some .int) (hlk : meth.locks = false) {r v : Int32} (hQ : Q = MQ below (QcRead r) args s 0 0 (fun _ => False)) (hv : v = r) (d : decode cc pc = .ok (.ireturn, 1)) : W p l e R s m args below meth c s.heap [] 0 0 Q (F0 m pc ls [.int v]) := by
  subst hQ
  subst hv
  exact W.iret hx hb hr (fun t ht _ => ⟨rfl, ht⟩) (fun q h => by cases h) d hlk
theorem r_zretR (hx : p.tables.exec = Jvm.exec) (hb : c.code = cc) (hr : meth.sig.returnType = some .boolean) (hlk : meth.locks = false) {r : Int32} {z : Int} (hQ : Q = MQ below (QcRead r) args s 0 0 (fun _ => False)) (h01 : z = 0 ∨ z = 1) (hv : iv z = r) (d : decode cc pc = .ok (.ireturn, 1)) : W p l e R s m args below meth c s.heap [] 0 0 Q (F0 m pc ls [.int (iv z)]) := by
  subst hQ
  subst hv
  exact W.zret hx hb hr (iv_z01 h01).1 (fun t ht _ => ⟨rfl, ht⟩) (fun q h => by cases h) d hlk
theorem r_iretS {S : Type} {post : Int32 → S → Prop} {Bf : S → State → Prop} {A : Nat → Prop} {v : Int32} (hx : p.tables.exec = Jvm.exec) (hb : c.code = cc) (hr : meth.sig.returnType = some .int) (hlk : meth.locks = false) (hQ : Q = MQ below (va_Qi post Bf A) args s cells slots A) (u : S) (hp : post v u) (hB : ∀ t : State, t.heap = H → s.WarmedH t.vm → Bf u t) (hS : va_S A s.heap H locs) (d : decode cc pc = .ok (.ireturn, 1)) : W p l e R s m args below meth c H locs cells slots Q (F0 m pc ls [.int v]) := by
  subst hQ
  exact W.iret hx hb hr (fun t ht hW => ⟨⟨v, u, rfl, hp, hB t ht hW⟩, hS.F ht⟩) hS.2.2 d hlk
theorem r_zretS {S : Type} {post : Int32 → S → Prop} {Bf : S → State → Prop} {A : Nat → Prop} {z : Int} (hx : p.tables.exec = Jvm.exec) (hb : c.code = cc) (hr : meth.sig.returnType = some .boolean) (hlk : meth.locks = false) (hQ : Q = MQ below (va_Qi post Bf A) args s cells slots A) (h01 : z = 0 ∨ z = 1) (u : S) (hp : post (iv z) u) (hB : ∀ t : State, t.heap = H → s.WarmedH t.vm → Bf u t) (hS : va_S A s.heap H locs) (d : decode cc pc = .ok (.ireturn, 1)) : W p l e R s m args below meth c H locs cells slots Q (F0 m pc ls [.int (iv z)]) := by
  subst hQ
  exact W.zret hx hb hr (iv_z01 h01).1 (fun t ht hW => ⟨⟨iv z, u, rfl, hp, hB t ht hW⟩, hS.F ht⟩) hS.2.2 d hlk
theorem r_vretS {S : Type} {post : S → Prop} {Bf : S → State → Prop} {A : Nat → Prop} (hx : p.tables.exec = Jvm.exec) (hb : c.code = cc) (hr : meth.sig.returnType = none) (hlk : meth.locks = false) (hQ : Q = MQ below (va_Qv post Bf A) args s cells slots A) (u : S) (hp : post u) (hB : ∀ t : State, t.heap = H → s.WarmedH t.vm → Bf u t) (hS : va_S A s.heap H locs) (d : decode cc pc = .ok (.return_, 1)) : W p l e R s m args below meth c H locs cells slots Q (F0 m pc ls []) := by
  subst hQ
  exact W.vret hx hb hr (fun t ht hW => ⟨⟨u, rfl, hp, hB t ht hW⟩, hS.F ht⟩) hS.2.2 d hlk
end RW
/-- a contract out of a walk of the body -/
theorem r_met {l : Launch} {y : MethodName} {rm : Room} {pre : State → Prop} {Qc : Array Value → State → Outcome → State → Prop} {mc ms : Nat} {free : Addr → Prop} {cc : ByteArray} {maxL : Nat} {ret : Option FieldType} (hy : plainName y.cls = true) (av : List Value) {lvl : List (Nat × Value)} (hlv : lv_args 0 av = lvl) (hlen : (lg_sl av).length ≤ maxL)
    (body : ∀ (p : Program) (e : Env) (s : State) (m : MethodId) (args : Array Value) (below : List Frame) (meth : Method) (c : Code) (Q : State → Prop) (ls : Array Slot), p.tables.exec = Jvm.exec → c.code = cc → meth.sig.returnType = ret → meth.locks = false → c.maxLocals = maxL → s.vm.findClass y.cls = some m.cls → (∀ w ∈ lw_all, w.before args s = true) → pre s → Q = MQ below Qc args s mc ms free → lv_has ls maxL lvl → W p l e rm s m args below meth c s.heap [] 0 0 Q (F0 m 0 ls [])) : Met l y (ws_ y cc maxL ret) rm (va_Pc av pre) Qc mc ms free := by
  refine Met.ofW (cc := cc) (maxL := maxL) (ret := ret) hy rfl ?_
  intro p e s m args below meth c s₁ B hml hv
  obtain ⟨hargs, hpre⟩ := hv
  have hts := atoms_spec (ws := ws_ y cc maxL ret) B.pre
  have hts : ∀ w ∈ lw_all, w.before args s = true := fun w h => hts w (List.mem_cons_of_mem _ h)
  have hl := lv_entry av (n := maxL) hlen
  rw [hlv] at hl
  have hent : entryFrame m args maxL = F0 m 0 ((lg_sl av ++ List.replicate (maxL - (lg_sl av).length) Slot.unset).toArray) [] := by
    rw [hargs]
    exact lg_entry_eq m av maxL
  rw [hent]
  exact body p e s m args below meth c _ _ B.exec B.bytes B.returns B.notSynchronized hml (findClass_of_methodNamed B.named) hts hpre rfl hl
/-- the room of a method d calls deep -/
def rmk (d mc ms : Nat) : Room := { frames := d, cells := mc, slots := ms, locals := 60 * d }
/-! ===== worlds by roles ===== -/
abbrev wT : Type := Nat → Option (Nat × va_E)
def wP (D : va_G) (cl : List vw_C) (w : wT) (H : Heap) : Prop := ∀ (i : Nat) (q : Nat × va_E), w i = some q → va_at D cl q H
def wD (A : Nat → Prop) (w : wT) : Prop := (∀ (i j : Nat) (p q : Nat × va_E), w i = some p → w j = some q → p.1 = q.1 → i = j) ∧ ∀ (i : Nat) (q : Nat × va_E), w i = some q → A q.1
/-- w' is w but for the contents at i -/
def wSt (w w' : wT) (i a : Nat) (e : va_E) : Prop := w' i = some (a, e) ∧ ∀ j : Nat, j ≠ i → w' j = w j
theorem wP.kept {D : va_G} {cl : List vw_C} {w : wT} {H H1 : Heap} (h : wP D cl w H) (hq : ∀ (i : Nat) (q : Nat × va_E), w i = some q → H1[q.1]? = H[q.1]?) : wP D cl w H1 := fun i q hi => (h i q hi).kept (hq i q hi)
theorem wP.set {D : va_G} {cl : List vw_C} {A : Nat → Prop} {w w' : wT} {i a : Nat} {e0 e : va_E} {H H1 : Heap} (h : wP D cl w H) (hD : wD A w) (hi : w i = some (a, e0)) (hs : wSt w w' i a e) (he : va_at D cl (a, e) H1) (oq : ∀ q : Nat, q ≠ a → H1[q]? = H[q]?) : wP D cl w' H1 := by
  intro j q hj
  by_cases hji : j = i
  · subst hji
    rw [hs.1] at hj
    cases hj
    exact he
  · rw [hs.2 j hji] at hj
    exact (h j q hj).kept (oq q.1 (fun z => hji (hD.1 j i q (a, e0) hj hi z)))
theorem wD.set {A : Nat → Prop} {w w' : wT} {i a : Nat} {e0 e : va_E} (hD : wD A w) (hi : w i = some (a, e0)) (hs : wSt w w' i a e) : wD A w' := by
  have key : ∀ (j : Nat) (q : Nat × va_E), w' j = some q → ∃ q0, w j = some q0 ∧ q0.1 = q.1 := by
    intro j q hj
    by_cases hji : j = i
    · subst hji
      rw [hs.1] at hj
      cases hj
      exact ⟨_, hi, rfl⟩
    · rw [hs.2 j hji] at hj
      exact ⟨q, hj, rfl⟩
  refine ⟨fun i j x y h1 h2 hxy => ?_, fun j q hj => ?_⟩
  · obtain ⟨x0, a1, a2⟩ := key i x h1
    obtain ⟨y0, a3, a4⟩ := key j y h2
    exact hD.1 i j x0 y0 a1 a3 (a2.trans (hxy.trans a4.symm))
  · obtain ⟨q0, a1, a2⟩ := key j q hj
    rw [← a2]
    exact hD.2 j q0 a1
theorem wP.lt {D : va_G} {cl : List vw_C} {w : wT} {H : Heap} (h : wP D cl w H) {i : Nat} {q : Nat × va_E} (hi : w i = some q) : q.1 < H.size := (h i q hi).lt
section XW
variable {p : Program} {l : Launch} {e : Env} {R : Room} {s : State} {m : MethodId} {args : Array Value} {below : List Frame} {meth : Method} {c : Code} {H : Heap} {locs : List Loc} {cells slots : Nat} {Q : State → Prop}
variable {cc : ByteArray} {pc : Nat} {ls : Array Slot} {rest : List Value} {D : va_G} {cl : List vw_C} {A : Nat → Prop} {a : Nat} {tys : List (ClassId × FieldType)} {w : wT} {H0 : Heap}
theorem x_get (hexec : p.tables.exec = Jvm.exec) (hb : c.code = cc) {own ref C : String} {T : u_T} {N ci index : Nat} {Ts : List Cond} (hts : ∀ w ∈ Ts, w.before args s = true) (hin : ∀ w ∈ u_ws C T N, w ∈ Ts) (hown : s.vm.findClass own = some m.cls) (hK : va_K D cl tys s) (hP : wP D cl w H) (i : Nat) {fs : List Value} (he : w i = some (a, .inr (ci, fs))) (hc : cl[ci]? = some (C, T, N)) (k : Nat) (hk : k < N) (hlink : (Cond.fieldLink own index ref (T k).2.1 (T k).2.2.1).before args s = true) (hsame : ∀ x, s.fieldFound? (T k).1 (T k).2.1 (T k).2.2.1 = some x → s.fieldFound? ref (T k).2.1 (T k).2.2.1 = some x) {v : Value} (hv : fs[k]? = some v) (hdg : decode cc pc = .ok (.getfield index, 3))
    (kk : W p l e R s m args below meth c H locs cells slots Q (F0 m (pc + 3) ls (v :: rest))) : W p l e R s m args below meth c H locs cells slots Q (F0 m pc ls (.ref a :: rest)) := by
  obtain ⟨r, h1, cell, q1, q2, q3, q4⟩ := hP i _ he
  have hr : r = (C, T, N) := Option.some.inj (h1.symm.trans hc)
  subst hr
  obtain ⟨hS, hfc, kC, hkC, hkind⟩ := hK.1 ci _ hc
  obtain ⟨cf, kf, fi, f, hi, hsl⟩ := hS k hk
  refine W.getf hexec hb hown hlink (hsame _ hi) (u_facts hfc hkC (u_lays hts hin hk) hi).1 q1 (by rw [q3]; exact fun h => by cases h) (v := v) ?_ rfl rfl hdg kk
  rw [hsl, q4 k hk]
  simp [vp_V, hv]
theorem x_put (hexec : p.tables.exec = Jvm.exec) (hb : c.code = cc) {own ref C : String} {T : u_T} {N ci index : Nat} {Ts : List Cond} (hts : ∀ w ∈ Ts, w.before args s = true) (hin : ∀ w ∈ u_ws C T N, w ∈ Ts) (ty0 : Nat → FieldType) (hty : ∀ k, k < N → parseFieldDescriptor (T k).2.2.1 = some (ty0 k)) (hnm : ∀ a, a < N → ∀ b, b < N → a ≠ b → (T a).2.1 ≠ (T b).2.1) (hown : s.vm.findClass own = some m.cls) (hK : va_K D cl tys s) (hP : wP D cl w H) (hD : wD A w) (hS0 : va_S A H0 H locs) (i : Nat) {fs : List Value} (he : w i = some (a, .inr (ci, fs))) (hc : cl[ci]? = some (C, T, N)) (k : Nat) (hk : k < N) (hlink : (Cond.fieldLink own index ref (T k).2.1 (T k).2.2.1).before args s = true) (hsame : ∀ x, s.fieldFound? (T k).1 (T k).2.1 (T k).2.2.1 = some x → s.fieldFound? ref (T k).2.1 (T k).2.2.1 = some x) (hfin : (T k).2.2.2 = false) {ty : FieldType} {v : Value} (hd : parseFieldDescriptor (T k).2.2.1 = some ty) (hn : narrow ty v = v) (hfit : fits ty v = true) (hl : k < fs.length) (w' : wT) (hw : wSt w w' i a (.inr (ci, fs.set k v)))
    (hdg : decode cc pc = .ok (.putfield index, 3)) (kk : ∀ (H1 : Heap) (locs1 : List Loc), wP D cl w' H1 → wD A w' → va_S A H0 H1 locs1 → W p l e R s m args below meth c H1 locs1 cells slots Q (F0 m (pc + 3) ls rest)) : W p l e R s m args below meth c H locs cells slots Q (F0 m pc ls (v :: .ref a :: rest)) := by
  have hap := va_apart (own := own) hts hin ty0 hty hnm hK hc
  obtain ⟨r, h1, cell, q1, q2, q3, q4⟩ := hP i _ he
  have hr : r = (C, T, N) := Option.some.inj (h1.symm.trans hc)
  subst hr
  obtain ⟨hS, hfc, kC, hkC, hkind⟩ := hK.1 ci _ hc
  obtain ⟨cf, kf, fi, f, hi, hsl⟩ := hS k hk
  have hlay := hts _ (hin _ (u_in_lay hk))
  unfold u_lay at hlay
  rw [if_neg (by rw [hfin]; decide)] at hlay
  have hst := (u_facts hfc hkC (u_lays hts hin hk) hi).1
  have h6 := u_store hfc hkC hkind hlay hi hd hn hfit
  refine W.putK hexec hb (f := f) ⟨hown, hlink, ⟨_, _, _, hsame _ hi⟩, hst⟩ (by rw [q2]; exact h6) q1 q3 (by rw [hsl]; exact k2_hasslot (q4 k hk)) rfl rfl hdg fun H' e1 e2 e3 => ?_
  rw [hsl] at e1 ⊢
  exact kk H' _ (hP.set hD he hw ⟨_, hc, t_OB.to (V := updV (vp_V fs) k v) ⟨_, e1, q2, q3, t_set q4 hap hk v⟩ (fun j _ => vp_updV_set hl v j)⟩ e3) (hD.set he hw) (hS0.put e2 e3 (hD.2 i _ he))
theorem x_putF (hexec : p.tables.exec = Jvm.exec) (hb : c.code = cc) {own ref C : String} {T : u_T} {N ci index : Nat} {Ts : List Cond} (hts : ∀ w ∈ Ts, w.before args s = true) (hin : ∀ w ∈ u_ws C T N, w ∈ Ts) (ty0 : Nat → FieldType) (hty : ∀ k, k < N → parseFieldDescriptor (T k).2.2.1 = some (ty0 k)) (hnm : ∀ a, a < N → ∀ b, b < N → a ≠ b → (T a).2.1 ≠ (T b).2.1) (hown : s.vm.findClass own = some m.cls) (hK : va_K D cl tys s) (hP : wP D cl w H) (hD : wD A w) (hS0 : va_S A H0 H locs) (i : Nat) {fs : List Value} (he : w i = some (a, .inr (ci, fs))) (hc : cl[ci]? = some (C, T, N)) (k : Nat) (hk : k < N) (hlink : (Cond.fieldLink own index ref (T k).2.1 (T k).2.2.1).before args s = true) (hsame : ∀ x, s.fieldFound? (T k).1 (T k).2.1 (T k).2.2.1 = some x → s.fieldFound? ref (T k).2.1 (T k).2.2.1 = some x) (hfin : (T k).2.2.2 = true) (hin2 : meth.name = "<init>") (hdecl : (T k).1 = own) {ty : FieldType} {v : Value} (hd : parseFieldDescriptor (T k).2.2.1 = some ty) (hn : narrow ty v = v) (hfit : fits ty v = true) (hl : k < fs.length) (w' : wT) (hw : wSt w w' i a (.inr (ci, fs.set k v)))
    (hdg : decode cc pc = .ok (.putfield index, 3)) (kk : ∀ (H1 : Heap) (locs1 : List Loc), wP D cl w' H1 → wD A w' → va_S A H0 H1 locs1 → W p l e R s m args below meth c H1 locs1 cells slots Q (F0 m (pc + 3) ls rest)) : W p l e R s m args below meth c H locs cells slots Q (F0 m pc ls (v :: .ref a :: rest)) := by
  have hap := va_apart (own := own) hts hin ty0 hty hnm hK hc
  obtain ⟨r, h1, cell, q1, q2, q3, q4⟩ := hP i _ he
  have hr : r = (C, T, N) := Option.some.inj (h1.symm.trans hc)
  subst hr
  obtain ⟨hS, hfc, kC, hkC, hkind⟩ := hK.1 ci _ hc
  obtain ⟨cf, kf, fi, f, hi, hsl⟩ := hS k hk
  have hlay := hts _ (hin _ (u_in_lay hk))
  unfold u_lay at hlay
  rw [if_pos hfin] at hlay
  have hst := (u_facts hfc hkC (u_lays hts hin hk) hi).1
  have hcf : m.cls = cf := by
    obtain ⟨_, _, c', _, _, _, -, -, hf', -, -, -, hown2, -⟩ := Cond.laysFinal_spec hlay
    have e1 : c' = cf := by have := hi.symm.trans hf'; simp at this; exact this.1.symm
    rw [hdecl] at hown2
    rw [← e1]; exact Option.some.inj (hown.symm.trans hown2)
  have h6 := u_fits hfc hkC hkind (Or.inr hlay) hi hd hn hfit
  refine W.putFinK hexec hb hown hlink (hsame _ hi) hst hcf hin2 (by rw [q2]; exact h6) q1 q3 (by rw [hsl]; exact k2_hasslot (q4 k hk)) rfl rfl hdg fun H' e1 e2 e3 => ?_
  rw [hsl] at e1 ⊢
  exact kk H' _ (hP.set hD he hw ⟨_, hc, t_OB.to (V := updV (vp_V fs) k v) ⟨_, e1, q2, q3, t_set q4 hap hk v⟩ (fun j _ => vp_updV_set hl v j)⟩ e3) (hD.set he hw) (hS0.put e2 e3 (hD.2 i _ he))
theorem x_iald (hexec : p.tables.exec = Jvm.exec) (hb : c.code = cc) (hK : va_K D cl tys s) (hP : wP D cl w H) (i t0 : Nat) {cA : ClassId} {n : Nat} {f : Nat → Int32} (ha : w i = some (a, .inl (cA, n, .inl f))) (ht : tys[t0]? = some (cA, .int)) {j : Int32} (hin : vp_in j n) (hdg : decode cc pc = .ok (.iaload, 1))
    (kk : W p l e R s m args below meth c H locs cells slots Q (F0 m (pc + 1) ls (.int (f j.toNatClampNeg) :: rest))) : W p l e R s m args below meth c H locs cells slots Q (F0 m pc ls (.int j :: .ref a :: rest)) := by
  have hlt : j.toNatClampNeg < n := Nat.not_le.mp fun q => hin (Or.inr q)
  exact W.iald (v := .int (f j.toNatClampNeg)) hexec hb (hP i _ ha) ((hK.2 t0 _ ht).1 n (fun j => .int (f j))) (fun q => by cases q) (by show ¬ (j < 0 ∨ (arrV _ _ _).slots.size ≤ _); rw [arrV_size]; exact hin) (by show (arrV _ _ _).slots[_]? = _; rw [arrV_read _ _ hlt]) rfl rfl hdg kk
theorem x_bald (hexec : p.tables.exec = Jvm.exec) (hb : c.code = cc) (hK : va_K D cl tys s) (hP : wP D cl w H) (i t0 : Nat) {cA : ClassId} {n : Nat} {f : Nat → Int32} (ha : w i = some (a, .inl (cA, n, .inl f))) (ht : tys[t0]? = some (cA, .byte)) {j : Int32} (hin : vp_in j n) (hdg : decode cc pc = .ok (.baload, 1))
    (kk : W p l e R s m args below meth c H locs cells slots Q (F0 m (pc + 1) ls (.int (f j.toNatClampNeg) :: rest))) : W p l e R s m args below meth c H locs cells slots Q (F0 m pc ls (.int j :: .ref a :: rest)) := by
  have hlt : j.toNatClampNeg < n := Nat.not_le.mp fun q => hin (Or.inr q)
  exact W.bald (v := .int (f j.toNatClampNeg)) hexec hb (hP i _ ha) ((hK.2 t0 _ ht).1 n (fun j => .int (f j))) (fun q => by cases q) (by show ¬ (j < 0 ∨ (arrV _ _ _).slots.size ≤ _); rw [arrV_size]; exact hin) (by show (arrV _ _ _).slots[_]? = _; rw [arrV_read _ _ hlt]) rfl rfl hdg kk
theorem x_sald (hexec : p.tables.exec = Jvm.exec) (hb : c.code = cc) (hK : va_K D cl tys s) (hP : wP D cl w H) (i t0 : Nat) {cA : ClassId} {n : Nat} {f : Nat → Int32} (ha : w i = some (a, .inl (cA, n, .inl f))) (ht : tys[t0]? = some (cA, .short)) {j : Int32} (hin : vp_in j n) (hdg : decode cc pc = .ok (.saload, 1))
    (kk : W p l e R s m args below meth c H locs cells slots Q (F0 m (pc + 1) ls (.int (f j.toNatClampNeg) :: rest))) : W p l e R s m args below meth c H locs cells slots Q (F0 m pc ls (.int j :: .ref a :: rest)) := by
  have hlt : j.toNatClampNeg < n := Nat.not_le.mp fun q => hin (Or.inr q)
  exact W.sald (v := .int (f j.toNatClampNeg)) hexec hb (hP i _ ha) ((hK.2 t0 _ ht).1 n (fun j => .int (f j))) (fun q => by cases q) (by show ¬ (j < 0 ∨ (arrV _ _ _).slots.size ≤ _); rw [arrV_size]; exact hin) (by show (arrV _ _ _).slots[_]? = _; rw [arrV_read _ _ hlt]) rfl rfl hdg kk
theorem x_iast (hexec : p.tables.exec = Jvm.exec) (hb : c.code = cc) (hK : va_K D cl tys s) (hP : wP D cl w H) (hD : wD A w) (hS : va_S A H0 H locs) (i t0 : Nat) {cA : ClassId} {n : Nat} {f : Nat → Int32} (ha : w i = some (a, .inl (cA, n, .inl f))) (ht : tys[t0]? = some (cA, .int)) {j : Int32} {x : Int32} (hin : vp_in j n) (w' : wT) (hw : wSt w w' i a (.inl (cA, n, .inl (upd f j.toNatClampNeg x)))) (hdg : decode cc pc = .ok (.iastore, 1))
    (kk : ∀ (H1 : Heap) (locs1 : List Loc), wP D cl w' H1 → wD A w' → va_S A H0 H1 locs1 → W p l e R s m args below meth c H1 locs1 cells slots Q (F0 m (pc + 1) ls rest)) : W p l e R s m args below meth c H locs cells slots Q (F0 m pc ls (.int x :: .int j :: .ref a :: rest)) := by
  refine W.iast hexec hb (hP i _ ha) ((hK.2 t0 _ ht).1 n (fun j => .int (f j))) (fun q => by cases q) (by show ¬ (j < 0 ∨ (arrV _ _ _).slots.size ≤ _); rw [arrV_size]; exact hin) rfl rfl hdg fun H1 e z oq => ?_
  refine kk H1 _ (hP.set hD ha hw ?_ oq) (hD.set ha hw) (hS.put z oq (hD.2 i _ ha))
  show H1[a]? = some (vp_cell _ _)
  rw [e]
  rw [vp_cell_i, vp_cell_i, arrV_store]
  congr 2
  funext q
  by_cases hq : q = j.toNatClampNeg
  · subst hq
    simp [updV, upd]
  · simp [updV, upd, hq]
theorem x_bast (hexec : p.tables.exec = Jvm.exec) (hb : c.code = cc) (hK : va_K D cl tys s) (hP : wP D cl w H) (hD : wD A w) (hS : va_S A H0 H locs) (i t0 : Nat) {cA : ClassId} {n : Nat} {f : Nat → Int32} (ha : w i = some (a, .inl (cA, n, .inl f))) (ht : tys[t0]? = some (cA, .byte)) {j : Int32} {x : Int32} (hin : vp_in j n) (w' : wT) (hw : wSt w w' i a (.inl (cA, n, .inl (upd f j.toNatClampNeg (vp_nar .byte x))))) (hdg : decode cc pc = .ok (.bastore, 1))
    (kk : ∀ (H1 : Heap) (locs1 : List Loc), wP D cl w' H1 → wD A w' → va_S A H0 H1 locs1 → W p l e R s m args below meth c H1 locs1 cells slots Q (F0 m (pc + 1) ls rest)) : W p l e R s m args below meth c H locs cells slots Q (F0 m pc ls (.int x :: .int j :: .ref a :: rest)) := by
  refine W.bast hexec hb (hP i _ ha) ((hK.2 t0 _ ht).1 n (fun j => .int (f j))) (fun q => by cases q) (by show ¬ (j < 0 ∨ (arrV _ _ _).slots.size ≤ _); rw [arrV_size]; exact hin) rfl rfl hdg fun H1 e z oq => ?_
  refine kk H1 _ (hP.set hD ha hw ?_ oq) (hD.set ha hw) (hS.put z oq (hD.2 i _ ha))
  show H1[a]? = some (vp_cell _ _)
  rw [e]
  rw [vp_cell_i, vp_cell_i, arrV_store]
  congr 2
  funext q
  by_cases hq : q = j.toNatClampNeg
  · subst hq
    simp [updV, upd, vp_nar]
    try rfl
  · simp [updV, upd, hq]
theorem x_sast (hexec : p.tables.exec = Jvm.exec) (hb : c.code = cc) (hK : va_K D cl tys s) (hP : wP D cl w H) (hD : wD A w) (hS : va_S A H0 H locs) (i t0 : Nat) {cA : ClassId} {n : Nat} {f : Nat → Int32} (ha : w i = some (a, .inl (cA, n, .inl f))) (ht : tys[t0]? = some (cA, .short)) {j : Int32} {x : Int32} (hin : vp_in j n) (w' : wT) (hw : wSt w w' i a (.inl (cA, n, .inl (upd f j.toNatClampNeg (vp_nar .short x))))) (hdg : decode cc pc = .ok (.sastore, 1))
    (kk : ∀ (H1 : Heap) (locs1 : List Loc), wP D cl w' H1 → wD A w' → va_S A H0 H1 locs1 → W p l e R s m args below meth c H1 locs1 cells slots Q (F0 m (pc + 1) ls rest)) : W p l e R s m args below meth c H locs cells slots Q (F0 m pc ls (.int x :: .int j :: .ref a :: rest)) := by
  refine W.sast hexec hb (hP i _ ha) ((hK.2 t0 _ ht).1 n (fun j => .int (f j))) (fun q => by cases q) (by show ¬ (j < 0 ∨ (arrV _ _ _).slots.size ≤ _); rw [arrV_size]; exact hin) rfl rfl hdg fun H1 e z oq => ?_
  refine kk H1 _ (hP.set hD ha hw ?_ oq) (hD.set ha hw) (hS.put z oq (hD.2 i _ ha))
  show H1[a]? = some (vp_cell _ _)
  rw [e]
  rw [vp_cell_i, vp_cell_i, arrV_store]
  congr 2
  funext q
  by_cases hq : q = j.toNatClampNeg
  · subst hq
    simp [updV, upd, vp_nar]
    try rfl
  · simp [updV, upd, hq]
/-- a cell's length -/
theorem x_alen (hexec : p.tables.exec = Jvm.exec) (hb : c.code = cc) (hK : va_K D cl tys s) (hP : wP D cl w H) (i t0 : Nat) {cA : ClassId} {x : vp_A} (ha : w i = some (a, .inl (cA, x))) {ty : FieldType} (ht : tys[t0]? = some (cA, ty)) (hdg : decode cc pc = .ok (.arraylength, 1))
    (kk : W p l e R s m args below meth c H locs cells slots Q (F0 m (pc + 1) ls (.int (iv (x.1 : Int)) :: rest))) : W p l e R s m args below meth c H locs cells slots Q (F0 m pc ls (.ref a :: rest)) := by
  have hP1 : va_P D cl [(a, .inl (cA, x))] H := fun k q hk => by
    have hz : k < 1 := (List.getElem?_eq_some_iff.mp hk).1
    rw [show k = 0 by omega] at hk
    cases hk
    exact hP i _ ha
  exact va_alen (v := iv (x.1 : Int)) hexec hb hK hP1 0 t0 rfl ht (by rw [iv_nat]; rfl) hdg kk
end XW
/-- a thing of a world as the receiver of a call -/
theorem x_recv {s : State} {H : Heap} {D : va_G} {cl : List vw_C} {a i ci : Nat} {q : vw_C} {fs : List Value} {w : wT} {tys : List (ClassId × FieldType)} (hK : va_K D cl tys s) (hP : wP D cl w H) (hc : cl[ci]? = some q) (he : w i = some (a, .inr (ci, fs))) : ∃ cell : Cell, H[a]? = some cell ∧ cell.vm.isStatics = false ∧ s.vm.findClass q.1 = some cell.cls := by
  obtain ⟨q', h1, cell, g1, g2, g3, -⟩ := hP i _ he
  exact ⟨cell, g1, by rw [g3]; rfl, by rw [g2]; exact (hK.1 ci q hc).2.1⟩
