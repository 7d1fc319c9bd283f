/-! ===== results and new states of the operations, the same for both sides where both speak of rows 0..6 ===== -/
theorem iMs_17 {M M1 : St} {z v : Int} (h : InvM M) (e : M1 = upd2 M 17 z v) (hv : 0 ≤ v ∧ v ≤ (if z % 4 = 0 then 15 else if z % 4 = 3 then 99 else 3)) : InvM M1 := h.set e hv
def plV (place size : Int) : Int := if size = 0 then 0 else 10 * place + size
abbrev actOK (beat what place size : Int) : Prop := (0 ≤ beat ∧ beat ≤ 15) ∧ (0 ≤ what ∧ what ≤ 1) ∧ (0 ≤ place ∧ place ≤ 3) ∧ 0 ≤ size ∧ size ≤ 9
def actR (R : St) (beat what place size : Int) : Int := if actOK beat what place size then (if what = 0 then R 0 beat else R 1 beat) else -1
def actS (M : St) (beat what place size : Int) : St := if actOK beat what place size then (if what = 0 then upd2 M 0 beat (plV place size) else upd2 M 1 beat (plV place size)) else M
abbrev cueOK (beat what v : Int) : Prop := (0 ≤ beat ∧ beat ≤ 15) ∧ (0 ≤ what ∧ what ≤ 2) ∧ ((what = 2 ∧ 0 ≤ v ∧ v ≤ 1) ∨ (¬ what = 2 ∧ -1 ≤ v ∧ v ≤ 3))
def cueR (R : St) (beat what v : Int) : Int := if cueOK beat what v then 1 + (if what = 0 then R 2 beat else if what = 1 then R 3 beat else R 4 beat) else -1
def cueS (M : St) (beat what v : Int) : St := if cueOK beat what v then (if what = 0 then upd2 M 2 beat v else if what = 1 then upd2 M 3 beat v else upd2 M 4 beat v) else M
def standR (R : St) (column : Int) : Int := if 0 ≤ column ∧ column ≤ 3 then R 5 0 else -1
def standS (M : St) (column : Int) : St := if 0 ≤ column ∧ column ≤ 3 then upd2 M 5 0 column else M
abbrev habitOK (what v : Int) : Prop := (0 ≤ what ∧ what ≤ 4) ∧ 0 ≤ v ∧ v ≤ (if what = 4 then 10 else 9)
def habitR (R : St) (what v : Int) : Int := if habitOK what v then R 6 what else -1
def habitS (M : St) (what v : Int) : St := if habitOK what v then upd2 M 6 what v else M
/-- a watcher more, in the model -/
def comesM (M : St) (seat kind : Int) : St := upd2 (upd2 (upd2 (upd2 M 8 (3 * M 7 0) seat) 8 (3 * M 7 0 + 1) kind) 8 (3 * M 7 0 + 2) 3) 7 0 (M 7 0 + 1)
noncomputable def watR (f : Int → Int) (n seat kind : Int) : Int := if (0 ≤ seat ∧ seat ≤ 11) ∧ 0 ≤ kind ∧ kind ≤ 3 then (if takenV f seat n = 0 then (if n = 8 then -3 else n) else -2) else -1
noncomputable def watM (M : St) (seat kind : Int) : St := if (0 ≤ seat ∧ seat ≤ 11) ∧ 0 ≤ kind ∧ kind ≤ 3 then (if takenV (pw M 0) seat (M 7 0) = 0 then (if M 7 0 = 8 then M else comesM M seat kind) else M) else M
def doubtR (V : St) (n watcher v : Int) : Int := if (0 ≤ watcher ∧ watcher ≤ n - 1) ∧ 0 ≤ v ∧ v ≤ 9 then (if V 1 watcher = 1 then V 2 watcher else -12) else -1
def doubtM (M : St) (watcher v : Int) : St := if (0 ≤ watcher ∧ watcher ≤ M 7 0 - 1) ∧ 0 ≤ v ∧ v ≤ 9 then (if M 8 (3 * watcher + 1) = 1 then upd2 M 8 (3 * watcher + 2) v else M) else M
def clearM (M : St) : St := upd2 (upd2 M 16 0 0) 19 0 0
def pointedM (M : St) (beat place : Int) : St := upd2 (upd2 (upd2 M 20 (M 19 0) beat) 21 (M 19 0) place) 19 0 (M 19 0 + 1)
def pointR (n beat place : Int) : Int := if (0 ≤ beat ∧ beat ≤ 15) ∧ 0 ≤ place ∧ place ≤ 3 then (if n = 24 then -3 else n + 1) else -1
def pointM (M : St) (beat place : Int) : St := if (0 ≤ beat ∧ beat ≤ 15) ∧ 0 ≤ place ∧ place ≤ 3 then (if M 19 0 = 24 then M else pointedM M beat place) else M
abbrev coverOK (beat kind place cost : Int) : Prop := (0 ≤ beat ∧ beat ≤ 15) ∧ (0 ≤ kind ∧ kind ≤ 3) ∧ (0 ≤ place ∧ place ≤ 3) ∧ ¬ (kind = 3 ∧ 0 < place) ∧ 0 ≤ cost ∧ cost ≤ 99
def coverR (n beat kind place cost : Int) : Int := if coverOK beat kind place cost then (if n = 8 then -3 else n) else -1
/-- a cover more: row k of its numbers, row c its count -/
def coverS (M : St) (k c : Nat) (beat kind place cost : Int) : St := if coverOK beat kind place cost then (if M c 0 = 8 then M else upd2 (upd2 (upd2 (upd2 (upd2 M k (4 * M c 0) beat) k (4 * M c 0 + 1) kind) k (4 * M c 0 + 2) place) k (4 * M c 0 + 3) cost) c 0 (M c 0 + 1)) else M
def apartR (a b c d : Int) : Int := if (0 ≤ a ∧ a ≤ 999) ∧ (0 ≤ b ∧ b ≤ 999) ∧ (0 ≤ c ∧ c ≤ 999) ∧ 0 ≤ d ∧ d ≤ 999 then shareV a b - shareV c d else -100001
/-! sheets: 24 lanes, 25 sizes, 26 items -/
def findsV (M : St) (sheet lane i n : Int) : Int := if M 24 sheet < 0 then -11 else if M 24 sheet = lane then (if i < 0 then -13 else if M 25 sheet < i + n then -13 else 0) else -12
theorem findsV_r (M : St) (sheet lane i n : Int) : (findsV M sheet lane i n = -11 ∨ findsV M sheet lane i n = -12 ∨ findsV M sheet lane i n = -13) ∨ (findsV M sheet lane i n = 0 ∧ 0 ≤ i ∧ i + n ≤ M 25 sheet ∧ M 24 sheet = lane) := by
  unfold findsV
  split
  · omega
  · split
    · split
      · omega
      · split <;> omega
    · omega
def dropR (M : St) (sheet : Int) : Int := if 0 ≤ sheet ∧ sheet ≤ 3 then (if M 24 sheet < 0 then -11 else M 25 sheet) else -1
def dropM (M : St) (sheet : Int) : St := if 0 ≤ sheet ∧ sheet ≤ 3 then (if M 24 sheet < 0 then M else upd2 M 24 sheet (-1)) else M
def b8 (z : Int) : Int := (z + 128) % 256 - 128
def b16 (z : Int) : Int := (z + 32768) % 65536 - 32768
def laneV (lane v : Int) : Int := if lane = 0 then b8 v else if lane = 1 then b16 v else v
def itemR (M : St) (sheet lane i : Int) : Int := if (0 ≤ sheet ∧ sheet ≤ 3) ∧ 0 ≤ lane ∧ lane ≤ 2 then (if findsV M sheet lane i 1 < 0 then findsV M sheet lane i 1 else 1) else -1
def itemM (M : St) (sheet lane i v : Int) : St := if (0 ≤ sheet ∧ sheet ≤ 3) ∧ 0 ≤ lane ∧ lane ≤ 2 then (if findsV M sheet lane i 1 < 0 then M else upd2 M 26 (16 * sheet + i) (laneV lane v)) else M
abbrev sheetOK (sheet lane n : Int) : Prop := (0 ≤ sheet ∧ sheet ≤ 3) ∧ (0 ≤ lane ∧ lane ≤ 2) ∧ n ≤ 16
def sheetR (sheet lane n : Int) : Int := if sheetOK sheet lane n then (if n < 0 then -14 else n) else -1
/-- the first i items of a sheet at zero -/
def zerosM (M : St) (sheet i : Int) : St := fun k j => if k = 26 ∧ 16 * sheet ≤ j ∧ j < 16 * sheet + i then 0 else M k j
theorem zerosM_0 (M : St) (sheet : Int) : zerosM M sheet 0 = M := by
  funext k j
  exact if_neg (by omega)
theorem zerosM_s (M : St) (sheet : Int) {i : Int} (hi : 0 ≤ i) : upd2 (zerosM M sheet i) 26 (16 * sheet + i) 0 = zerosM M sheet (i + 1) := by
  funext k j
  unfold upd2 zerosM
  by_cases hk : k = 26
  · rw [if_pos hk]
    by_cases hj : j = 16 * sheet + i
    · rw [if_pos hj, if_pos (by omega)]
    · rw [if_neg hj]
      by_cases h2 : k = 26 ∧ 16 * sheet ≤ j ∧ j < 16 * sheet + i
      · rw [if_pos h2, if_pos (by omega)]
      · rw [if_neg h2, if_neg (by omega)]
  · rw [if_neg hk, if_neg (fun h => hk h.1), if_neg (fun h => hk h.1)]
def sheetM (M : St) (sheet lane n : Int) : St := if sheetOK sheet lane n then (if n < 0 then M else zerosM (upd2 (upd2 M 24 sheet lane) 25 sheet n) sheet 16) else M
theorem b8_iv {z : Int} (h : -2147483648 ≤ z ∧ z ≤ 2147483647) : (iv z).toInt8.toInt32 = iv (b8 z) := by
  apply Int32.toInt_inj.mp
  have h1 : (iv z).toInt8.toInt32.toInt = (iv z).toInt.bmod (2 ^ 8) := by rw [Int8.toInt_toInt32, Int32.toInt_toInt8]
  rw [h1, iv_toInt h, iv_toInt (by unfold b8; omega)]
  unfold b8
  rw [Int.bmod_def]
  omega
theorem b16_iv {z : Int} (h : -2147483648 ≤ z ∧ z ≤ 2147483647) : (iv z).toInt16.toInt32 = iv (b16 z) := by
  apply Int32.toInt_inj.mp
  have h1 : (iv z).toInt16.toInt32.toInt = (iv z).toInt.bmod (2 ^ 16) := by rw [Int16.toInt_toInt32, Int32.toInt_toInt16]
  rw [h1, iv_toInt h, iv_toInt (by unfold b16; omega)]
  unfold b16
  rw [Int.bmod_def]
  omega
theorem b8_r (z : Int) : -128 ≤ b8 z ∧ b8 z ≤ 127 := by unfold b8; omega
theorem b16_r (z : Int) : -32768 ≤ b16 z ∧ b16 z ≤ 32767 := by unfold b16; omega
section RB
variable {p : Program} {l : Launch} {e : Env} {R : Room} {s : State} {m : MethodId} {args : Array Value} {below : List Frame} {meth : Method} {c : Code} {H : Heap} {locs : List Loc} {cells slots : Nat} {Q : State → Prop}
variable {cc : ByteArray} {pc : Nat} {ls : Array Slot} {rest : List Value}
theorem r_i2b (hx : p.tables.exec = Jvm.exec) (hb : c.code = cc) {a : Int} (ha : -2147483648 ≤ a ∧ a ≤ 2147483647) (d : decode cc pc = .ok (.i2b, 1)) (k : W p l e R s m args below meth c H locs cells slots Q (F0 m (pc + 1) ls (.int (iv (b8 a)) :: rest))) : W p l e R s m args below meth c H locs cells slots Q (F0 m pc ls (.int (iv a) :: rest)) := lv_i2b hx hb d (b8_iv ha) k
theorem r_i2s (hx : p.tables.exec = Jvm.exec) (hb : c.code = cc) {a : Int} (ha : -2147483648 ≤ a ∧ a ≤ 2147483647) (d : decode cc pc = .ok (.i2s, 1)) (k : W p l e R s m args below meth c H locs cells slots Q (F0 m (pc + 1) ls (.int (iv (b16 a)) :: rest))) : W p l e R s m args below meth c H locs cells slots Q (F0 m pc ls (.int (iv a) :: rest)) := lv_i2s hx hb d (b16_iv ha) k
end RB
