/-! ===== the world of the component (printed by gen_xworld.py) ===== -/
set_option maxRecDepth 100000
/-- the class of a sheet's row: byte, short, int -/
def rowC (lane : Int) : Nat := if lane = 0 then 1 else if lane = 1 then 2 else 0
def xRow (X : St) (s k : Int) : Int := if 0 ≤ k ∧ k < 16 then X 67 (16 * s + k) else 0
def poolE (kind seat doubt : Int) : Nat × List Value := if kind = 0 then (4, [.int (iv seat)]) else if kind = 1 then (7, [.int (iv seat), .int (iv doubt)]) else if kind = 2 then (8, [.int (iv seat)]) else (9, [.int (iv seat)])
def xBeat (B : Nat → Nat) (X : St) (n : Nat) : Option (Nat × va_E) := some (B (40 + n), .inr (2, [.int (iv (X (10 * (n / 16) + 0) ((n % 16 : Nat) : Int))), .int (iv (X (10 * (n / 16) + 1) ((n % 16 : Nat) : Int))), .int (iv (X (10 * (n / 16) + 2) ((n % 16 : Nat) : Int))), .int (iv (X (10 * (n / 16) + 3) ((n % 16 : Nat) : Int))), .int (iv (X (10 * (n / 16) + 4) ((n % 16 : Nat) : Int)))]))
def xPool (X : St) (a : Nat) : Option (Nat × va_E) := if X 62 (a : Int) < 0 then none else some (a, .inr (poolE (X 62 (a : Int)) (X 63 (a : Int)) (X 64 (a : Int))))
def xW (cs : Nat → ClassId) (B : Nat → Nat) (e0 : Nat) (X : St) : wT := fun i => match i with
  | 0 => some (B 0, .inr (0, [.ref (B 1), .ref (B 2), .ref (B 10), .ref (B 16), .ref (B 17), .int (iv (X 31 0)), .int (iv (X 32 0)), .ref (B 11), .int (iv (X 33 0)), .int (iv (X 34 0)), .ref (B 18), .int (iv (X 36 0)), .ref (B 19), .int (iv (X 38 0)), .ref (B 31), .int (iv (X 39 0)), .ref (B 3), .ref (B 12), .ref (B 20), .ref (B 21), .int (iv (X 42 0)), .int (iv (X 43 0)), .ref (B 22)]))
  | 1 => some (B 1, .inr (1, [.ref (B 4), .int (iv (X 5 0)), .ref (B 7)]))
  | 2 => some (B 2, .inr (1, [.ref (B 5), .int (iv (X 15 0)), .ref (B 8)]))
  | 3 => some (B 3, .inr (1, [.ref (B 6), .int (iv (X 25 0)), .ref (B 9)]))
  | 4 => some (B 4, .inl (cs 3, 16, .inr (.inr (.inr (.inr (fun b : Nat => some (B (40 + b))))))))
  | 5 => some (B 5, .inl (cs 3, 16, .inr (.inr (.inr (.inr (fun b : Nat => some (B (56 + b))))))))
  | 6 => some (B 6, .inl (cs 3, 16, .inr (.inr (.inr (.inr (fun b : Nat => some (B (72 + b))))))))
  | 7 => some (B 7, .inl (cs 0, 5, .inl (fun j : Nat => iv (X 6 (j : Int)))))
  | 8 => some (B 8, .inl (cs 0, 5, .inl (fun j : Nat => iv (X 16 (j : Int)))))
  | 9 => some (B 9, .inl (cs 0, 5, .inl (fun j : Nat => iv (X 26 (j : Int)))))
  | 10 => some (B 10, .inr (10, [.int (iv (X 59 0)), .ref (if X 56 0 = 0 then e0 else (X 71 0).toNat), .int (iv (X 50 0))]))
  | 11 => some (B 11, .inr (10, [.int (iv (X 60 0)), .ref (if X 57 0 = 0 then e0 else (X 72 0).toNat), .int (iv (X 51 0))]))
  | 12 => some (B 12, .inr (10, [.int (iv (X 61 0)), .ref (if X 58 0 = 0 then e0 else (X 73 0).toNat), .int (iv (X 52 0))]))
  | 13 => if X 56 0 = 0 then none else some ((X 71 0).toNat, .inl (cs 4, 10, .inr (.inr (.inr (.inr (fun k : Nat => if X 53 (k : Int) < 0 then none else some (X 53 (k : Int)).toNat))))))
  | 14 => if X 57 0 = 0 then none else some ((X 72 0).toNat, .inl (cs 4, 10, .inr (.inr (.inr (.inr (fun k : Nat => if X 54 (k : Int) < 0 then none else some (X 54 (k : Int)).toNat))))))
  | 15 => if X 58 0 = 0 then none else some ((X 73 0).toNat, .inl (cs 4, 10, .inr (.inr (.inr (.inr (fun k : Nat => if X 55 (k : Int) < 0 then none else some (X 55 (k : Int)).toNat))))))
  | 16 => some (B 16, .inr (3, [.null, .null, .null, .null, .null, .int 0, .int (iv (X 44 0))]))
  | 17 => some (B 17, .inl (cs 1, 100, .inl (fun j : Nat => iv (X 30 (j : Int)))))
  | 18 => some (B 18, .inl (cs 0, 32, .inl (fun j : Nat => iv (X 35 (j : Int)))))
  | 19 => some (B 19, .inl (cs 0, 48, .inl (fun j : Nat => iv (X 37 (j : Int)))))
  | 20 => some (B 20, .inl (cs 0, 32, .inl (fun j : Nat => iv (X 40 (j : Int)))))
  | 21 => some (B 21, .inl (cs 0, 48, .inl (fun j : Nat => iv (X 41 (j : Int)))))
  | 22 => some (B 22, .inl (cs 5, 4, .inr (.inr (.inr (.inr (fun b : Nat => some (B (23 + b))))))))
  | 23 => some (B 23, .inr (5, [if X 65 0 < 0 then .null else .ref (X 70 0).toNat]))
  | 24 => some (B 24, .inr (5, [if X 65 1 < 0 then .null else .ref (X 70 1).toNat]))
  | 25 => some (B 25, .inr (5, [if X 65 2 < 0 then .null else .ref (X 70 2).toNat]))
  | 26 => some (B 26, .inr (5, [if X 65 3 < 0 then .null else .ref (X 70 3).toNat]))
  | 27 => if X 65 0 < 0 then none else some ((X 70 0).toNat, .inl (cs (rowC (X 65 0)), (X 66 0).toNat, .inl (fun k : Nat => iv (xRow X 0 (k : Int)))))
  | 28 => if X 65 1 < 0 then none else some ((X 70 1).toNat, .inl (cs (rowC (X 65 1)), (X 66 1).toNat, .inl (fun k : Nat => iv (xRow X 1 (k : Int)))))
  | 29 => if X 65 2 < 0 then none else some ((X 70 2).toNat, .inl (cs (rowC (X 65 2)), (X 66 2).toNat, .inl (fun k : Nat => iv (xRow X 2 (k : Int)))))
  | 30 => if X 65 3 < 0 then none else some ((X 70 3).toNat, .inl (cs (rowC (X 65 3)), (X 66 3).toNat, .inl (fun k : Nat => iv (xRow X 3 (k : Int)))))
  | n + 31 => if n < 9 then none else if n < 57 then xBeat B X (n - 9) else if n < 69 then none else xPool X (n - 69)
/-- the numbers that a role rests on -/
def xu : Nat → Nat → Int → Prop := fun i k z => match i with
  | 0 => (k = 31 ∧ z = 0) ∨ (k = 32 ∧ z = 0) ∨ (k = 33 ∧ z = 0) ∨ (k = 34 ∧ z = 0) ∨ (k = 36 ∧ z = 0) ∨ (k = 38 ∧ z = 0) ∨ (k = 39 ∧ z = 0) ∨ (k = 42 ∧ z = 0) ∨ (k = 43 ∧ z = 0)
  | 1 => (k = 5 ∧ z = 0)
  | 2 => (k = 15 ∧ z = 0)
  | 3 => (k = 25 ∧ z = 0)
  | 4 => False
  | 5 => False
  | 6 => False
  | 7 => k = 6
  | 8 => k = 16
  | 9 => k = 26
  | 10 => (k = 59 ∧ z = 0) ∨ (k = 56 ∧ z = 0) ∨ (k = 71 ∧ z = 0) ∨ (k = 50 ∧ z = 0)
  | 11 => (k = 60 ∧ z = 0) ∨ (k = 57 ∧ z = 0) ∨ (k = 72 ∧ z = 0) ∨ (k = 51 ∧ z = 0)
  | 12 => (k = 61 ∧ z = 0) ∨ (k = 58 ∧ z = 0) ∨ (k = 73 ∧ z = 0) ∨ (k = 52 ∧ z = 0)
  | 13 => (k = 56 ∧ z = 0) ∨ (k = 71 ∧ z = 0) ∨ k = 53
  | 14 => (k = 57 ∧ z = 0) ∨ (k = 72 ∧ z = 0) ∨ k = 54
  | 15 => (k = 58 ∧ z = 0) ∨ (k = 73 ∧ z = 0) ∨ k = 55
  | 16 => (k = 44 ∧ z = 0)
  | 17 => k = 30
  | 18 => k = 35
  | 19 => k = 37
  | 20 => k = 40
  | 21 => k = 41
  | 22 => False
  | 23 => (k = 65 ∧ z = 0) ∨ (k = 70 ∧ z = 0)
  | 24 => (k = 65 ∧ z = 1) ∨ (k = 70 ∧ z = 1)
  | 25 => (k = 65 ∧ z = 2) ∨ (k = 70 ∧ z = 2)
  | 26 => (k = 65 ∧ z = 3) ∨ (k = 70 ∧ z = 3)
  | 27 => (k = 65 ∧ z = 0) ∨ (k = 70 ∧ z = 0) ∨ (k = 66 ∧ z = 0) ∨ (k = 67 ∧ 0 ≤ z ∧ z < 16)
  | 28 => (k = 65 ∧ z = 1) ∨ (k = 70 ∧ z = 1) ∨ (k = 66 ∧ z = 1) ∨ (k = 67 ∧ 16 ≤ z ∧ z < 32)
  | 29 => (k = 65 ∧ z = 2) ∨ (k = 70 ∧ z = 2) ∨ (k = 66 ∧ z = 2) ∨ (k = 67 ∧ 32 ≤ z ∧ z < 48)
  | 30 => (k = 65 ∧ z = 3) ∨ (k = 70 ∧ z = 3) ∨ (k = 66 ∧ z = 3) ∨ (k = 67 ∧ 48 ≤ z ∧ z < 64)
  | n + 31 => (9 ≤ n ∧ n < 57 ∧ 10 * ((n - 9) / 16) ≤ k ∧ k ≤ 10 * ((n - 9) / 16) + 4 ∧ z = (((n - 9) % 16 : Nat) : Int)) ∨ (69 ≤ n ∧ 62 ≤ k ∧ k ≤ 64 ∧ z = ((n - 69 : Nat) : Int))
theorem xW_c {cs : Nat → ClassId} {B : Nat → Nat} {e0 : Nat} {X Y : St} : ∀ i : Nat, (∀ (k : Nat) (z : Int), xu i k z → Y k z = X k z) → xW cs B e0 Y i = xW cs B e0 X i
  | 0, h => by
    have r0 : Y 31 0 = X 31 0 := h 31 0 (Or.inl ⟨rfl, rfl⟩)
    have r1 : Y 32 0 = X 32 0 := h 32 0 (Or.inr (Or.inl ⟨rfl, rfl⟩))
    have r2 : Y 33 0 = X 33 0 := h 33 0 (Or.inr (Or.inr (Or.inl ⟨rfl, rfl⟩)))
    have r3 : Y 34 0 = X 34 0 := h 34 0 (Or.inr (Or.inr (Or.inr (Or.inl ⟨rfl, rfl⟩))))
    have r4 : Y 36 0 = X 36 0 := h 36 0 (Or.inr (Or.inr (Or.inr (Or.inr (Or.inl ⟨rfl, rfl⟩)))))
    have r5 : Y 38 0 = X 38 0 := h 38 0 (Or.inr (Or.inr (Or.inr (Or.inr (Or.inr (Or.inl ⟨rfl, rfl⟩))))))
    have r6 : Y 39 0 = X 39 0 := h 39 0 (Or.inr (Or.inr (Or.inr (Or.inr (Or.inr (Or.inr (Or.inl ⟨rfl, rfl⟩)))))))
    have r7 : Y 42 0 = X 42 0 := h 42 0 (Or.inr (Or.inr (Or.inr (Or.inr (Or.inr (Or.inr (Or.inr (Or.inl ⟨rfl, rfl⟩))))))))
    have r8 : Y 43 0 = X 43 0 := h 43 0 (Or.inr (Or.inr (Or.inr (Or.inr (Or.inr (Or.inr (Or.inr (Or.inr (⟨rfl, rfl⟩)))))))))
    show (some (B 0, .inr (0, [.ref (B 1), .ref (B 2), .ref (B 10), .ref (B 16), .ref (B 17), .int (iv (Y 31 0)), .int (iv (Y 32 0)), .ref (B 11), .int (iv (Y 33 0)), .int (iv (Y 34 0)), .ref (B 18), .int (iv (Y 36 0)), .ref (B 19), .int (iv (Y 38 0)), .ref (B 31), .int (iv (Y 39 0)), .ref (B 3), .ref (B 12), .ref (B 20), .ref (B 21), .int (iv (Y 42 0)), .int (iv (Y 43 0)), .ref (B 22)])) : Option (Nat × va_E)) = (some (B 0, .inr (0, [.ref (B 1), .ref (B 2), .ref (B 10), .ref (B 16), .ref (B 17), .int (iv (X 31 0)), .int (iv (X 32 0)), .ref (B 11), .int (iv (X 33 0)), .int (iv (X 34 0)), .ref (B 18), .int (iv (X 36 0)), .ref (B 19), .int (iv (X 38 0)), .ref (B 31), .int (iv (X 39 0)), .ref (B 3), .ref (B 12), .ref (B 20), .ref (B 21), .int (iv (X 42 0)), .int (iv (X 43 0)), .ref (B 22)])) : Option (Nat × va_E))
    simp only [r0, r1, r2, r3, r4, r5, r6, r7, r8]
  | 1, h => by
    have r0 : Y 5 0 = X 5 0 := h 5 0 (⟨rfl, rfl⟩)
    show (some (B 1, .inr (1, [.ref (B 4), .int (iv (Y 5 0)), .ref (B 7)])) : Option (Nat × va_E)) = (some (B 1, .inr (1, [.ref (B 4), .int (iv (X 5 0)), .ref (B 7)])) : Option (Nat × va_E))
    simp only [r0]
  | 2, h => by
    have r0 : Y 15 0 = X 15 0 := h 15 0 (⟨rfl, rfl⟩)
    show (some (B 2, .inr (1, [.ref (B 5), .int (iv (Y 15 0)), .ref (B 8)])) : Option (Nat × va_E)) = (some (B 2, .inr (1, [.ref (B 5), .int (iv (X 15 0)), .ref (B 8)])) : Option (Nat × va_E))
    simp only [r0]
  | 3, h => by
    have r0 : Y 25 0 = X 25 0 := h 25 0 (⟨rfl, rfl⟩)
    show (some (B 3, .inr (1, [.ref (B 6), .int (iv (Y 25 0)), .ref (B 9)])) : Option (Nat × va_E)) = (some (B 3, .inr (1, [.ref (B 6), .int (iv (X 25 0)), .ref (B 9)])) : Option (Nat × va_E))
    simp only [r0]
  | 4, _ => rfl
  | 5, _ => rfl
  | 6, _ => rfl
  | 7, h => by
    have r0 : ∀ j : Int, Y 6 j = X 6 j := fun j => h 6 j ((rfl : 6 = 6))
    show (some (B 7, .inl (cs 0, 5, .inl (fun j : Nat => iv (Y 6 (j : Int))))) : Option (Nat × va_E)) = (some (B 7, .inl (cs 0, 5, .inl (fun j : Nat => iv (X 6 (j : Int))))) : Option (Nat × va_E))
    simp only [r0]
  | 8, h => by
    have r0 : ∀ j : Int, Y 16 j = X 16 j := fun j => h 16 j ((rfl : 16 = 16))
    show (some (B 8, .inl (cs 0, 5, .inl (fun j : Nat => iv (Y 16 (j : Int))))) : Option (Nat × va_E)) = (some (B 8, .inl (cs 0, 5, .inl (fun j : Nat => iv (X 16 (j : Int))))) : Option (Nat × va_E))
    simp only [r0]
  | 9, h => by
    have r0 : ∀ j : Int, Y 26 j = X 26 j := fun j => h 26 j ((rfl : 26 = 26))
    show (some (B 9, .inl (cs 0, 5, .inl (fun j : Nat => iv (Y 26 (j : Int))))) : Option (Nat × va_E)) = (some (B 9, .inl (cs 0, 5, .inl (fun j : Nat => iv (X 26 (j : Int))))) : Option (Nat × va_E))
    simp only [r0]
  | 10, h => by
    have r0 : Y 59 0 = X 59 0 := h 59 0 (Or.inl ⟨rfl, rfl⟩)
    have r1 : Y 56 0 = X 56 0 := h 56 0 (Or.inr (Or.inl ⟨rfl, rfl⟩))
    have r2 : Y 71 0 = X 71 0 := h 71 0 (Or.inr (Or.inr (Or.inl ⟨rfl, rfl⟩)))
    have r3 : Y 50 0 = X 50 0 := h 50 0 (Or.inr (Or.inr (Or.inr (⟨rfl, rfl⟩))))
    show (some (B 10, .inr (10, [.int (iv (Y 59 0)), .ref (if Y 56 0 = 0 then e0 else (Y 71 0).toNat), .int (iv (Y 50 0))])) : Option (Nat × va_E)) = (some (B 10, .inr (10, [.int (iv (X 59 0)), .ref (if X 56 0 = 0 then e0 else (X 71 0).toNat), .int (iv (X 50 0))])) : Option (Nat × va_E))
    simp only [r0, r1, r2, r3]
  | 11, h => by
    have r0 : Y 60 0 = X 60 0 := h 60 0 (Or.inl ⟨rfl, rfl⟩)
    have r1 : Y 57 0 = X 57 0 := h 57 0 (Or.inr (Or.inl ⟨rfl, rfl⟩))
    have r2 : Y 72 0 = X 72 0 := h 72 0 (Or.inr (Or.inr (Or.inl ⟨rfl, rfl⟩)))
    have r3 : Y 51 0 = X 51 0 := h 51 0 (Or.inr (Or.inr (Or.inr (⟨rfl, rfl⟩))))
    show (some (B 11, .inr (10, [.int (iv (Y 60 0)), .ref (if Y 57 0 = 0 then e0 else (Y 72 0).toNat), .int (iv (Y 51 0))])) : Option (Nat × va_E)) = (some (B 11, .inr (10, [.int (iv (X 60 0)), .ref (if X 57 0 = 0 then e0 else (X 72 0).toNat), .int (iv (X 51 0))])) : Option (Nat × va_E))
    simp only [r0, r1, r2, r3]
  | 12, h => by
    have r0 : Y 61 0 = X 61 0 := h 61 0 (Or.inl ⟨rfl, rfl⟩)
    have r1 : Y 58 0 = X 58 0 := h 58 0 (Or.inr (Or.inl ⟨rfl, rfl⟩))
    have r2 : Y 73 0 = X 73 0 := h 73 0 (Or.inr (Or.inr (Or.inl ⟨rfl, rfl⟩)))
    have r3 : Y 52 0 = X 52 0 := h 52 0 (Or.inr (Or.inr (Or.inr (⟨rfl, rfl⟩))))
    show (some (B 12, .inr (10, [.int (iv (Y 61 0)), .ref (if Y 58 0 = 0 then e0 else (Y 73 0).toNat), .int (iv (Y 52 0))])) : Option (Nat × va_E)) = (some (B 12, .inr (10, [.int (iv (X 61 0)), .ref (if X 58 0 = 0 then e0 else (X 73 0).toNat), .int (iv (X 52 0))])) : Option (Nat × va_E))
    simp only [r0, r1, r2, r3]
  | 13, h => by
    have r0 : Y 56 0 = X 56 0 := h 56 0 (Or.inl ⟨rfl, rfl⟩)
    have r1 : Y 71 0 = X 71 0 := h 71 0 (Or.inr (Or.inl ⟨rfl, rfl⟩))
    have r2 : ∀ j : Int, Y 53 j = X 53 j := fun j => h 53 j (Or.inr (Or.inr ((rfl : 53 = 53))))
    show (if Y 56 0 = 0 then none else some ((Y 71 0).toNat, .inl (cs 4, 10, .inr (.inr (.inr (.inr (fun k : Nat => if Y 53 (k : Int) < 0 then none else some (Y 53 (k : Int)).toNat)))))) : Option (Nat × va_E)) = (if X 56 0 = 0 then none else some ((X 71 0).toNat, .inl (cs 4, 10, .inr (.inr (.inr (.inr (fun k : Nat => if X 53 (k : Int) < 0 then none else some (X 53 (k : Int)).toNat)))))) : Option (Nat × va_E))
    simp only [r0, r1, r2]
  | 14, h => by
    have r0 : Y 57 0 = X 57 0 := h 57 0 (Or.inl ⟨rfl, rfl⟩)
    have r1 : Y 72 0 = X 72 0 := h 72 0 (Or.inr (Or.inl ⟨rfl, rfl⟩))
    have r2 : ∀ j : Int, Y 54 j = X 54 j := fun j => h 54 j (Or.inr (Or.inr ((rfl : 54 = 54))))
    show (if Y 57 0 = 0 then none else some ((Y 72 0).toNat, .inl (cs 4, 10, .inr (.inr (.inr (.inr (fun k : Nat => if Y 54 (k : Int) < 0 then none else some (Y 54 (k : Int)).toNat)))))) : Option (Nat × va_E)) = (if X 57 0 = 0 then none else some ((X 72 0).toNat, .inl (cs 4, 10, .inr (.inr (.inr (.inr (fun k : Nat => if X 54 (k : Int) < 0 then none else some (X 54 (k : Int)).toNat)))))) : Option (Nat × va_E))
    simp only [r0, r1, r2]
  | 15, h => by
    have r0 : Y 58 0 = X 58 0 := h 58 0 (Or.inl ⟨rfl, rfl⟩)
    have r1 : Y 73 0 = X 73 0 := h 73 0 (Or.inr (Or.inl ⟨rfl, rfl⟩))
    have r2 : ∀ j : Int, Y 55 j = X 55 j := fun j => h 55 j (Or.inr (Or.inr ((rfl : 55 = 55))))
    show (if Y 58 0 = 0 then none else some ((Y 73 0).toNat, .inl (cs 4, 10, .inr (.inr (.inr (.inr (fun k : Nat => if Y 55 (k : Int) < 0 then none else some (Y 55 (k : Int)).toNat)))))) : Option (Nat × va_E)) = (if X 58 0 = 0 then none else some ((X 73 0).toNat, .inl (cs 4, 10, .inr (.inr (.inr (.inr (fun k : Nat => if X 55 (k : Int) < 0 then none else some (X 55 (k : Int)).toNat)))))) : Option (Nat × va_E))
    simp only [r0, r1, r2]
  | 16, h => by
    have r0 : Y 44 0 = X 44 0 := h 44 0 (⟨rfl, rfl⟩)
    show (some (B 16, .inr (3, [.null, .null, .null, .null, .null, .int 0, .int (iv (Y 44 0))])) : Option (Nat × va_E)) = (some (B 16, .inr (3, [.null, .null, .null, .null, .null, .int 0, .int (iv (X 44 0))])) : Option (Nat × va_E))
    simp only [r0]
  | 17, h => by
    have r0 : ∀ j : Int, Y 30 j = X 30 j := fun j => h 30 j ((rfl : 30 = 30))
    show (some (B 17, .inl (cs 1, 100, .inl (fun j : Nat => iv (Y 30 (j : Int))))) : Option (Nat × va_E)) = (some (B 17, .inl (cs 1, 100, .inl (fun j : Nat => iv (X 30 (j : Int))))) : Option (Nat × va_E))
    simp only [r0]
  | 18, h => by
    have r0 : ∀ j : Int, Y 35 j = X 35 j := fun j => h 35 j ((rfl : 35 = 35))
    show (some (B 18, .inl (cs 0, 32, .inl (fun j : Nat => iv (Y 35 (j : Int))))) : Option (Nat × va_E)) = (some (B 18, .inl (cs 0, 32, .inl (fun j : Nat => iv (X 35 (j : Int))))) : Option (Nat × va_E))
    simp only [r0]
  | 19, h => by
    have r0 : ∀ j : Int, Y 37 j = X 37 j := fun j => h 37 j ((rfl : 37 = 37))
    show (some (B 19, .inl (cs 0, 48, .inl (fun j : Nat => iv (Y 37 (j : Int))))) : Option (Nat × va_E)) = (some (B 19, .inl (cs 0, 48, .inl (fun j : Nat => iv (X 37 (j : Int))))) : Option (Nat × va_E))
    simp only [r0]
  | 20, h => by
    have r0 : ∀ j : Int, Y 40 j = X 40 j := fun j => h 40 j ((rfl : 40 = 40))
    show (some (B 20, .inl (cs 0, 32, .inl (fun j : Nat => iv (Y 40 (j : Int))))) : Option (Nat × va_E)) = (some (B 20, .inl (cs 0, 32, .inl (fun j : Nat => iv (X 40 (j : Int))))) : Option (Nat × va_E))
    simp only [r0]
  | 21, h => by
    have r0 : ∀ j : Int, Y 41 j = X 41 j := fun j => h 41 j ((rfl : 41 = 41))
    show (some (B 21, .inl (cs 0, 48, .inl (fun j : Nat => iv (Y 41 (j : Int))))) : Option (Nat × va_E)) = (some (B 21, .inl (cs 0, 48, .inl (fun j : Nat => iv (X 41 (j : Int))))) : Option (Nat × va_E))
    simp only [r0]
  | 22, _ => rfl
  | 23, h => by
    have r0 : Y 65 0 = X 65 0 := h 65 0 (Or.inl ⟨rfl, rfl⟩)
    have r1 : Y 70 0 = X 70 0 := h 70 0 (Or.inr (⟨rfl, rfl⟩))
    show (some (B 23, .inr (5, [if Y 65 0 < 0 then .null else .ref (Y 70 0).toNat])) : Option (Nat × va_E)) = (some (B 23, .inr (5, [if X 65 0 < 0 then .null else .ref (X 70 0).toNat])) : Option (Nat × va_E))
    simp only [r0, r1]
  | 24, h => by
    have r0 : Y 65 1 = X 65 1 := h 65 1 (Or.inl ⟨rfl, rfl⟩)
    have r1 : Y 70 1 = X 70 1 := h 70 1 (Or.inr (⟨rfl, rfl⟩))
    show (some (B 24, .inr (5, [if Y 65 1 < 0 then .null else .ref (Y 70 1).toNat])) : Option (Nat × va_E)) = (some (B 24, .inr (5, [if X 65 1 < 0 then .null else .ref (X 70 1).toNat])) : Option (Nat × va_E))
    simp only [r0, r1]
  | 25, h => by
    have r0 : Y 65 2 = X 65 2 := h 65 2 (Or.inl ⟨rfl, rfl⟩)
    have r1 : Y 70 2 = X 70 2 := h 70 2 (Or.inr (⟨rfl, rfl⟩))
    show (some (B 25, .inr (5, [if Y 65 2 < 0 then .null else .ref (Y 70 2).toNat])) : Option (Nat × va_E)) = (some (B 25, .inr (5, [if X 65 2 < 0 then .null else .ref (X 70 2).toNat])) : Option (Nat × va_E))
    simp only [r0, r1]
  | 26, h => by
    have r0 : Y 65 3 = X 65 3 := h 65 3 (Or.inl ⟨rfl, rfl⟩)
    have r1 : Y 70 3 = X 70 3 := h 70 3 (Or.inr (⟨rfl, rfl⟩))
    show (some (B 26, .inr (5, [if Y 65 3 < 0 then .null else .ref (Y 70 3).toNat])) : Option (Nat × va_E)) = (some (B 26, .inr (5, [if X 65 3 < 0 then .null else .ref (X 70 3).toNat])) : Option (Nat × va_E))
    simp only [r0, r1]
  | 27, h => by
    have r0 : Y 65 0 = X 65 0 := h 65 0 (Or.inl ⟨rfl, rfl⟩)
    have r1 : Y 70 0 = X 70 0 := h 70 0 (Or.inr (Or.inl ⟨rfl, rfl⟩))
    have r2 : Y 66 0 = X 66 0 := h 66 0 (Or.inr (Or.inr (Or.inl ⟨rfl, rfl⟩)))
    have r3 : ∀ j : Int, xRow Y 0 j = xRow X 0 j := fun j => by unfold xRow; split; exact h 67 _ (Or.inr (Or.inr (Or.inr (⟨rfl, by omega, by omega⟩)))); rfl
    show (if Y 65 0 < 0 then none else some ((Y 70 0).toNat, .inl (cs (rowC (Y 65 0)), (Y 66 0).toNat, .inl (fun k : Nat => iv (xRow Y 0 (k : Int))))) : Option (Nat × va_E)) = (if X 65 0 < 0 then none else some ((X 70 0).toNat, .inl (cs (rowC (X 65 0)), (X 66 0).toNat, .inl (fun k : Nat => iv (xRow X 0 (k : Int))))) : Option (Nat × va_E))
    simp only [r0, r1, r2, r3]
  | 28, h => by
    have r0 : Y 65 1 = X 65 1 := h 65 1 (Or.inl ⟨rfl, rfl⟩)
    have r1 : Y 70 1 = X 70 1 := h 70 1 (Or.inr (Or.inl ⟨rfl, rfl⟩))
    have r2 : Y 66 1 = X 66 1 := h 66 1 (Or.inr (Or.inr (Or.inl ⟨rfl, rfl⟩)))
    have r3 : ∀ j : Int, xRow Y 1 j = xRow X 1 j := fun j => by unfold xRow; split; exact h 67 _ (Or.inr (Or.inr (Or.inr (⟨rfl, by omega, by omega⟩)))); rfl
    show (if Y 65 1 < 0 then none else some ((Y 70 1).toNat, .inl (cs (rowC (Y 65 1)), (Y 66 1).toNat, .inl (fun k : Nat => iv (xRow Y 1 (k : Int))))) : Option (Nat × va_E)) = (if X 65 1 < 0 then none else some ((X 70 1).toNat, .inl (cs (rowC (X 65 1)), (X 66 1).toNat, .inl (fun k : Nat => iv (xRow X 1 (k : Int))))) : Option (Nat × va_E))
    simp only [r0, r1, r2, r3]
  | 29, h => by
    have r0 : Y 65 2 = X 65 2 := h 65 2 (Or.inl ⟨rfl, rfl⟩)
    have r1 : Y 70 2 = X 70 2 := h 70 2 (Or.inr (Or.inl ⟨rfl, rfl⟩))
    have r2 : Y 66 2 = X 66 2 := h 66 2 (Or.inr (Or.inr (Or.inl ⟨rfl, rfl⟩)))
    have r3 : ∀ j : Int, xRow Y 2 j = xRow X 2 j := fun j => by unfold xRow; split; exact h 67 _ (Or.inr (Or.inr (Or.inr (⟨rfl, by omega, by omega⟩)))); rfl
    show (if Y 65 2 < 0 then none else some ((Y 70 2).toNat, .inl (cs (rowC (Y 65 2)), (Y 66 2).toNat, .inl (fun k : Nat => iv (xRow Y 2 (k : Int))))) : Option (Nat × va_E)) = (if X 65 2 < 0 then none else some ((X 70 2).toNat, .inl (cs (rowC (X 65 2)), (X 66 2).toNat, .inl (fun k : Nat => iv (xRow X 2 (k : Int))))) : Option (Nat × va_E))
    simp only [r0, r1, r2, r3]
  | 30, h => by
    have r0 : Y 65 3 = X 65 3 := h 65 3 (Or.inl ⟨rfl, rfl⟩)
    have r1 : Y 70 3 = X 70 3 := h 70 3 (Or.inr (Or.inl ⟨rfl, rfl⟩))
    have r2 : Y 66 3 = X 66 3 := h 66 3 (Or.inr (Or.inr (Or.inl ⟨rfl, rfl⟩)))
    have r3 : ∀ j : Int, xRow Y 3 j = xRow X 3 j := fun j => by unfold xRow; split; exact h 67 _ (Or.inr (Or.inr (Or.inr (⟨rfl, by omega, by omega⟩)))); rfl
    show (if Y 65 3 < 0 then none else some ((Y 70 3).toNat, .inl (cs (rowC (Y 65 3)), (Y 66 3).toNat, .inl (fun k : Nat => iv (xRow Y 3 (k : Int))))) : Option (Nat × va_E)) = (if X 65 3 < 0 then none else some ((X 70 3).toNat, .inl (cs (rowC (X 65 3)), (X 66 3).toNat, .inl (fun k : Nat => iv (xRow X 3 (k : Int))))) : Option (Nat × va_E))
    simp only [r0, r1, r2, r3]
  | n + 31, h => by
    show (if n < 9 then none else if n < 57 then xBeat B Y (n - 9) else if n < 69 then none else xPool Y (n - 69)) = (if n < 9 then none else if n < 57 then xBeat B X (n - 9) else if n < 69 then none else xPool X (n - 69))
    by_cases h1 : n < 9
    · rw [if_pos h1, if_pos h1]
    · rw [if_neg h1, if_neg h1]
      by_cases h2 : n < 57
      · rw [if_pos h2, if_pos h2]
        have e : ∀ f : Nat, f ≤ 4 → Y (10 * ((n - 9) / 16) + f) (((n - 9) % 16 : Nat) : Int) = X (10 * ((n - 9) / 16) + f) (((n - 9) % 16 : Nat) : Int) := fun f hf => h _ _ (Or.inl ⟨by omega, h2, by omega, by omega, rfl⟩)
        unfold xBeat
        rw [e 0 (by decide), e 1 (by decide), e 2 (by decide), e 3 (by decide), e 4 (by decide)]
      · rw [if_neg h2, if_neg h2]
        by_cases h3 : n < 69
        · rw [if_pos h3, if_pos h3]
        · rw [if_neg h3, if_neg h3]
          unfold xPool
          rw [h 62 _ (Or.inr ⟨by omega, by decide, by decide, rfl⟩), h 63 _ (Or.inr ⟨by omega, by decide, by decide, rfl⟩), h 64 _ (Or.inr ⟨by omega, by decide, by decide, rfl⟩)]
/-- the role that rests on a number (where it is one alone) -/
def xo (k : Nat) (z : Int) : Nat := if k < 30 then (if k % 10 ≤ 4 then 40 + 16 * (k / 10) + z.toNat else if k % 10 = 5 then 1 + k / 10 else 7 + k / 10) else if k = 30 then 17 else if k = 35 then 18 else if k = 37 then 19 else if k = 40 then 20 else if k = 41 then 21 else if k < 44 then 0 else if k = 44 then 16 else if k < 53 then k - 40 else if k < 56 then k - 40 else if k < 62 then k - 49 else if k < 65 then 100 + z.toNat else if k = 66 then 27 + z.toNat else 27 + (z / 16).toNat
abbrev xsp (k : Nat) : Prop := k = 56 ∨ k = 57 ∨ k = 58 ∨ k = 65 ∨ k = 70 ∨ k = 71 ∨ k = 72 ∨ k = 73
theorem xu_own : ∀ (i k : Nat) (z : Int), xu i k z → ¬ xsp k → i = xo k z
  | 0, k, z, h, hs => by
    replace h : (k = 31 ∧ z = 0) ∨ (k = 32 ∧ z = 0) ∨ (k = 33 ∧ z = 0) ∨ (k = 34 ∧ z = 0) ∨ (k = 36 ∧ z = 0) ∨ (k = 38 ∧ z = 0) ∨ (k = 39 ∧ z = 0) ∨ (k = 42 ∧ z = 0) ∨ (k = 43 ∧ z = 0) := h
    rcases h with h | h | h | h | h | h | h | h | h
    · obtain ⟨rfl, rfl⟩ := h; rfl
    · obtain ⟨rfl, rfl⟩ := h; rfl
    · obtain ⟨rfl, rfl⟩ := h; rfl
    · obtain ⟨rfl, rfl⟩ := h; rfl
    · obtain ⟨rfl, rfl⟩ := h; rfl
    · obtain ⟨rfl, rfl⟩ := h; rfl
    · obtain ⟨rfl, rfl⟩ := h; rfl
    · obtain ⟨rfl, rfl⟩ := h; rfl
    · obtain ⟨rfl, rfl⟩ := h; rfl
  | 1, k, z, h, hs => by
    replace h : (k = 5 ∧ z = 0) := h
    obtain ⟨rfl, rfl⟩ := h; rfl
  | 2, k, z, h, hs => by
    replace h : (k = 15 ∧ z = 0) := h
    obtain ⟨rfl, rfl⟩ := h; rfl
  | 3, k, z, h, hs => by
    replace h : (k = 25 ∧ z = 0) := h
    obtain ⟨rfl, rfl⟩ := h; rfl
  | 4, k, z, h, hs => False.elim h
  | 5, k, z, h, hs => False.elim h
  | 6, k, z, h, hs => False.elim h
  | 7, k, z, h, hs => by
    replace h : k = 6 := h
    subst h; rfl
  | 8, k, z, h, hs => by
    replace h : k = 16 := h
    subst h; rfl
  | 9, k, z, h, hs => by
    replace h : k = 26 := h
    subst h; rfl
  | 10, k, z, h, hs => by
    replace h : (k = 59 ∧ z = 0) ∨ (k = 56 ∧ z = 0) ∨ (k = 71 ∧ z = 0) ∨ (k = 50 ∧ z = 0) := h
    rcases h with h | h | h | h
    · obtain ⟨rfl, rfl⟩ := h; rfl
    · exact absurd (show xsp k by rw [h.1]; decide) hs
    · exact absurd (show xsp k by rw [h.1]; decide) hs
    · obtain ⟨rfl, rfl⟩ := h; rfl
  | 11, k, z, h, hs => by
    replace h : (k = 60 ∧ z = 0) ∨ (k = 57 ∧ z = 0) ∨ (k = 72 ∧ z = 0) ∨ (k = 51 ∧ z = 0) := h
    rcases h with h | h | h | h
    · obtain ⟨rfl, rfl⟩ := h; rfl
    · exact absurd (show xsp k by rw [h.1]; decide) hs
    · exact absurd (show xsp k by rw [h.1]; decide) hs
    · obtain ⟨rfl, rfl⟩ := h; rfl
  | 12, k, z, h, hs => by
    replace h : (k = 61 ∧ z = 0) ∨ (k = 58 ∧ z = 0) ∨ (k = 73 ∧ z = 0) ∨ (k = 52 ∧ z = 0) := h
    rcases h with h | h | h | h
    · obtain ⟨rfl, rfl⟩ := h; rfl
    · exact absurd (show xsp k by rw [h.1]; decide) hs
    · exact absurd (show xsp k by rw [h.1]; decide) hs
    · obtain ⟨rfl, rfl⟩ := h; rfl
  | 13, k, z, h, hs => by
    replace h : (k = 56 ∧ z = 0) ∨ (k = 71 ∧ z = 0) ∨ k = 53 := h
    rcases h with h | h | h
    · exact absurd (show xsp k by rw [h.1]; decide) hs
    · exact absurd (show xsp k by rw [h.1]; decide) hs
    · subst h; rfl
  | 14, k, z, h, hs => by
    replace h : (k = 57 ∧ z = 0) ∨ (k = 72 ∧ z = 0) ∨ k = 54 := h
    rcases h with h | h | h
    · exact absurd (show xsp k by rw [h.1]; decide) hs
    · exact absurd (show xsp k by rw [h.1]; decide) hs
    · subst h; rfl
  | 15, k, z, h, hs => by
    replace h : (k = 58 ∧ z = 0) ∨ (k = 73 ∧ z = 0) ∨ k = 55 := h
    rcases h with h | h | h
    · exact absurd (show xsp k by rw [h.1]; decide) hs
    · exact absurd (show xsp k by rw [h.1]; decide) hs
    · subst h; rfl
  | 16, k, z, h, hs => by
    replace h : (k = 44 ∧ z = 0) := h
    obtain ⟨rfl, rfl⟩ := h; rfl
  | 17, k, z, h, hs => by
    replace h : k = 30 := h
    subst h; rfl
  | 18, k, z, h, hs => by
    replace h : k = 35 := h
    subst h; rfl
  | 19, k, z, h, hs => by
    replace h : k = 37 := h
    subst h; rfl
  | 20, k, z, h, hs => by
    replace h : k = 40 := h
    subst h; rfl
  | 21, k, z, h, hs => by
    replace h : k = 41 := h
    subst h; rfl
  | 22, k, z, h, hs => False.elim h
  | 23, k, z, h, hs => by
    replace h : (k = 65 ∧ z = 0) ∨ (k = 70 ∧ z = 0) := h
    rcases h with h | h
    · exact absurd (show xsp k by rw [h.1]; decide) hs
    · exact absurd (show xsp k by rw [h.1]; decide) hs
  | 24, k, z, h, hs => by
    replace h : (k = 65 ∧ z = 1) ∨ (k = 70 ∧ z = 1) := h
    rcases h with h | h
    · exact absurd (show xsp k by rw [h.1]; decide) hs
    · exact absurd (show xsp k by rw [h.1]; decide) hs
  | 25, k, z, h, hs => by
    replace h : (k = 65 ∧ z = 2) ∨ (k = 70 ∧ z = 2) := h
    rcases h with h | h
    · exact absurd (show xsp k by rw [h.1]; decide) hs
    · exact absurd (show xsp k by rw [h.1]; decide) hs
  | 26, k, z, h, hs => by
    replace h : (k = 65 ∧ z = 3) ∨ (k = 70 ∧ z = 3) := h
    rcases h with h | h
    · exact absurd (show xsp k by rw [h.1]; decide) hs
    · exact absurd (show xsp k by rw [h.1]; decide) hs
  | 27, k, z, h, hs => by
    replace h : (k = 65 ∧ z = 0) ∨ (k = 70 ∧ z = 0) ∨ (k = 66 ∧ z = 0) ∨ (k = 67 ∧ 0 ≤ z ∧ z < 16) := h
    rcases h with h | h | h | h
    · exact absurd (show xsp k by rw [h.1]; decide) hs
    · exact absurd (show xsp k by rw [h.1]; decide) hs
    · obtain ⟨rfl, rfl⟩ := h; rfl
    · obtain ⟨rfl, h1, h2⟩ := h; show 27 = 27 + (z / 16).toNat; omega
  | 28, k, z, h, hs => by
    replace h : (k = 65 ∧ z = 1) ∨ (k = 70 ∧ z = 1) ∨ (k = 66 ∧ z = 1) ∨ (k = 67 ∧ 16 ≤ z ∧ z < 32) := h
    rcases h with h | h | h | h
    · exact absurd (show xsp k by rw [h.1]; decide) hs
    · exact absurd (show xsp k by rw [h.1]; decide) hs
    · obtain ⟨rfl, rfl⟩ := h; rfl
    · obtain ⟨rfl, h1, h2⟩ := h; show 28 = 27 + (z / 16).toNat; omega
  | 29, k, z, h, hs => by
    replace h : (k = 65 ∧ z = 2) ∨ (k = 70 ∧ z = 2) ∨ (k = 66 ∧ z = 2) ∨ (k = 67 ∧ 32 ≤ z ∧ z < 48) := h
    rcases h with h | h | h | h
    · exact absurd (show xsp k by rw [h.1]; decide) hs
    · exact absurd (show xsp k by rw [h.1]; decide) hs
    · obtain ⟨rfl, rfl⟩ := h; rfl
    · obtain ⟨rfl, h1, h2⟩ := h; show 29 = 27 + (z / 16).toNat; omega
  | 30, k, z, h, hs => by
    replace h : (k = 65 ∧ z = 3) ∨ (k = 70 ∧ z = 3) ∨ (k = 66 ∧ z = 3) ∨ (k = 67 ∧ 48 ≤ z ∧ z < 64) := h
    rcases h with h | h | h | h
    · exact absurd (show xsp k by rw [h.1]; decide) hs
    · exact absurd (show xsp k by rw [h.1]; decide) hs
    · obtain ⟨rfl, rfl⟩ := h; rfl
    · obtain ⟨rfl, h1, h2⟩ := h; show 30 = 27 + (z / 16).toNat; omega
  | n + 31, k, z, h, hs => by
    replace h : (9 ≤ n ∧ n < 57 ∧ 10 * ((n - 9) / 16) ≤ k ∧ k ≤ 10 * ((n - 9) / 16) + 4 ∧ z = (((n - 9) % 16 : Nat) : Int)) ∨ (69 ≤ n ∧ 62 ≤ k ∧ k ≤ 64 ∧ z = ((n - 69 : Nat) : Int)) := h
    rcases h with h | h
    · unfold xo
      rw [if_pos (by omega), if_pos (by omega)]
      omega
    · obtain ⟨g1, g2, g3, rfl⟩ := h
      rcases (show k = 62 ∨ k = 63 ∨ k = 64 by omega) with rfl | rfl | rfl
      · show n + 31 = 100 + ((n - 69 : Nat) : Int).toNat; omega
      · show n + 31 = 100 + ((n - 69 : Nat) : Int).toNat; omega
      · show n + 31 = 100 + ((n - 69 : Nat) : Int).toNat; omega
theorem xW_o {cs : Nat → ClassId} {B : Nat → Nat} {e0 : Nat} (X : St) (k : Nat) (z v : Int) (hs : ¬ xsp k) {j : Nat} (hj : j ≠ xo k z) : xW cs B e0 (upd2 X k z v) j = xW cs B e0 X j := by
  refine xW_c j (fun k' z' hu => ?_)
  show (if k' = k then (if z' = z then v else X k' z') else X k' z') = X k' z'
  by_cases h1 : k' = k
  · by_cases h2 : z' = z
    · exact absurd (xu_own j k' z' hu (h1 ▸ hs)) (by rw [h1, h2]; exact hj)
    · rw [if_pos h1, if_neg h2]
  · rw [if_neg h1]
