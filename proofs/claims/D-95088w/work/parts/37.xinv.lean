/-! ===== the component: bounds (printed by gen_xinv.py) ===== -/
/-- rows without bounds: addresses, the lists' counts of changes -/
abbrev xnb (k : Nat) : Prop := (53 ≤ k ∧ k ≤ 55) ∨ (59 ≤ k ∧ k ≤ 61) ∨ 68 ≤ k
def xlo : Nat → Int → Int := fun k i => match k with
  | 2 => -4
  | 3 => -4
  | 12 => -4
  | 13 => -4
  | 22 => -4
  | 23 => -4
  | 62 => -1
  | 65 => -1
  | 67 => -2147483648
  | _ => 0
def xhi : Nat → Int → Int := fun k i => match k with
  | 0 => 39
  | 1 => 39
  | 2 => 3
  | 3 => 3
  | 4 => 1
  | 5 => 3
  | 6 => 10
  | 10 => 39
  | 11 => 39
  | 12 => 3
  | 13 => 3
  | 14 => 1
  | 15 => 3
  | 16 => 10
  | 20 => 39
  | 21 => 39
  | 22 => 3
  | 23 => 3
  | 24 => 1
  | 25 => 3
  | 26 => 10
  | 30 => 126
  | 31 => 100
  | 32 => 100
  | 33 => 1000000000
  | 34 => 1000000000
  | 35 => (if i % 4 = 0 then 15 else if i % 4 = 3 then 99 else 3)
  | 36 => 8
  | 37 => (if i % 2 = 0 then 15 else 3)
  | 38 => 24
  | 39 => 1
  | 40 => (if i % 4 = 0 then 15 else if i % 4 = 3 then 99 else 3)
  | 41 => (if i % 2 = 0 then 15 else 3)
  | 42 => 8
  | 43 => 24
  | 44 => 100
  | 50 => 8
  | 51 => 8
  | 52 => 8
  | 56 => 1
  | 57 => 1
  | 58 => 1
  | 62 => 3
  | 63 => 11
  | 64 => 9
  | 65 => 2
  | 66 => 16
  | 67 => 2147483647
  | _ => 0
def InvX (X : St) : Prop := ∀ (k : Nat) (i : Int), ¬ xnb k → xlo k i ≤ X k i ∧ X k i ≤ xhi k i
theorem InvX.set {X Y : St} {k : Nat} {z v : Int} (h : InvX X) (e : Y = upd2 X k z v) (hv : xnb k ∨ (xlo k z ≤ v ∧ v ≤ xhi k z)) : InvX Y := by
  intro k' i hk'
  rw [e]
  show xlo k' i ≤ (if k' = k then (if i = z then v else X k' i) else X k' i) ∧ (if k' = k then (if i = z then v else X k' i) else X k' i) ≤ xhi k' i
  by_cases hk : k' = k
  · rw [if_pos hk]
    by_cases hi : i = z
    · rw [if_pos hi, hk, hi]
      rcases hv with hv | hv
      · exact absurd (hk ▸ hv) hk'
      · exact hv
    · rw [if_neg hi]; exact h k' i hk'
  · rw [if_neg hk]; exact h k' i hk'
theorem iX_0 {X : St} (h : InvX X) (i : Int) : 0 ≤ X 0 i ∧ X 0 i ≤ 39 := h 0 i (by decide)
theorem iXs_0 {X Y : St} {z v : Int} (h : InvX X) (e : Y = upd2 X 0 z v) (hv : 0 ≤ v ∧ v ≤ 39) : InvX Y := h.set e (Or.inr hv)
theorem iX_1 {X : St} (h : InvX X) (i : Int) : 0 ≤ X 1 i ∧ X 1 i ≤ 39 := h 1 i (by decide)
theorem iXs_1 {X Y : St} {z v : Int} (h : InvX X) (e : Y = upd2 X 1 z v) (hv : 0 ≤ v ∧ v ≤ 39) : InvX Y := h.set e (Or.inr hv)
theorem iX_2 {X : St} (h : InvX X) (i : Int) : -4 ≤ X 2 i ∧ X 2 i ≤ 3 := h 2 i (by decide)
theorem iXs_2 {X Y : St} {z v : Int} (h : InvX X) (e : Y = upd2 X 2 z v) (hv : -4 ≤ v ∧ v ≤ 3) : InvX Y := h.set e (Or.inr hv)
theorem iX_3 {X : St} (h : InvX X) (i : Int) : -4 ≤ X 3 i ∧ X 3 i ≤ 3 := h 3 i (by decide)
theorem iXs_3 {X Y : St} {z v : Int} (h : InvX X) (e : Y = upd2 X 3 z v) (hv : -4 ≤ v ∧ v ≤ 3) : InvX Y := h.set e (Or.inr hv)
theorem iX_4 {X : St} (h : InvX X) (i : Int) : 0 ≤ X 4 i ∧ X 4 i ≤ 1 := h 4 i (by decide)
theorem iXs_4 {X Y : St} {z v : Int} (h : InvX X) (e : Y = upd2 X 4 z v) (hv : 0 ≤ v ∧ v ≤ 1) : InvX Y := h.set e (Or.inr hv)
theorem iX_5 {X : St} (h : InvX X) (i : Int) : 0 ≤ X 5 i ∧ X 5 i ≤ 3 := h 5 i (by decide)
theorem iXs_5 {X Y : St} {z v : Int} (h : InvX X) (e : Y = upd2 X 5 z v) (hv : 0 ≤ v ∧ v ≤ 3) : InvX Y := h.set e (Or.inr hv)
theorem iX_6 {X : St} (h : InvX X) (i : Int) : 0 ≤ X 6 i ∧ X 6 i ≤ 10 := h 6 i (by decide)
theorem iXs_6 {X Y : St} {z v : Int} (h : InvX X) (e : Y = upd2 X 6 z v) (hv : 0 ≤ v ∧ v ≤ 10) : InvX Y := h.set e (Or.inr hv)
theorem iX_10 {X : St} (h : InvX X) (i : Int) : 0 ≤ X 10 i ∧ X 10 i ≤ 39 := h 10 i (by decide)
theorem iXs_10 {X Y : St} {z v : Int} (h : InvX X) (e : Y = upd2 X 10 z v) (hv : 0 ≤ v ∧ v ≤ 39) : InvX Y := h.set e (Or.inr hv)
theorem iX_11 {X : St} (h : InvX X) (i : Int) : 0 ≤ X 11 i ∧ X 11 i ≤ 39 := h 11 i (by decide)
theorem iXs_11 {X Y : St} {z v : Int} (h : InvX X) (e : Y = upd2 X 11 z v) (hv : 0 ≤ v ∧ v ≤ 39) : InvX Y := h.set e (Or.inr hv)
theorem iX_12 {X : St} (h : InvX X) (i : Int) : -4 ≤ X 12 i ∧ X 12 i ≤ 3 := h 12 i (by decide)
theorem iXs_12 {X Y : St} {z v : Int} (h : InvX X) (e : Y = upd2 X 12 z v) (hv : -4 ≤ v ∧ v ≤ 3) : InvX Y := h.set e (Or.inr hv)
theorem iX_13 {X : St} (h : InvX X) (i : Int) : -4 ≤ X 13 i ∧ X 13 i ≤ 3 := h 13 i (by decide)
theorem iXs_13 {X Y : St} {z v : Int} (h : InvX X) (e : Y = upd2 X 13 z v) (hv : -4 ≤ v ∧ v ≤ 3) : InvX Y := h.set e (Or.inr hv)
theorem iX_14 {X : St} (h : InvX X) (i : Int) : 0 ≤ X 14 i ∧ X 14 i ≤ 1 := h 14 i (by decide)
theorem iXs_14 {X Y : St} {z v : Int} (h : InvX X) (e : Y = upd2 X 14 z v) (hv : 0 ≤ v ∧ v ≤ 1) : InvX Y := h.set e (Or.inr hv)
theorem iX_15 {X : St} (h : InvX X) (i : Int) : 0 ≤ X 15 i ∧ X 15 i ≤ 3 := h 15 i (by decide)
theorem iXs_15 {X Y : St} {z v : Int} (h : InvX X) (e : Y = upd2 X 15 z v) (hv : 0 ≤ v ∧ v ≤ 3) : InvX Y := h.set e (Or.inr hv)
theorem iX_16 {X : St} (h : InvX X) (i : Int) : 0 ≤ X 16 i ∧ X 16 i ≤ 10 := h 16 i (by decide)
theorem iXs_16 {X Y : St} {z v : Int} (h : InvX X) (e : Y = upd2 X 16 z v) (hv : 0 ≤ v ∧ v ≤ 10) : InvX Y := h.set e (Or.inr hv)
theorem iX_20 {X : St} (h : InvX X) (i : Int) : 0 ≤ X 20 i ∧ X 20 i ≤ 39 := h 20 i (by decide)
theorem iXs_20 {X Y : St} {z v : Int} (h : InvX X) (e : Y = upd2 X 20 z v) (hv : 0 ≤ v ∧ v ≤ 39) : InvX Y := h.set e (Or.inr hv)
theorem iX_21 {X : St} (h : InvX X) (i : Int) : 0 ≤ X 21 i ∧ X 21 i ≤ 39 := h 21 i (by decide)
theorem iXs_21 {X Y : St} {z v : Int} (h : InvX X) (e : Y = upd2 X 21 z v) (hv : 0 ≤ v ∧ v ≤ 39) : InvX Y := h.set e (Or.inr hv)
theorem iX_22 {X : St} (h : InvX X) (i : Int) : -4 ≤ X 22 i ∧ X 22 i ≤ 3 := h 22 i (by decide)
theorem iXs_22 {X Y : St} {z v : Int} (h : InvX X) (e : Y = upd2 X 22 z v) (hv : -4 ≤ v ∧ v ≤ 3) : InvX Y := h.set e (Or.inr hv)
theorem iX_23 {X : St} (h : InvX X) (i : Int) : -4 ≤ X 23 i ∧ X 23 i ≤ 3 := h 23 i (by decide)
theorem iXs_23 {X Y : St} {z v : Int} (h : InvX X) (e : Y = upd2 X 23 z v) (hv : -4 ≤ v ∧ v ≤ 3) : InvX Y := h.set e (Or.inr hv)
theorem iX_24 {X : St} (h : InvX X) (i : Int) : 0 ≤ X 24 i ∧ X 24 i ≤ 1 := h 24 i (by decide)
theorem iXs_24 {X Y : St} {z v : Int} (h : InvX X) (e : Y = upd2 X 24 z v) (hv : 0 ≤ v ∧ v ≤ 1) : InvX Y := h.set e (Or.inr hv)
theorem iX_25 {X : St} (h : InvX X) (i : Int) : 0 ≤ X 25 i ∧ X 25 i ≤ 3 := h 25 i (by decide)
theorem iXs_25 {X Y : St} {z v : Int} (h : InvX X) (e : Y = upd2 X 25 z v) (hv : 0 ≤ v ∧ v ≤ 3) : InvX Y := h.set e (Or.inr hv)
theorem iX_26 {X : St} (h : InvX X) (i : Int) : 0 ≤ X 26 i ∧ X 26 i ≤ 10 := h 26 i (by decide)
theorem iXs_26 {X Y : St} {z v : Int} (h : InvX X) (e : Y = upd2 X 26 z v) (hv : 0 ≤ v ∧ v ≤ 10) : InvX Y := h.set e (Or.inr hv)
theorem iX_30 {X : St} (h : InvX X) (i : Int) : 0 ≤ X 30 i ∧ X 30 i ≤ 126 := h 30 i (by decide)
theorem iXs_30 {X Y : St} {z v : Int} (h : InvX X) (e : Y = upd2 X 30 z v) (hv : 0 ≤ v ∧ v ≤ 126) : InvX Y := h.set e (Or.inr hv)
theorem iX_31 {X : St} (h : InvX X) (i : Int) : 0 ≤ X 31 i ∧ X 31 i ≤ 100 := h 31 i (by decide)
theorem iXs_31 {X Y : St} {z v : Int} (h : InvX X) (e : Y = upd2 X 31 z v) (hv : 0 ≤ v ∧ v ≤ 100) : InvX Y := h.set e (Or.inr hv)
theorem iX_32 {X : St} (h : InvX X) (i : Int) : 0 ≤ X 32 i ∧ X 32 i ≤ 100 := h 32 i (by decide)
theorem iXs_32 {X Y : St} {z v : Int} (h : InvX X) (e : Y = upd2 X 32 z v) (hv : 0 ≤ v ∧ v ≤ 100) : InvX Y := h.set e (Or.inr hv)
theorem iX_33 {X : St} (h : InvX X) (i : Int) : 0 ≤ X 33 i ∧ X 33 i ≤ 1000000000 := h 33 i (by decide)
theorem iXs_33 {X Y : St} {z v : Int} (h : InvX X) (e : Y = upd2 X 33 z v) (hv : 0 ≤ v ∧ v ≤ 1000000000) : InvX Y := h.set e (Or.inr hv)
theorem iX_34 {X : St} (h : InvX X) (i : Int) : 0 ≤ X 34 i ∧ X 34 i ≤ 1000000000 := h 34 i (by decide)
theorem iXs_34 {X Y : St} {z v : Int} (h : InvX X) (e : Y = upd2 X 34 z v) (hv : 0 ≤ v ∧ v ≤ 1000000000) : InvX Y := h.set e (Or.inr hv)
theorem iX_35 {X : St} (h : InvX X) (i : Int) : 0 ≤ X 35 i ∧ X 35 i ≤ (if i % 4 = 0 then 15 else if i % 4 = 3 then 99 else 3) := h 35 i (by decide)
theorem iXs_35 {X Y : St} {z v : Int} (h : InvX X) (e : Y = upd2 X 35 z v) (hv : 0 ≤ v ∧ v ≤ (if z % 4 = 0 then 15 else if z % 4 = 3 then 99 else 3)) : InvX Y := h.set e (Or.inr hv)
theorem iX_36 {X : St} (h : InvX X) (i : Int) : 0 ≤ X 36 i ∧ X 36 i ≤ 8 := h 36 i (by decide)
theorem iXs_36 {X Y : St} {z v : Int} (h : InvX X) (e : Y = upd2 X 36 z v) (hv : 0 ≤ v ∧ v ≤ 8) : InvX Y := h.set e (Or.inr hv)
theorem iX_37 {X : St} (h : InvX X) (i : Int) : 0 ≤ X 37 i ∧ X 37 i ≤ (if i % 2 = 0 then 15 else 3) := h 37 i (by decide)
theorem iXs_37 {X Y : St} {z v : Int} (h : InvX X) (e : Y = upd2 X 37 z v) (hv : 0 ≤ v ∧ v ≤ (if z % 2 = 0 then 15 else 3)) : InvX Y := h.set e (Or.inr hv)
theorem iX_38 {X : St} (h : InvX X) (i : Int) : 0 ≤ X 38 i ∧ X 38 i ≤ 24 := h 38 i (by decide)
theorem iXs_38 {X Y : St} {z v : Int} (h : InvX X) (e : Y = upd2 X 38 z v) (hv : 0 ≤ v ∧ v ≤ 24) : InvX Y := h.set e (Or.inr hv)
theorem iX_39 {X : St} (h : InvX X) (i : Int) : 0 ≤ X 39 i ∧ X 39 i ≤ 1 := h 39 i (by decide)
theorem iXs_39 {X Y : St} {z v : Int} (h : InvX X) (e : Y = upd2 X 39 z v) (hv : 0 ≤ v ∧ v ≤ 1) : InvX Y := h.set e (Or.inr hv)
theorem iX_40 {X : St} (h : InvX X) (i : Int) : 0 ≤ X 40 i ∧ X 40 i ≤ (if i % 4 = 0 then 15 else if i % 4 = 3 then 99 else 3) := h 40 i (by decide)
theorem iXs_40 {X Y : St} {z v : Int} (h : InvX X) (e : Y = upd2 X 40 z v) (hv : 0 ≤ v ∧ v ≤ (if z % 4 = 0 then 15 else if z % 4 = 3 then 99 else 3)) : InvX Y := h.set e (Or.inr hv)
theorem iX_41 {X : St} (h : InvX X) (i : Int) : 0 ≤ X 41 i ∧ X 41 i ≤ (if i % 2 = 0 then 15 else 3) := h 41 i (by decide)
theorem iXs_41 {X Y : St} {z v : Int} (h : InvX X) (e : Y = upd2 X 41 z v) (hv : 0 ≤ v ∧ v ≤ (if z % 2 = 0 then 15 else 3)) : InvX Y := h.set e (Or.inr hv)
theorem iX_42 {X : St} (h : InvX X) (i : Int) : 0 ≤ X 42 i ∧ X 42 i ≤ 8 := h 42 i (by decide)
theorem iXs_42 {X Y : St} {z v : Int} (h : InvX X) (e : Y = upd2 X 42 z v) (hv : 0 ≤ v ∧ v ≤ 8) : InvX Y := h.set e (Or.inr hv)
theorem iX_43 {X : St} (h : InvX X) (i : Int) : 0 ≤ X 43 i ∧ X 43 i ≤ 24 := h 43 i (by decide)
theorem iXs_43 {X Y : St} {z v : Int} (h : InvX X) (e : Y = upd2 X 43 z v) (hv : 0 ≤ v ∧ v ≤ 24) : InvX Y := h.set e (Or.inr hv)
theorem iX_44 {X : St} (h : InvX X) (i : Int) : 0 ≤ X 44 i ∧ X 44 i ≤ 100 := h 44 i (by decide)
theorem iXs_44 {X Y : St} {z v : Int} (h : InvX X) (e : Y = upd2 X 44 z v) (hv : 0 ≤ v ∧ v ≤ 100) : InvX Y := h.set e (Or.inr hv)
theorem iX_50 {X : St} (h : InvX X) (i : Int) : 0 ≤ X 50 i ∧ X 50 i ≤ 8 := h 50 i (by decide)
theorem iXs_50 {X Y : St} {z v : Int} (h : InvX X) (e : Y = upd2 X 50 z v) (hv : 0 ≤ v ∧ v ≤ 8) : InvX Y := h.set e (Or.inr hv)
theorem iX_51 {X : St} (h : InvX X) (i : Int) : 0 ≤ X 51 i ∧ X 51 i ≤ 8 := h 51 i (by decide)
theorem iXs_51 {X Y : St} {z v : Int} (h : InvX X) (e : Y = upd2 X 51 z v) (hv : 0 ≤ v ∧ v ≤ 8) : InvX Y := h.set e (Or.inr hv)
theorem iX_52 {X : St} (h : InvX X) (i : Int) : 0 ≤ X 52 i ∧ X 52 i ≤ 8 := h 52 i (by decide)
theorem iXs_52 {X Y : St} {z v : Int} (h : InvX X) (e : Y = upd2 X 52 z v) (hv : 0 ≤ v ∧ v ≤ 8) : InvX Y := h.set e (Or.inr hv)
theorem iX_56 {X : St} (h : InvX X) (i : Int) : 0 ≤ X 56 i ∧ X 56 i ≤ 1 := h 56 i (by decide)
theorem iXs_56 {X Y : St} {z v : Int} (h : InvX X) (e : Y = upd2 X 56 z v) (hv : 0 ≤ v ∧ v ≤ 1) : InvX Y := h.set e (Or.inr hv)
theorem iX_57 {X : St} (h : InvX X) (i : Int) : 0 ≤ X 57 i ∧ X 57 i ≤ 1 := h 57 i (by decide)
theorem iXs_57 {X Y : St} {z v : Int} (h : InvX X) (e : Y = upd2 X 57 z v) (hv : 0 ≤ v ∧ v ≤ 1) : InvX Y := h.set e (Or.inr hv)
theorem iX_58 {X : St} (h : InvX X) (i : Int) : 0 ≤ X 58 i ∧ X 58 i ≤ 1 := h 58 i (by decide)
theorem iXs_58 {X Y : St} {z v : Int} (h : InvX X) (e : Y = upd2 X 58 z v) (hv : 0 ≤ v ∧ v ≤ 1) : InvX Y := h.set e (Or.inr hv)
theorem iX_62 {X : St} (h : InvX X) (i : Int) : -1 ≤ X 62 i ∧ X 62 i ≤ 3 := h 62 i (by decide)
theorem iXs_62 {X Y : St} {z v : Int} (h : InvX X) (e : Y = upd2 X 62 z v) (hv : -1 ≤ v ∧ v ≤ 3) : InvX Y := h.set e (Or.inr hv)
theorem iX_63 {X : St} (h : InvX X) (i : Int) : 0 ≤ X 63 i ∧ X 63 i ≤ 11 := h 63 i (by decide)
theorem iXs_63 {X Y : St} {z v : Int} (h : InvX X) (e : Y = upd2 X 63 z v) (hv : 0 ≤ v ∧ v ≤ 11) : InvX Y := h.set e (Or.inr hv)
theorem iX_64 {X : St} (h : InvX X) (i : Int) : 0 ≤ X 64 i ∧ X 64 i ≤ 9 := h 64 i (by decide)
theorem iXs_64 {X Y : St} {z v : Int} (h : InvX X) (e : Y = upd2 X 64 z v) (hv : 0 ≤ v ∧ v ≤ 9) : InvX Y := h.set e (Or.inr hv)
theorem iX_65 {X : St} (h : InvX X) (i : Int) : -1 ≤ X 65 i ∧ X 65 i ≤ 2 := h 65 i (by decide)
theorem iXs_65 {X Y : St} {z v : Int} (h : InvX X) (e : Y = upd2 X 65 z v) (hv : -1 ≤ v ∧ v ≤ 2) : InvX Y := h.set e (Or.inr hv)
theorem iX_66 {X : St} (h : InvX X) (i : Int) : 0 ≤ X 66 i ∧ X 66 i ≤ 16 := h 66 i (by decide)
theorem iXs_66 {X Y : St} {z v : Int} (h : InvX X) (e : Y = upd2 X 66 z v) (hv : 0 ≤ v ∧ v ≤ 16) : InvX Y := h.set e (Or.inr hv)
theorem iX_67 {X : St} (h : InvX X) (i : Int) : -2147483648 ≤ X 67 i ∧ X 67 i ≤ 2147483647 := h 67 i (by decide)
theorem iXs_67 {X Y : St} {z v : Int} (h : InvX X) (e : Y = upd2 X 67 z v) (hv : -2147483648 ≤ v ∧ v ≤ 2147483647) : InvX Y := h.set e (Or.inr hv)
/-- the bounds of a routine's rows -/
theorem iX_r {X : St} (h : InvX X) {r : Nat} (hr : r < 3) (i : Int) : (0 ≤ X (10 * r + 0) i ∧ X (10 * r + 0) i ≤ 39) ∧ (0 ≤ X (10 * r + 1) i ∧ X (10 * r + 1) i ≤ 39) ∧ (-4 ≤ X (10 * r + 2) i ∧ X (10 * r + 2) i ≤ 3) ∧ (-4 ≤ X (10 * r + 3) i ∧ X (10 * r + 3) i ≤ 3) ∧ (0 ≤ X (10 * r + 4) i ∧ X (10 * r + 4) i ≤ 1) ∧ (0 ≤ X (10 * r + 5) i ∧ X (10 * r + 5) i ≤ 3) ∧ (0 ≤ X (10 * r + 6) i ∧ X (10 * r + 6) i ≤ 10) := by
  rcases (show r = 0 ∨ r = 1 ∨ r = 2 by omega) with rfl | rfl | rfl
  · exact ⟨iX_0 h i, iX_1 h i, iX_2 h i, iX_3 h i, iX_4 h i, iX_5 h i, iX_6 h i⟩
  · exact ⟨iX_10 h i, iX_11 h i, iX_12 h i, iX_13 h i, iX_14 h i, iX_15 h i, iX_16 h i⟩
  · exact ⟨iX_20 h i, iX_21 h i, iX_22 h i, iX_23 h i, iX_24 h i, iX_25 h i, iX_26 h i⟩
/-- the lists are well made -/
def LstX (X : St) (j : Nat) : Prop := (∀ i : Int, 0 ≤ i → i < X (50 + j) 0 → 0 ≤ X (53 + j) i ∧ 0 ≤ X 62 (X (53 + j) i)) ∧ (∀ i : Int, X (50 + j) 0 ≤ i → X (53 + j) i < 0) ∧ (0 < X (50 + j) 0 → ¬ X (56 + j) 0 = 0)
/-- a routine as the operations see it: none is -1 -/
def xr (X : St) (r : Nat) : St := fun f i => if f ≤ 6 then (if f = 2 ∨ f = 3 then (if X (10 * r + f) i < 0 then -1 else X (10 * r + f) i) else X (10 * r + f) i) else 0
/-- the watchers of a list: seat, kind, doubt -/
def xv (X : St) (j : Nat) : St := fun f i => if X 62 (X (53 + j) i) < 0 then 0 else if f = 0 then X 63 (X (53 + j) i) else if f = 1 then X 62 (X (53 + j) i) else X 64 (X (53 + j) i)
theorem VB_xv {X : St} (h : InvX X) (j : Nat) : VB (xv X j) := fun f i => by
  have a1 := iX_62 h (X (53 + j) i)
  have a2 := iX_63 h (X (53 + j) i)
  have a3 := iX_64 h (X (53 + j) i)
  unfold xv
  split
  · omega
  · split
    · omega
    · split <;> omega
theorem RB_xr {X : St} (h : InvX X) {r : Nat} (hr : r < 3) : RB (xr X r) := by
  have a := iX_r h hr
  refine ⟨fun b => (a b).1, fun b => (a b).2.1, fun b => ?_, fun b => ?_, fun b => (a b).2.2.2.2.1, fun b => (a b).2.2.2.2.2.1, fun b => (a b).2.2.2.2.2.2⟩
  · have a2 := (a b).2.2.1
    show -1 ≤ (if X (10 * r + 2) b < 0 then -1 else X (10 * r + 2) b) ∧ (if X (10 * r + 2) b < 0 then -1 else X (10 * r + 2) b) ≤ 3
    split <;> omega
  · have a2 := (a b).2.2.2.1
    show -1 ≤ (if X (10 * r + 3) b < 0 then -1 else X (10 * r + 3) b) ∧ (if X (10 * r + 3) b < 0 then -1 else X (10 * r + 3) b) ≤ 3
    split <;> omega
