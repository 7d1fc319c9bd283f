/-! ===== the world of the model object (printed by gen_mworld.py) ===== -/
set_option maxRecDepth 100000
abbrev vwCl : List vw_C := [(RX0, TX0, 23), (RX1, TX1, 3), (RX2, TX2, 5), (RX3, TX3, 7), (RX4, TX4, 1), (RX5, TX5, 1), (RX6, TX6, 28), (RX7, TX7, 2), (RX8, TX8, 1), (RX9, TX9, 1), (RJ2, TJ2, 3)]
abbrev St : Type := Nat → Int → Int
def mF (B : Nat → Nat) (M : St) : List Value := [.ref (B 1), .ref (B 2), .ref (B 3), .ref (B 4), .ref (B 5), .int (iv (M 5 0)), .ref (B 7), .int (iv (M 7 0)), .ref (B 9), .ref (B 10), .int (iv (M 10 0)), .int (iv (M 11 0)), .int (iv (M 12 0)), .ref (B 14), .long (jv (M 14 0)), .long (jv (M 15 0)), .int (iv (M 16 0)), .ref (B 18), .ref (B 19), .int (iv (M 19 0)), .ref (B 21), .ref (B 22), .ref (B 23), .int (iv (M 23 0)), .ref (B 25), .ref (B 26), .ref (B 27), .ref (B 28)]
def mLen : Nat → Nat := fun k => match k with
  | 0 => 16
  | 1 => 16
  | 2 => 16
  | 3 => 16
  | 4 => 16
  | 6 => 5
  | 8 => 24
  | 9 => 100
  | 13 => 48
  | 17 => 32
  | 18 => 64
  | 20 => 24
  | 21 => 24
  | 22 => 200
  | 24 => 4
  | 25 => 4
  | 26 => 64
  | 27 => 16
  | _ => 0
def mW (cI : ClassId) (B : Nat → Nat) (M : St) : wT := fun i => match i with
  | 0 => some (B 0, .inr (6, mF B M))
  | k + 1 => if mLen k = 0 then none else some (B (k + 1), .inl (cI, mLen k, .inl (fun j : Nat => iv (M k (j : Int)))))
theorem mW_A {cI : ClassId} {B : Nat → Nat} {M : St} (k : Nat) {n : Nat} (hn : mLen k = n) (h0 : n ≠ 0) : mW cI B M (k + 1) = some (B (k + 1), .inl (cI, n, .inl (fun j : Nat => iv (M k (j : Int))))) := by
  subst hn
  show (if mLen k = 0 then none else _) = _
  rw [if_neg h0]
theorem mF_arr {B : Nat → Nat} {M M1 : St} (h : ∀ k, mLen k = 0 → M1 k = M k) : mF B M1 = mF B M := by
  unfold mF
  rw [h 5 rfl, h 7 rfl, h 10 rfl, h 11 rfl, h 12 rfl, h 14 rfl, h 15 rfl, h 16 rfl, h 19 rfl, h 23 rfl]
theorem mW_setA {cI : ClassId} {B : Nat → Nat} {M : St} (k : Nat) {n : Nat} (hn : mLen k = n) (h0 : n ≠ 0) (hn2 : n ≤ 2147483647) {z : Int} (v : Int) (h : 0 ≤ z ∧ z < (n : Int)) : wSt (mW cI B M) (mW cI B (upd2 M k z v)) (k + 1) (B (k + 1)) (.inl (cI, n, .inl (upd (fun j : Nat => iv (M k (j : Int))) (iv z).toNatClampNeg (iv v)))) := by
  refine ⟨by rw [mW_A k hn h0, upd_iv M k v (by omega)], fun j hj => ?_⟩
  have hk : ∀ k', mLen k' = 0 → upd2 M k z v k' = M k' := fun k' h' => upd2_k (fun e => h0 (by rw [← hn, ← e]; exact h'))
  cases j with
  | zero =>
    show some (B 0, _) = some (B 0, _)
    rw [mF_arr hk]
  | succ k' =>
    have hkk : k' ≠ k := fun e => hj (by rw [e])
    show (if mLen k' = 0 then none else _) = (if mLen k' = 0 then none else _)
    rw [upd2_k hkk]
theorem mW_setS {cI : ClassId} {B : Nat → Nat} {M : St} (k : Nat) (hk : mLen k = 0) {x : Value} {v : Int} (hF : (mF B M).set k x = mF B (upd2 M k 0 v)) : wSt (mW cI B M) (mW cI B (upd2 M k 0 v)) 0 (B 0) (.inr (6, (mF B M).set k x)) := by
  refine ⟨by rw [hF]; rfl, fun j hj => ?_⟩
  cases j with
  | zero => exact absurd rfl hj
  | succ k' =>
    show (if mLen k' = 0 then none else _) = (if mLen k' = 0 then none else _)
    by_cases h : mLen k' = 0
    · rw [if_pos h, if_pos h]
    · rw [if_neg h, if_neg h, upd2_k (fun e => h (by rw [e]; exact hk))]
theorem mF_set5 (B : Nat → Nat) (M : St) (v : Int) : (mF B M).set 5 (.int (iv v)) = mF B (upd2 M 5 0 v) := by first | rfl | simp [mF, upd2]
theorem mF_set7 (B : Nat → Nat) (M : St) (v : Int) : (mF B M).set 7 (.int (iv v)) = mF B (upd2 M 7 0 v) := by first | rfl | simp [mF, upd2]
theorem mF_set10 (B : Nat → Nat) (M : St) (v : Int) : (mF B M).set 10 (.int (iv v)) = mF B (upd2 M 10 0 v) := by first | rfl | simp [mF, upd2]
theorem mF_set11 (B : Nat → Nat) (M : St) (v : Int) : (mF B M).set 11 (.int (iv v)) = mF B (upd2 M 11 0 v) := by first | rfl | simp [mF, upd2]
theorem mF_set12 (B : Nat → Nat) (M : St) (v : Int) : (mF B M).set 12 (.int (iv v)) = mF B (upd2 M 12 0 v) := by first | rfl | simp [mF, upd2]
theorem mF_set14 (B : Nat → Nat) (M : St) (v : Int) : (mF B M).set 14 (.long (jv v)) = mF B (upd2 M 14 0 v) := by first | rfl | simp [mF, upd2]
theorem mF_set15 (B : Nat → Nat) (M : St) (v : Int) : (mF B M).set 15 (.long (jv v)) = mF B (upd2 M 15 0 v) := by first | rfl | simp [mF, upd2]
theorem mF_set16 (B : Nat → Nat) (M : St) (v : Int) : (mF B M).set 16 (.int (iv v)) = mF B (upd2 M 16 0 v) := by first | rfl | simp [mF, upd2]
theorem mF_set19 (B : Nat → Nat) (M : St) (v : Int) : (mF B M).set 19 (.int (iv v)) = mF B (upd2 M 19 0 v) := by first | rfl | simp [mF, upd2]
theorem mF_set23 (B : Nat → Nat) (M : St) (v : Int) : (mF B M).set 23 (.int (iv v)) = mF B (upd2 M 23 0 v) := by first | rfl | simp [mF, upd2]
def mlo : Nat → Int → Int := fun k i => match k with
  | 2 => -1
  | 3 => -1
  | 13 => -4
  | 18 => -1
  | 22 => if 32 ≤ i ∧ i < 64 then -1 else 0
  | 24 => -1
  | 26 => -2147483648
  | 27 => -2147483648
  | _ => 0
def mhi : Nat → Int → Int := fun k i => match k with
  | 0 => 39
  | 1 => 39
  | 2 => 3
  | 3 => 3
  | 4 => 1
  | 5 => 3
  | 6 => 10
  | 7 => 8
  | 8 => 11
  | 9 => 126
  | 10 => 100
  | 11 => 100
  | 12 => 1
  | 13 => 10000
  | 14 => 1000000000
  | 15 => 1000000000
  | 16 => 8
  | 17 => if i % 4 = 0 then 15 else if i % 4 = 3 then 99 else 3
  | 18 => 39
  | 19 => 24
  | 20 => 15
  | 21 => 3
  | 22 => if i < 32 then 39 else if i < 64 then 3 else if i < 80 then 1 else if i < 85 then 10 else if i < 109 then 11 else if i < 141 then (if (i - 109) % 4 = 0 then 15 else if (i - 109) % 4 = 3 then 99 else 3) else if i < 165 then 15 else if i < 190 then 3 else if i < 192 then 8 else 24
  | 23 => 1
  | 24 => 2
  | 25 => 16
  | 26 => 2147483647
  | 27 => 2147483647
  | _ => 0
def InvM (M : St) : Prop := ∀ (k : Nat) (i : Int), mlo k i ≤ M k i ∧ M k i ≤ mhi k i
theorem InvM.set {M M1 : St} {k : Nat} {z v : Int} (h : InvM M) (e : M1 = upd2 M k z v) (hv : mlo k z ≤ v ∧ v ≤ mhi k z) : InvM M1 := by
  intro k' i
  rw [e]
  by_cases hk : k' = k
  · subst hk
    rw [upd2_s]
    by_cases hi : i = z
    · rw [if_pos hi, hi]
      exact hv
    · rw [if_neg hi]
      exact h k' i
  · rw [upd2_k hk]
    exact h k' i
theorem iM_0 {M : St} (h : InvM M) (i : Int) : 0 ≤ M 0 i ∧ M 0 i ≤ 39 := h 0 i
theorem iMs_0 {M M1 : St} {z v : Int} (h : InvM M) (e : M1 = upd2 M 0 z v) (hv : 0 ≤ v ∧ v ≤ 39) : InvM M1 := h.set e hv
theorem iM_1 {M : St} (h : InvM M) (i : Int) : 0 ≤ M 1 i ∧ M 1 i ≤ 39 := h 1 i
theorem iMs_1 {M M1 : St} {z v : Int} (h : InvM M) (e : M1 = upd2 M 1 z v) (hv : 0 ≤ v ∧ v ≤ 39) : InvM M1 := h.set e hv
theorem iM_2 {M : St} (h : InvM M) (i : Int) : -1 ≤ M 2 i ∧ M 2 i ≤ 3 := h 2 i
theorem iMs_2 {M M1 : St} {z v : Int} (h : InvM M) (e : M1 = upd2 M 2 z v) (hv : -1 ≤ v ∧ v ≤ 3) : InvM M1 := h.set e hv
theorem iM_3 {M : St} (h : InvM M) (i : Int) : -1 ≤ M 3 i ∧ M 3 i ≤ 3 := h 3 i
theorem iMs_3 {M M1 : St} {z v : Int} (h : InvM M) (e : M1 = upd2 M 3 z v) (hv : -1 ≤ v ∧ v ≤ 3) : InvM M1 := h.set e hv
theorem iM_4 {M : St} (h : InvM M) (i : Int) : 0 ≤ M 4 i ∧ M 4 i ≤ 1 := h 4 i
theorem iMs_4 {M M1 : St} {z v : Int} (h : InvM M) (e : M1 = upd2 M 4 z v) (hv : 0 ≤ v ∧ v ≤ 1) : InvM M1 := h.set e hv
theorem iM_5 {M : St} (h : InvM M) (i : Int) : 0 ≤ M 5 i ∧ M 5 i ≤ 3 := h 5 i
theorem iMs_5 {M M1 : St} {z v : Int} (h : InvM M) (e : M1 = upd2 M 5 z v) (hv : 0 ≤ v ∧ v ≤ 3) : InvM M1 := h.set e hv
theorem iM_6 {M : St} (h : InvM M) (i : Int) : 0 ≤ M 6 i ∧ M 6 i ≤ 10 := h 6 i
theorem iMs_6 {M M1 : St} {z v : Int} (h : InvM M) (e : M1 = upd2 M 6 z v) (hv : 0 ≤ v ∧ v ≤ 10) : InvM M1 := h.set e hv
theorem iM_7 {M : St} (h : InvM M) (i : Int) : 0 ≤ M 7 i ∧ M 7 i ≤ 8 := h 7 i
theorem iMs_7 {M M1 : St} {z v : Int} (h : InvM M) (e : M1 = upd2 M 7 z v) (hv : 0 ≤ v ∧ v ≤ 8) : InvM M1 := h.set e hv
theorem iM_8 {M : St} (h : InvM M) (i : Int) : 0 ≤ M 8 i ∧ M 8 i ≤ 11 := h 8 i
theorem iMs_8 {M M1 : St} {z v : Int} (h : InvM M) (e : M1 = upd2 M 8 z v) (hv : 0 ≤ v ∧ v ≤ 11) : InvM M1 := h.set e hv
theorem iM_9 {M : St} (h : InvM M) (i : Int) : 0 ≤ M 9 i ∧ M 9 i ≤ 126 := h 9 i
theorem iMs_9 {M M1 : St} {z v : Int} (h : InvM M) (e : M1 = upd2 M 9 z v) (hv : 0 ≤ v ∧ v ≤ 126) : InvM M1 := h.set e hv
theorem iM_10 {M : St} (h : InvM M) (i : Int) : 0 ≤ M 10 i ∧ M 10 i ≤ 100 := h 10 i
theorem iMs_10 {M M1 : St} {z v : Int} (h : InvM M) (e : M1 = upd2 M 10 z v) (hv : 0 ≤ v ∧ v ≤ 100) : InvM M1 := h.set e hv
theorem iM_11 {M : St} (h : InvM M) (i : Int) : 0 ≤ M 11 i ∧ M 11 i ≤ 100 := h 11 i
theorem iMs_11 {M M1 : St} {z v : Int} (h : InvM M) (e : M1 = upd2 M 11 z v) (hv : 0 ≤ v ∧ v ≤ 100) : InvM M1 := h.set e hv
theorem iM_12 {M : St} (h : InvM M) (i : Int) : 0 ≤ M 12 i ∧ M 12 i ≤ 1 := h 12 i
theorem iMs_12 {M M1 : St} {z v : Int} (h : InvM M) (e : M1 = upd2 M 12 z v) (hv : 0 ≤ v ∧ v ≤ 1) : InvM M1 := h.set e hv
theorem iM_13 {M : St} (h : InvM M) (i : Int) : -4 ≤ M 13 i ∧ M 13 i ≤ 10000 := h 13 i
theorem iMs_13 {M M1 : St} {z v : Int} (h : InvM M) (e : M1 = upd2 M 13 z v) (hv : -4 ≤ v ∧ v ≤ 10000) : InvM M1 := h.set e hv
theorem iM_14 {M : St} (h : InvM M) (i : Int) : 0 ≤ M 14 i ∧ M 14 i ≤ 1000000000 := h 14 i
theorem iMs_14 {M M1 : St} {z v : Int} (h : InvM M) (e : M1 = upd2 M 14 z v) (hv : 0 ≤ v ∧ v ≤ 1000000000) : InvM M1 := h.set e hv
theorem iM_15 {M : St} (h : InvM M) (i : Int) : 0 ≤ M 15 i ∧ M 15 i ≤ 1000000000 := h 15 i
theorem iMs_15 {M M1 : St} {z v : Int} (h : InvM M) (e : M1 = upd2 M 15 z v) (hv : 0 ≤ v ∧ v ≤ 1000000000) : InvM M1 := h.set e hv
theorem iM_16 {M : St} (h : InvM M) (i : Int) : 0 ≤ M 16 i ∧ M 16 i ≤ 8 := h 16 i
theorem iMs_16 {M M1 : St} {z v : Int} (h : InvM M) (e : M1 = upd2 M 16 z v) (hv : 0 ≤ v ∧ v ≤ 8) : InvM M1 := h.set e hv
theorem iM_17 {M : St} (h : InvM M) (i : Int) : 0 ≤ M 17 i ∧ M 17 i ≤ (if i % 4 = 0 then 15 else if i % 4 = 3 then 99 else 3) := h 17 i
theorem iM_18 {M : St} (h : InvM M) (i : Int) : -1 ≤ M 18 i ∧ M 18 i ≤ 39 := h 18 i
theorem iMs_18 {M M1 : St} {z v : Int} (h : InvM M) (e : M1 = upd2 M 18 z v) (hv : -1 ≤ v ∧ v ≤ 39) : InvM M1 := h.set e hv
theorem iM_19 {M : St} (h : InvM M) (i : Int) : 0 ≤ M 19 i ∧ M 19 i ≤ 24 := h 19 i
theorem iMs_19 {M M1 : St} {z v : Int} (h : InvM M) (e : M1 = upd2 M 19 z v) (hv : 0 ≤ v ∧ v ≤ 24) : InvM M1 := h.set e hv
theorem iM_20 {M : St} (h : InvM M) (i : Int) : 0 ≤ M 20 i ∧ M 20 i ≤ 15 := h 20 i
theorem iMs_20 {M M1 : St} {z v : Int} (h : InvM M) (e : M1 = upd2 M 20 z v) (hv : 0 ≤ v ∧ v ≤ 15) : InvM M1 := h.set e hv
theorem iM_21 {M : St} (h : InvM M) (i : Int) : 0 ≤ M 21 i ∧ M 21 i ≤ 3 := h 21 i
theorem iMs_21 {M M1 : St} {z v : Int} (h : InvM M) (e : M1 = upd2 M 21 z v) (hv : 0 ≤ v ∧ v ≤ 3) : InvM M1 := h.set e hv
theorem iM_22 {M : St} (h : InvM M) (i : Int) : mlo 22 i ≤ M 22 i ∧ M 22 i ≤ mhi 22 i := h 22 i
theorem iM_23 {M : St} (h : InvM M) (i : Int) : 0 ≤ M 23 i ∧ M 23 i ≤ 1 := h 23 i
theorem iMs_23 {M M1 : St} {z v : Int} (h : InvM M) (e : M1 = upd2 M 23 z v) (hv : 0 ≤ v ∧ v ≤ 1) : InvM M1 := h.set e hv
theorem iM_24 {M : St} (h : InvM M) (i : Int) : -1 ≤ M 24 i ∧ M 24 i ≤ 2 := h 24 i
theorem iMs_24 {M M1 : St} {z v : Int} (h : InvM M) (e : M1 = upd2 M 24 z v) (hv : -1 ≤ v ∧ v ≤ 2) : InvM M1 := h.set e hv
theorem iM_25 {M : St} (h : InvM M) (i : Int) : 0 ≤ M 25 i ∧ M 25 i ≤ 16 := h 25 i
theorem iMs_25 {M M1 : St} {z v : Int} (h : InvM M) (e : M1 = upd2 M 25 z v) (hv : 0 ≤ v ∧ v ≤ 16) : InvM M1 := h.set e hv
theorem iM_26 {M : St} (h : InvM M) (i : Int) : -2147483648 ≤ M 26 i ∧ M 26 i ≤ 2147483647 := h 26 i
theorem iMs_26 {M M1 : St} {z v : Int} (h : InvM M) (e : M1 = upd2 M 26 z v) (hv : -2147483648 ≤ v ∧ v ≤ 2147483647) : InvM M1 := h.set e hv
theorem iM_27 {M : St} (h : InvM M) (i : Int) : -2147483648 ≤ M 27 i ∧ M 27 i ≤ 2147483647 := h 27 i
theorem iMs_27 {M M1 : St} {z v : Int} (h : InvM M) (e : M1 = upd2 M 27 z v) (hv : -2147483648 ≤ v ∧ v ≤ 2147483647) : InvM M1 := h.set e hv
/-- what a method of the model finds -/
def mU (D : va_G) (cI : ClassId) (w : wT) : State → Prop := fun U => wP D vwCl w U.heap ∧ va_K D vwCl [(cI, .int)] U
def mUS (D : va_G) (cI : ClassId) (A : Nat → Prop) (w : wT) : State → Prop := fun U => wP D vwCl w U.heap ∧ wD A w ∧ va_K D vwCl [(cI, .int)] U
/-- .. and leaves -/
def mB (D : va_G) (cI : ClassId) (B : Nat → Nat) (A : Nat → Prop) : St → State → Prop := fun M t => wP D vwCl (mW cI B M) t.heap ∧ wD A (mW cI B M)
theorem m_pre {s : State} {H : Heap} {D : va_G} {cI : ClassId} {B : Nat → Nat} {M : St} {As : List Value} (hK : va_K D vwCl [(cI, .int)] s) (hP : wP D vwCl (mW cI B M) H) : PreV s H RX6 (B 0) (va_Pc (.ref (B 0) :: As) (mU D cI (mW cI B M))) As :=
  ⟨fun a U g mk q => ⟨q.1, q.2.1, va_K.moved (u := U) (U := U.calling g mk a) (Vm.Alike.refl U.vm) q.2.2⟩, x_recv hK hP (i := 0) (ci := 6) (q := (RX6, TX6, 28)) rfl rfl, fun U hU hW => ⟨rfl, by rw [hU]; exact hP, va_K.moved hW.alike hK⟩⟩
theorem m_preS {s : State} {H : Heap} {D : va_G} {cI : ClassId} {B : Nat → Nat} {M : St} {A : Nat → Prop} {As : List Value} (hK : va_K D vwCl [(cI, .int)] s) (hP : wP D vwCl (mW cI B M) H) (hD : wD A (mW cI B M)) : PreV s H RX6 (B 0) (va_Pc (.ref (B 0) :: As) (mUS D cI A (mW cI B M))) As :=
  ⟨fun a U g mk q => ⟨q.1, q.2.1, q.2.2.1, va_K.moved (u := U) (U := U.calling g mk a) (Vm.Alike.refl U.vm) q.2.2.2⟩, x_recv hK hP (i := 0) (ci := 6) (q := (RX6, TX6, 28)) rfl rfl, fun U hU hW => ⟨rfl, by rw [hU]; exact hP, hD, va_K.moved hW.alike hK⟩⟩
section MW
variable {p : Program} {l : Launch} {e : Env} {R : Room} {s : State} {m : MethodId} {args : Array Value} {below : List Frame} {meth : Method} {c : Code} {H : Heap} {locs : List Loc} {cells slots : Nat} {Q : State → Prop}
variable {cc : ByteArray} {pc : Nat} {ls : Array Slot} {rest st : List Value} {D : va_G} {A : Nat → Prop} {cI : ClassId} {B : Nat → Nat} {M : St} {H0 : Heap}
variable {y : MethodName} {bytes : ByteArray} {maxL n index nL : Nat} {ret : Option FieldType} {rm : Room} {As : List Value} {own : String}
theorem m_cR {r : Int32} (S : CallFix p m c cc nL s args lw_all RX6) (hM : Met l y (ws_ y bytes maxL ret) rm (va_Pc (.ref (B 0) :: As) (mU D cI (mW cI B M))) (QcRead r) 0 0 (fun _ => False)) (cw : CallW R s args RX6 RX6 index y bytes maxL ret (ws_ y bytes maxL ret) rm 0 0 n) (hK : va_K D vwCl [(cI, .int)] s) (hP : wP D vwCl (mW cI B M) H) (hn : As.length = n) (hsize : ls.size = nL) (hst : st = As.reverse ++ .ref (B 0) :: rest) (hroom : (rest.map fun v => v.category).sum ≤ 8) (hf : cells ≤ R.cells ∧ slots ≤ R.slots) (d : decode cc pc = .ok (.invokevirtual index, 3)) (k : W p l e R s m args below meth c H locs cells slots Q (F0 m (pc + 3) ls (.int r :: rest))) : W p l e R s m args below meth c H locs cells slots Q (F0 m pc ls st) :=
  W.callR (W.runV (g := F0 m pc ls st) S hM cw (m_pre hK hP) rfl hn hsize hst (lv_room (pc := pc) (ls := ls) (m := m) (rest := st) hroom) d hf) k
theorem s_cR {r : Int32} (S : CallFix p m c cc nL s args lw_all own) (hM : Met l y (ws_ y bytes maxL ret) rm (va_Pc As (fun _ => True)) (QcRead r) 0 0 (fun _ => False)) (cw : CallB R s args own index y bytes maxL ret (ws_ y bytes maxL ret) rm 0 0 n ∧ (Cond.static y).before args s = true) (hn : As.length = n) (hsize : ls.size = nL) (hst : st = As.reverse ++ rest) (hroom : (rest.map fun v => v.category).sum ≤ 8) (hf : cells ≤ R.cells ∧ slots ≤ R.slots) (d : decode cc pc = .ok (.invokestatic index, 3)) (k : W p l e R s m args below meth c H locs cells slots Q (F0 m (pc + 3) ls (.int r :: rest))) : W p l e R s m args below meth c H locs cells slots Q (F0 m pc ls st) :=
  W.callR (W.runS (g := F0 m pc ls st) S hM cw ⟨fun _ _ _ _ q => ⟨q.1, trivial⟩, fun _ _ _ => ⟨rfl, trivial⟩⟩ rfl hn hsize hst (lv_room (pc := pc) (ls := ls) (m := m) (rest := st) hroom) d hf) k
theorem m_cI {post : Int32 → St → Prop} (S : CallFix p m c cc nL s args lw_all RX6) (hM : Met l y (ws_ y bytes maxL ret) rm (va_Pc (.ref (B 0) :: As) (mUS D cI A (mW cI B M))) (va_Qi post (mB D cI B A) A) 0 0 A) (cw : CallW R s args RX6 RX6 index y bytes maxL ret (ws_ y bytes maxL ret) rm 0 0 n) (hK : va_K D vwCl [(cI, .int)] s) (hP : wP D vwCl (mW cI B M) H) (hD : wD A (mW cI B M)) (hS : va_S A H0 H locs) (hn : As.length = n) (hsize : ls.size = nL) (hst : st = As.reverse ++ .ref (B 0) :: rest) (hroom : (rest.map fun v => v.category).sum ≤ 8) (hf : cells ≤ R.cells ∧ slots ≤ R.slots) (d : decode cc pc = .ok (.invokevirtual index, 3)) (k : ∀ (r : Int32) (M1 : St) (H1 : Heap) (locs1 : List Loc), post r M1 → wP D vwCl (mW cI B M1) H1 → wD A (mW cI B M1) → va_S A H0 H1 locs1 → W p l e R s m args below meth c H1 locs1 cells slots Q (F0 m (pc + 3) ls (.int r :: rest))) : W p l e R s m args below meth c H locs cells slots Q (F0 m pc ls st) :=
  va_calli (va_runV (g := F0 m pc ls st) S hM cw (m_preS hK hP hD) rfl hn hsize hst (lv_room (pc := pc) (ls := ls) (m := m) (rest := st) hroom) d hf) hS (fun _ _ h => h) (fun _ h => h) (fun r u t H1 locs1 ht _ hp hB _ _ hS => k r u H1 locs1 hp (ht ▸ hB.1) hB.2 hS)
theorem m_cV {post : St → Prop} (S : CallFix p m c cc nL s args lw_all RX6) (hM : Met l y (ws_ y bytes maxL ret) rm (va_Pc (.ref (B 0) :: As) (mUS D cI A (mW cI B M))) (va_Qv post (mB D cI B A) A) 0 0 A) (cw : CallW R s args RX6 RX6 index y bytes maxL ret (ws_ y bytes maxL ret) rm 0 0 n) (hK : va_K D vwCl [(cI, .int)] s) (hP : wP D vwCl (mW cI B M) H) (hD : wD A (mW cI B M)) (hS : va_S A H0 H locs) (hn : As.length = n) (hsize : ls.size = nL) (hst : st = As.reverse ++ .ref (B 0) :: rest) (hroom : (rest.map fun v => v.category).sum ≤ 8) (hf : cells ≤ R.cells ∧ slots ≤ R.slots) (d : decode cc pc = .ok (.invokevirtual index, 3)) (k : ∀ (M1 : St) (H1 : Heap) (locs1 : List Loc), post M1 → wP D vwCl (mW cI B M1) H1 → wD A (mW cI B M1) → va_S A H0 H1 locs1 → W p l e R s m args below meth c H1 locs1 cells slots Q (F0 m (pc + 3) ls rest)) : W p l e R s m args below meth c H locs cells slots Q (F0 m pc ls st) :=
  va_callv (va_runV (g := F0 m pc ls st) S hM cw (m_preS hK hP hD) rfl hn hsize hst (lv_room (pc := pc) (ls := ls) (m := m) (rest := st) hroom) d hf) hS (fun _ _ h => h) (fun _ h => h) (fun u t H1 locs1 ht _ hp hB _ _ hS => k u H1 locs1 hp (ht ▸ hB.1) hB.2 hS)
theorem m_ald (hx : p.tables.exec = Jvm.exec) (hb : c.code = cc) (hK : va_K D vwCl [(cI, .int)] s) (hP : wP D vwCl (mW cI B M) H) (k : Nat) {n : Nat} (hn : mLen k = n) (h0 : n ≠ 0 ∧ n ≤ 2147483647) {z : Int} (hz : 0 ≤ z ∧ z < (n : Int)) (d : decode cc pc = .ok (.iaload, 1)) (kk : W p l e R s m args below meth c H locs cells slots Q (F0 m (pc + 1) ls (.int (iv (M k z)) :: rest))) : W p l e R s m args below meth c H locs cells slots Q (F0 m pc ls (.int (iv z) :: .ref (B (k + 1)) :: rest)) := by
  refine x_iald hx hb hK hP (k + 1) 0 (mW_A k hn h0.1) rfl (iv_in hz h0.2) d ?_
  have h1 : (((iv z).toNatClampNeg : Nat) : Int) = z := by
    rw [iv_clamp (by omega)]
    omega
  show W p l e R s m args below meth c H locs cells slots Q (F0 m (pc + 1) ls (.int (iv (M k (((iv z).toNatClampNeg : Nat) : Int))) :: rest))
  rw [h1]
  exact kk
theorem m_ast (hx : p.tables.exec = Jvm.exec) (hb : c.code = cc) (hK : va_K D vwCl [(cI, .int)] s) (hP : wP D vwCl (mW cI B M) H) (hD : wD A (mW cI B M)) (hS : va_S A H0 H locs) (k : Nat) {n : Nat} (hn : mLen k = n) (h0 : n ≠ 0 ∧ n ≤ 2147483647) {z v : Int} (hz : 0 ≤ z ∧ z < (n : Int)) (d : decode cc pc = .ok (.iastore, 1)) (kk : ∀ (M1 : St), M1 = upd2 M k z v → ∀ (H1 : Heap) (locs1 : List Loc), wP D vwCl (mW cI B M1) H1 → wD A (mW cI B M1) → va_S A H0 H1 locs1 → W p l e R s m args below meth c H1 locs1 cells slots Q (F0 m (pc + 1) ls rest)) : W p l e R s m args below meth c H locs cells slots Q (F0 m pc ls (.int (iv v) :: .int (iv z) :: .ref (B (k + 1)) :: rest)) :=
  x_iast hx hb hK hP hD hS (k + 1) 0 (mW_A k hn h0.1) rfl (iv_in hz h0.2) (mW cI B (upd2 M k z v)) (mW_setA k hn h0.1 h0.2 v hz) d (fun H1 locs1 => kk _ rfl H1 locs1)
theorem m_alen (hx : p.tables.exec = Jvm.exec) (hb : c.code = cc) (hK : va_K D vwCl [(cI, .int)] s) (hP : wP D vwCl (mW cI B M) H) (k : Nat) {n : Nat} (hn : mLen k = n) (h0 : n ≠ 0) (d : decode cc pc = .ok (.arraylength, 1)) (kk : W p l e R s m args below meth c H locs cells slots Q (F0 m (pc + 1) ls (.int (iv (n : Int)) :: rest))) : W p l e R s m args below meth c H locs cells slots Q (F0 m pc ls (.ref (B (k + 1)) :: rest)) := x_alen hx hb hK hP (k + 1) 0 (mW_A k hn h0) rfl d kk
theorem mg_0 (hx : p.tables.exec = Jvm.exec) (hb : c.code = cc) (hts : ∀ w ∈ lw_all, w.before args s = true) (hown : s.vm.findClass RX6 = some m.cls) (hK : va_K D vwCl [(cI, .int)] s) (hP : wP D vwCl (mW cI B M) H) (d : decode cc pc = .ok (.getfield 7, 3)) (kk : W p l e R s m args below meth c H locs cells slots Q (F0 m (pc + 3) ls (.ref (B 1) :: rest))) : W p l e R s m args below meth c H locs cells slots Q (F0 m pc ls (.ref (B 0) :: rest)) := x_get (C := RX6) (T := TX6) (N := 28) (ci := 6) (own := RX6) (ref := RX6) hx hb hts in_X6 hown hK hP 0 rfl rfl 0 (by decide) (hts _ q1018) (fun _ h => h) rfl d kk
theorem mg_1 (hx : p.tables.exec = Jvm.exec) (hb : c.code = cc) (hts : ∀ w ∈ lw_all, w.before args s = true) (hown : s.vm.findClass RX6 = some m.cls) (hK : va_K D vwCl [(cI, .int)] s) (hP : wP D vwCl (mW cI B M) H) (d : decode cc pc = .ok (.getfield 13, 3)) (kk : W p l e R s m args below meth c H locs cells slots Q (F0 m (pc + 3) ls (.ref (B 2) :: rest))) : W p l e R s m args below meth c H locs cells slots Q (F0 m pc ls (.ref (B 0) :: rest)) := x_get (C := RX6) (T := TX6) (N := 28) (ci := 6) (own := RX6) (ref := RX6) hx hb hts in_X6 hown hK hP 0 rfl rfl 1 (by decide) (hts _ q1019) (fun _ h => h) rfl d kk
theorem mg_2 (hx : p.tables.exec = Jvm.exec) (hb : c.code = cc) (hts : ∀ w ∈ lw_all, w.before args s = true) (hown : s.vm.findClass RX6 = some m.cls) (hK : va_K D vwCl [(cI, .int)] s) (hP : wP D vwCl (mW cI B M) H) (d : decode cc pc = .ok (.getfield 16, 3)) (kk : W p l e R s m args below meth c H locs cells slots Q (F0 m (pc + 3) ls (.ref (B 3) :: rest))) : W p l e R s m args below meth c H locs cells slots Q (F0 m pc ls (.ref (B 0) :: rest)) := x_get (C := RX6) (T := TX6) (N := 28) (ci := 6) (own := RX6) (ref := RX6) hx hb hts in_X6 hown hK hP 0 rfl rfl 2 (by decide) (hts _ q1020) (fun _ h => h) rfl d kk
theorem mg_3 (hx : p.tables.exec = Jvm.exec) (hb : c.code = cc) (hts : ∀ w ∈ lw_all, w.before args s = true) (hown : s.vm.findClass RX6 = some m.cls) (hK : va_K D vwCl [(cI, .int)] s) (hP : wP D vwCl (mW cI B M) H) (d : decode cc pc = .ok (.getfield 19, 3)) (kk : W p l e R s m args below meth c H locs cells slots Q (F0 m (pc + 3) ls (.ref (B 4) :: rest))) : W p l e R s m args below meth c H locs cells slots Q (F0 m pc ls (.ref (B 0) :: rest)) := x_get (C := RX6) (T := TX6) (N := 28) (ci := 6) (own := RX6) (ref := RX6) hx hb hts in_X6 hown hK hP 0 rfl rfl 3 (by decide) (hts _ q1021) (fun _ h => h) rfl d kk
theorem mg_4 (hx : p.tables.exec = Jvm.exec) (hb : c.code = cc) (hts : ∀ w ∈ lw_all, w.before args s = true) (hown : s.vm.findClass RX6 = some m.cls) (hK : va_K D vwCl [(cI, .int)] s) (hP : wP D vwCl (mW cI B M) H) (d : decode cc pc = .ok (.getfield 22, 3)) (kk : W p l e R s m args below meth c H locs cells slots Q (F0 m (pc + 3) ls (.ref (B 5) :: rest))) : W p l e R s m args below meth c H locs cells slots Q (F0 m pc ls (.ref (B 0) :: rest)) := x_get (C := RX6) (T := TX6) (N := 28) (ci := 6) (own := RX6) (ref := RX6) hx hb hts in_X6 hown hK hP 0 rfl rfl 4 (by decide) (hts _ q1022) (fun _ h => h) rfl d kk
theorem mg_5 (hx : p.tables.exec = Jvm.exec) (hb : c.code = cc) (hts : ∀ w ∈ lw_all, w.before args s = true) (hown : s.vm.findClass RX6 = some m.cls) (hK : va_K D vwCl [(cI, .int)] s) (hP : wP D vwCl (mW cI B M) H) (d : decode cc pc = .ok (.getfield 64, 3)) (kk : W p l e R s m args below meth c H locs cells slots Q (F0 m (pc + 3) ls (.int (iv (M 5 0)) :: rest))) : W p l e R s m args below meth c H locs cells slots Q (F0 m pc ls (.ref (B 0) :: rest)) := x_get (C := RX6) (T := TX6) (N := 28) (ci := 6) (own := RX6) (ref := RX6) hx hb hts in_X6 hown hK hP 0 rfl rfl 5 (by decide) (hts _ q1023) (fun _ h => h) rfl d kk
theorem mp_5 (hx : p.tables.exec = Jvm.exec) (hb : c.code = cc) (hts : ∀ w ∈ lw_all, w.before args s = true) (hown : s.vm.findClass RX6 = some m.cls) (hK : va_K D vwCl [(cI, .int)] s) (hP : wP D vwCl (mW cI B M) H) (hD : wD A (mW cI B M)) (hS : va_S A H0 H locs) {v : Int} (d : decode cc pc = .ok (.putfield 64, 3)) (kk : ∀ (M1 : St), M1 = upd2 M 5 0 v → ∀ (H1 : Heap) (locs1 : List Loc), wP D vwCl (mW cI B M1) H1 → wD A (mW cI B M1) → va_S A H0 H1 locs1 → W p l e R s m args below meth c H1 locs1 cells slots Q (F0 m (pc + 3) ls rest)) : W p l e R s m args below meth c H locs cells slots Q (F0 m pc ls (.int (iv v) :: .ref (B 0) :: rest)) := x_put (C := RX6) (T := TX6) (N := 28) (ci := 6) (own := RX6) (ref := RX6) (ty := .int) hx hb hts in_X6 tyX6 tyX6_ok nmX6 hown hK hP hD hS 0 rfl rfl 5 (by decide) (hts _ q1023) (fun _ h => h) rfl (by decide +kernel) rfl rfl (Nat.le_of_ble_eq_true rfl) (mW cI B (upd2 M 5 0 v)) (mW_setS 5 rfl (mF_set5 B M v)) d (fun H1 locs1 => kk _ rfl H1 locs1)
theorem mg_6 (hx : p.tables.exec = Jvm.exec) (hb : c.code = cc) (hts : ∀ w ∈ lw_all, w.before args s = true) (hown : s.vm.findClass RX6 = some m.cls) (hK : va_K D vwCl [(cI, .int)] s) (hP : wP D vwCl (mW cI B M) H) (d : decode cc pc = .ok (.getfield 25, 3)) (kk : W p l e R s m args below meth c H locs cells slots Q (F0 m (pc + 3) ls (.ref (B 7) :: rest))) : W p l e R s m args below meth c H locs cells slots Q (F0 m pc ls (.ref (B 0) :: rest)) := x_get (C := RX6) (T := TX6) (N := 28) (ci := 6) (own := RX6) (ref := RX6) hx hb hts in_X6 hown hK hP 0 rfl rfl 6 (by decide) (hts _ q1024) (fun _ h => h) rfl d kk
theorem mg_7 (hx : p.tables.exec = Jvm.exec) (hb : c.code = cc) (hts : ∀ w ∈ lw_all, w.before args s = true) (hown : s.vm.findClass RX6 = some m.cls) (hK : va_K D vwCl [(cI, .int)] s) (hP : wP D vwCl (mW cI B M) H) (d : decode cc pc = .ok (.getfield 76, 3)) (kk : W p l e R s m args below meth c H locs cells slots Q (F0 m (pc + 3) ls (.int (iv (M 7 0)) :: rest))) : W p l e R s m args below meth c H locs cells slots Q (F0 m pc ls (.ref (B 0) :: rest)) := x_get (C := RX6) (T := TX6) (N := 28) (ci := 6) (own := RX6) (ref := RX6) hx hb hts in_X6 hown hK hP 0 rfl rfl 7 (by decide) (hts _ q1025) (fun _ h => h) rfl d kk
theorem mp_7 (hx : p.tables.exec = Jvm.exec) (hb : c.code = cc) (hts : ∀ w ∈ lw_all, w.before args s = true) (hown : s.vm.findClass RX6 = some m.cls) (hK : va_K D vwCl [(cI, .int)] s) (hP : wP D vwCl (mW cI B M) H) (hD : wD A (mW cI B M)) (hS : va_S A H0 H locs) {v : Int} (d : decode cc pc = .ok (.putfield 76, 3)) (kk : ∀ (M1 : St), M1 = upd2 M 7 0 v → ∀ (H1 : Heap) (locs1 : List Loc), wP D vwCl (mW cI B M1) H1 → wD A (mW cI B M1) → va_S A H0 H1 locs1 → W p l e R s m args below meth c H1 locs1 cells slots Q (F0 m (pc + 3) ls rest)) : W p l e R s m args below meth c H locs cells slots Q (F0 m pc ls (.int (iv v) :: .ref (B 0) :: rest)) := x_put (C := RX6) (T := TX6) (N := 28) (ci := 6) (own := RX6) (ref := RX6) (ty := .int) hx hb hts in_X6 tyX6 tyX6_ok nmX6 hown hK hP hD hS 0 rfl rfl 7 (by decide) (hts _ q1025) (fun _ h => h) rfl (by decide +kernel) rfl rfl (Nat.le_of_ble_eq_true rfl) (mW cI B (upd2 M 7 0 v)) (mW_setS 7 rfl (mF_set7 B M v)) d (fun H1 locs1 => kk _ rfl H1 locs1)
theorem mg_8 (hx : p.tables.exec = Jvm.exec) (hb : c.code = cc) (hts : ∀ w ∈ lw_all, w.before args s = true) (hown : s.vm.findClass RX6 = some m.cls) (hK : va_K D vwCl [(cI, .int)] s) (hP : wP D vwCl (mW cI B M) H) (d : decode cc pc = .ok (.getfield 28, 3)) (kk : W p l e R s m args below meth c H locs cells slots Q (F0 m (pc + 3) ls (.ref (B 9) :: rest))) : W p l e R s m args below meth c H locs cells slots Q (F0 m pc ls (.ref (B 0) :: rest)) := x_get (C := RX6) (T := TX6) (N := 28) (ci := 6) (own := RX6) (ref := RX6) hx hb hts in_X6 hown hK hP 0 rfl rfl 8 (by decide) (hts _ q1026) (fun _ h => h) rfl d kk
theorem mg_9 (hx : p.tables.exec = Jvm.exec) (hb : c.code = cc) (hts : ∀ w ∈ lw_all, w.before args s = true) (hown : s.vm.findClass RX6 = some m.cls) (hK : va_K D vwCl [(cI, .int)] s) (hP : wP D vwCl (mW cI B M) H) (d : decode cc pc = .ok (.getfield 31, 3)) (kk : W p l e R s m args below meth c H locs cells slots Q (F0 m (pc + 3) ls (.ref (B 10) :: rest))) : W p l e R s m args below meth c H locs cells slots Q (F0 m pc ls (.ref (B 0) :: rest)) := x_get (C := RX6) (T := TX6) (N := 28) (ci := 6) (own := RX6) (ref := RX6) hx hb hts in_X6 hown hK hP 0 rfl rfl 9 (by decide) (hts _ q1027) (fun _ h => h) rfl d kk
theorem mg_10 (hx : p.tables.exec = Jvm.exec) (hb : c.code = cc) (hts : ∀ w ∈ lw_all, w.before args s = true) (hown : s.vm.findClass RX6 = some m.cls) (hK : va_K D vwCl [(cI, .int)] s) (hP : wP D vwCl (mW cI B M) H) (d : decode cc pc = .ok (.getfield 119, 3)) (kk : W p l e R s m args below meth c H locs cells slots Q (F0 m (pc + 3) ls (.int (iv (M 10 0)) :: rest))) : W p l e R s m args below meth c H locs cells slots Q (F0 m pc ls (.ref (B 0) :: rest)) := x_get (C := RX6) (T := TX6) (N := 28) (ci := 6) (own := RX6) (ref := RX6) hx hb hts in_X6 hown hK hP 0 rfl rfl 10 (by decide) (hts _ q1028) (fun _ h => h) rfl d kk
theorem mp_10 (hx : p.tables.exec = Jvm.exec) (hb : c.code = cc) (hts : ∀ w ∈ lw_all, w.before args s = true) (hown : s.vm.findClass RX6 = some m.cls) (hK : va_K D vwCl [(cI, .int)] s) (hP : wP D vwCl (mW cI B M) H) (hD : wD A (mW cI B M)) (hS : va_S A H0 H locs) {v : Int} (d : decode cc pc = .ok (.putfield 119, 3)) (kk : ∀ (M1 : St), M1 = upd2 M 10 0 v → ∀ (H1 : Heap) (locs1 : List Loc), wP D vwCl (mW cI B M1) H1 → wD A (mW cI B M1) → va_S A H0 H1 locs1 → W p l e R s m args below meth c H1 locs1 cells slots Q (F0 m (pc + 3) ls rest)) : W p l e R s m args below meth c H locs cells slots Q (F0 m pc ls (.int (iv v) :: .ref (B 0) :: rest)) := x_put (C := RX6) (T := TX6) (N := 28) (ci := 6) (own := RX6) (ref := RX6) (ty := .int) hx hb hts in_X6 tyX6 tyX6_ok nmX6 hown hK hP hD hS 0 rfl rfl 10 (by decide) (hts _ q1028) (fun _ h => h) rfl (by decide +kernel) rfl rfl (Nat.le_of_ble_eq_true rfl) (mW cI B (upd2 M 10 0 v)) (mW_setS 10 rfl (mF_set10 B M v)) d (fun H1 locs1 => kk _ rfl H1 locs1)
theorem mg_11 (hx : p.tables.exec = Jvm.exec) (hb : c.code = cc) (hts : ∀ w ∈ lw_all, w.before args s = true) (hown : s.vm.findClass RX6 = some m.cls) (hK : va_K D vwCl [(cI, .int)] s) (hP : wP D vwCl (mW cI B M) H) (d : decode cc pc = .ok (.getfield 122, 3)) (kk : W p l e R s m args below meth c H locs cells slots Q (F0 m (pc + 3) ls (.int (iv (M 11 0)) :: rest))) : W p l e R s m args below meth c H locs cells slots Q (F0 m pc ls (.ref (B 0) :: rest)) := x_get (C := RX6) (T := TX6) (N := 28) (ci := 6) (own := RX6) (ref := RX6) hx hb hts in_X6 hown hK hP 0 rfl rfl 11 (by decide) (hts _ q1029) (fun _ h => h) rfl d kk
theorem mp_11 (hx : p.tables.exec = Jvm.exec) (hb : c.code = cc) (hts : ∀ w ∈ lw_all, w.before args s = true) (hown : s.vm.findClass RX6 = some m.cls) (hK : va_K D vwCl [(cI, .int)] s) (hP : wP D vwCl (mW cI B M) H) (hD : wD A (mW cI B M)) (hS : va_S A H0 H locs) {v : Int} (d : decode cc pc = .ok (.putfield 122, 3)) (kk : ∀ (M1 : St), M1 = upd2 M 11 0 v → ∀ (H1 : Heap) (locs1 : List Loc), wP D vwCl (mW cI B M1) H1 → wD A (mW cI B M1) → va_S A H0 H1 locs1 → W p l e R s m args below meth c H1 locs1 cells slots Q (F0 m (pc + 3) ls rest)) : W p l e R s m args below meth c H locs cells slots Q (F0 m pc ls (.int (iv v) :: .ref (B 0) :: rest)) := x_put (C := RX6) (T := TX6) (N := 28) (ci := 6) (own := RX6) (ref := RX6) (ty := .int) hx hb hts in_X6 tyX6 tyX6_ok nmX6 hown hK hP hD hS 0 rfl rfl 11 (by decide) (hts _ q1029) (fun _ h => h) rfl (by decide +kernel) rfl rfl (Nat.le_of_ble_eq_true rfl) (mW cI B (upd2 M 11 0 v)) (mW_setS 11 rfl (mF_set11 B M v)) d (fun H1 locs1 => kk _ rfl H1 locs1)
theorem mg_12 (hx : p.tables.exec = Jvm.exec) (hb : c.code = cc) (hts : ∀ w ∈ lw_all, w.before args s = true) (hown : s.vm.findClass RX6 = some m.cls) (hK : va_K D vwCl [(cI, .int)] s) (hP : wP D vwCl (mW cI B M) H) (d : decode cc pc = .ok (.getfield 125, 3)) (kk : W p l e R s m args below meth c H locs cells slots Q (F0 m (pc + 3) ls (.int (iv (M 12 0)) :: rest))) : W p l e R s m args below meth c H locs cells slots Q (F0 m pc ls (.ref (B 0) :: rest)) := x_get (C := RX6) (T := TX6) (N := 28) (ci := 6) (own := RX6) (ref := RX6) hx hb hts in_X6 hown hK hP 0 rfl rfl 12 (by decide) (hts _ q1030) (fun _ h => h) rfl d kk
theorem mp_12 (hx : p.tables.exec = Jvm.exec) (hb : c.code = cc) (hts : ∀ w ∈ lw_all, w.before args s = true) (hown : s.vm.findClass RX6 = some m.cls) (hK : va_K D vwCl [(cI, .int)] s) (hP : wP D vwCl (mW cI B M) H) (hD : wD A (mW cI B M)) (hS : va_S A H0 H locs) {v : Int} (h01 : v = 0 ∨ v = 1) (d : decode cc pc = .ok (.putfield 125, 3)) (kk : ∀ (M1 : St), M1 = upd2 M 12 0 v → ∀ (H1 : Heap) (locs1 : List Loc), wP D vwCl (mW cI B M1) H1 → wD A (mW cI B M1) → va_S A H0 H1 locs1 → W p l e R s m args below meth c H1 locs1 cells slots Q (F0 m (pc + 3) ls rest)) : W p l e R s m args below meth c H locs cells slots Q (F0 m pc ls (.int (iv v) :: .ref (B 0) :: rest)) := x_put (C := RX6) (T := TX6) (N := 28) (ci := 6) (own := RX6) (ref := RX6) (ty := .boolean) hx hb hts in_X6 tyX6 tyX6_ok nmX6 hown hK hP hD hS 0 rfl rfl 12 (by decide) (hts _ q1030) (fun _ h => h) rfl (by decide +kernel) (iv_z01 h01).1 (iv_z01 h01).2 (Nat.le_of_ble_eq_true rfl) (mW cI B (upd2 M 12 0 v)) (mW_setS 12 rfl (mF_set12 B M v)) d (fun H1 locs1 => kk _ rfl H1 locs1)
theorem mg_13 (hx : p.tables.exec = Jvm.exec) (hb : c.code = cc) (hts : ∀ w ∈ lw_all, w.before args s = true) (hown : s.vm.findClass RX6 = some m.cls) (hK : va_K D vwCl [(cI, .int)] s) (hP : wP D vwCl (mW cI B M) H) (d : decode cc pc = .ok (.getfield 34, 3)) (kk : W p l e R s m args below meth c H locs cells slots Q (F0 m (pc + 3) ls (.ref (B 14) :: rest))) : W p l e R s m args below meth c H locs cells slots Q (F0 m pc ls (.ref (B 0) :: rest)) := x_get (C := RX6) (T := TX6) (N := 28) (ci := 6) (own := RX6) (ref := RX6) hx hb hts in_X6 hown hK hP 0 rfl rfl 13 (by decide) (hts _ q1031) (fun _ h => h) rfl d kk
theorem mg_14 (hx : p.tables.exec = Jvm.exec) (hb : c.code = cc) (hts : ∀ w ∈ lw_all, w.before args s = true) (hown : s.vm.findClass RX6 = some m.cls) (hK : va_K D vwCl [(cI, .int)] s) (hP : wP D vwCl (mW cI B M) H) (d : decode cc pc = .ok (.getfield 177, 3)) (kk : W p l e R s m args below meth c H locs cells slots Q (F0 m (pc + 3) ls (.long (jv (M 14 0)) :: rest))) : W p l e R s m args below meth c H locs cells slots Q (F0 m pc ls (.ref (B 0) :: rest)) := x_get (C := RX6) (T := TX6) (N := 28) (ci := 6) (own := RX6) (ref := RX6) hx hb hts in_X6 hown hK hP 0 rfl rfl 14 (by decide) (hts _ q1032) (fun _ h => h) rfl d kk
theorem mp_14 (hx : p.tables.exec = Jvm.exec) (hb : c.code = cc) (hts : ∀ w ∈ lw_all, w.before args s = true) (hown : s.vm.findClass RX6 = some m.cls) (hK : va_K D vwCl [(cI, .int)] s) (hP : wP D vwCl (mW cI B M) H) (hD : wD A (mW cI B M)) (hS : va_S A H0 H locs) {v : Int} (d : decode cc pc = .ok (.putfield 177, 3)) (kk : ∀ (M1 : St), M1 = upd2 M 14 0 v → ∀ (H1 : Heap) (locs1 : List Loc), wP D vwCl (mW cI B M1) H1 → wD A (mW cI B M1) → va_S A H0 H1 locs1 → W p l e R s m args below meth c H1 locs1 cells slots Q (F0 m (pc + 3) ls rest)) : W p l e R s m args below meth c H locs cells slots Q (F0 m pc ls (.long (jv v) :: .ref (B 0) :: rest)) := x_put (C := RX6) (T := TX6) (N := 28) (ci := 6) (own := RX6) (ref := RX6) (ty := .long) hx hb hts in_X6 tyX6 tyX6_ok nmX6 hown hK hP hD hS 0 rfl rfl 14 (by decide) (hts _ q1032) (fun _ h => h) rfl (by decide +kernel) rfl rfl (Nat.le_of_ble_eq_true rfl) (mW cI B (upd2 M 14 0 v)) (mW_setS 14 rfl (mF_set14 B M v)) d (fun H1 locs1 => kk _ rfl H1 locs1)
theorem mg_15 (hx : p.tables.exec = Jvm.exec) (hb : c.code = cc) (hts : ∀ w ∈ lw_all, w.before args s = true) (hown : s.vm.findClass RX6 = some m.cls) (hK : va_K D vwCl [(cI, .int)] s) (hP : wP D vwCl (mW cI B M) H) (d : decode cc pc = .ok (.getfield 183, 3)) (kk : W p l e R s m args below meth c H locs cells slots Q (F0 m (pc + 3) ls (.long (jv (M 15 0)) :: rest))) : W p l e R s m args below meth c H locs cells slots Q (F0 m pc ls (.ref (B 0) :: rest)) := x_get (C := RX6) (T := TX6) (N := 28) (ci := 6) (own := RX6) (ref := RX6) hx hb hts in_X6 hown hK hP 0 rfl rfl 15 (by decide) (hts _ q1033) (fun _ h => h) rfl d kk
theorem mp_15 (hx : p.tables.exec = Jvm.exec) (hb : c.code = cc) (hts : ∀ w ∈ lw_all, w.before args s = true) (hown : s.vm.findClass RX6 = some m.cls) (hK : va_K D vwCl [(cI, .int)] s) (hP : wP D vwCl (mW cI B M) H) (hD : wD A (mW cI B M)) (hS : va_S A H0 H locs) {v : Int} (d : decode cc pc = .ok (.putfield 183, 3)) (kk : ∀ (M1 : St), M1 = upd2 M 15 0 v → ∀ (H1 : Heap) (locs1 : List Loc), wP D vwCl (mW cI B M1) H1 → wD A (mW cI B M1) → va_S A H0 H1 locs1 → W p l e R s m args below meth c H1 locs1 cells slots Q (F0 m (pc + 3) ls rest)) : W p l e R s m args below meth c H locs cells slots Q (F0 m pc ls (.long (jv v) :: .ref (B 0) :: rest)) := x_put (C := RX6) (T := TX6) (N := 28) (ci := 6) (own := RX6) (ref := RX6) (ty := .long) hx hb hts in_X6 tyX6 tyX6_ok nmX6 hown hK hP hD hS 0 rfl rfl 15 (by decide) (hts _ q1033) (fun _ h => h) rfl (by decide +kernel) rfl rfl (Nat.le_of_ble_eq_true rfl) (mW cI B (upd2 M 15 0 v)) (mW_setS 15 rfl (mF_set15 B M v)) d (fun H1 locs1 => kk _ rfl H1 locs1)
theorem mg_16 (hx : p.tables.exec = Jvm.exec) (hb : c.code = cc) (hts : ∀ w ∈ lw_all, w.before args s = true) (hown : s.vm.findClass RX6 = some m.cls) (hK : va_K D vwCl [(cI, .int)] s) (hP : wP D vwCl (mW cI B M) H) (d : decode cc pc = .ok (.getfield 163, 3)) (kk : W p l e R s m args below meth c H locs cells slots Q (F0 m (pc + 3) ls (.int (iv (M 16 0)) :: rest))) : W p l e R s m args below meth c H locs cells slots Q (F0 m pc ls (.ref (B 0) :: rest)) := x_get (C := RX6) (T := TX6) (N := 28) (ci := 6) (own := RX6) (ref := RX6) hx hb hts in_X6 hown hK hP 0 rfl rfl 16 (by decide) (hts _ q1034) (fun _ h => h) rfl d kk
theorem mp_16 (hx : p.tables.exec = Jvm.exec) (hb : c.code = cc) (hts : ∀ w ∈ lw_all, w.before args s = true) (hown : s.vm.findClass RX6 = some m.cls) (hK : va_K D vwCl [(cI, .int)] s) (hP : wP D vwCl (mW cI B M) H) (hD : wD A (mW cI B M)) (hS : va_S A H0 H locs) {v : Int} (d : decode cc pc = .ok (.putfield 163, 3)) (kk : ∀ (M1 : St), M1 = upd2 M 16 0 v → ∀ (H1 : Heap) (locs1 : List Loc), wP D vwCl (mW cI B M1) H1 → wD A (mW cI B M1) → va_S A H0 H1 locs1 → W p l e R s m args below meth c H1 locs1 cells slots Q (F0 m (pc + 3) ls rest)) : W p l e R s m args below meth c H locs cells slots Q (F0 m pc ls (.int (iv v) :: .ref (B 0) :: rest)) := x_put (C := RX6) (T := TX6) (N := 28) (ci := 6) (own := RX6) (ref := RX6) (ty := .int) hx hb hts in_X6 tyX6 tyX6_ok nmX6 hown hK hP hD hS 0 rfl rfl 16 (by decide) (hts _ q1034) (fun _ h => h) rfl (by decide +kernel) rfl rfl (Nat.le_of_ble_eq_true rfl) (mW cI B (upd2 M 16 0 v)) (mW_setS 16 rfl (mF_set16 B M v)) d (fun H1 locs1 => kk _ rfl H1 locs1)
theorem mg_17 (hx : p.tables.exec = Jvm.exec) (hb : c.code = cc) (hts : ∀ w ∈ lw_all, w.before args s = true) (hown : s.vm.findClass RX6 = some m.cls) (hK : va_K D vwCl [(cI, .int)] s) (hP : wP D vwCl (mW cI B M) H) (d : decode cc pc = .ok (.getfield 37, 3)) (kk : W p l e R s m args below meth c H locs cells slots Q (F0 m (pc + 3) ls (.ref (B 18) :: rest))) : W p l e R s m args below meth c H locs cells slots Q (F0 m pc ls (.ref (B 0) :: rest)) := x_get (C := RX6) (T := TX6) (N := 28) (ci := 6) (own := RX6) (ref := RX6) hx hb hts in_X6 hown hK hP 0 rfl rfl 17 (by decide) (hts _ q1035) (fun _ h => h) rfl d kk
theorem mg_18 (hx : p.tables.exec = Jvm.exec) (hb : c.code = cc) (hts : ∀ w ∈ lw_all, w.before args s = true) (hown : s.vm.findClass RX6 = some m.cls) (hK : va_K D vwCl [(cI, .int)] s) (hP : wP D vwCl (mW cI B M) H) (d : decode cc pc = .ok (.getfield 40, 3)) (kk : W p l e R s m args below meth c H locs cells slots Q (F0 m (pc + 3) ls (.ref (B 19) :: rest))) : W p l e R s m args below meth c H locs cells slots Q (F0 m pc ls (.ref (B 0) :: rest)) := x_get (C := RX6) (T := TX6) (N := 28) (ci := 6) (own := RX6) (ref := RX6) hx hb hts in_X6 hown hK hP 0 rfl rfl 18 (by decide) (hts _ q1036) (fun _ h => h) rfl d kk
theorem mg_19 (hx : p.tables.exec = Jvm.exec) (hb : c.code = cc) (hts : ∀ w ∈ lw_all, w.before args s = true) (hown : s.vm.findClass RX6 = some m.cls) (hK : va_K D vwCl [(cI, .int)] s) (hP : wP D vwCl (mW cI B M) H) (d : decode cc pc = .ok (.getfield 166, 3)) (kk : W p l e R s m args below meth c H locs cells slots Q (F0 m (pc + 3) ls (.int (iv (M 19 0)) :: rest))) : W p l e R s m args below meth c H locs cells slots Q (F0 m pc ls (.ref (B 0) :: rest)) := x_get (C := RX6) (T := TX6) (N := 28) (ci := 6) (own := RX6) (ref := RX6) hx hb hts in_X6 hown hK hP 0 rfl rfl 19 (by decide) (hts _ q1037) (fun _ h => h) rfl d kk
theorem mp_19 (hx : p.tables.exec = Jvm.exec) (hb : c.code = cc) (hts : ∀ w ∈ lw_all, w.before args s = true) (hown : s.vm.findClass RX6 = some m.cls) (hK : va_K D vwCl [(cI, .int)] s) (hP : wP D vwCl (mW cI B M) H) (hD : wD A (mW cI B M)) (hS : va_S A H0 H locs) {v : Int} (d : decode cc pc = .ok (.putfield 166, 3)) (kk : ∀ (M1 : St), M1 = upd2 M 19 0 v → ∀ (H1 : Heap) (locs1 : List Loc), wP D vwCl (mW cI B M1) H1 → wD A (mW cI B M1) → va_S A H0 H1 locs1 → W p l e R s m args below meth c H1 locs1 cells slots Q (F0 m (pc + 3) ls rest)) : W p l e R s m args below meth c H locs cells slots Q (F0 m pc ls (.int (iv v) :: .ref (B 0) :: rest)) := x_put (C := RX6) (T := TX6) (N := 28) (ci := 6) (own := RX6) (ref := RX6) (ty := .int) hx hb hts in_X6 tyX6 tyX6_ok nmX6 hown hK hP hD hS 0 rfl rfl 19 (by decide) (hts _ q1037) (fun _ h => h) rfl (by decide +kernel) rfl rfl (Nat.le_of_ble_eq_true rfl) (mW cI B (upd2 M 19 0 v)) (mW_setS 19 rfl (mF_set19 B M v)) d (fun H1 locs1 => kk _ rfl H1 locs1)
theorem mg_20 (hx : p.tables.exec = Jvm.exec) (hb : c.code = cc) (hts : ∀ w ∈ lw_all, w.before args s = true) (hown : s.vm.findClass RX6 = some m.cls) (hK : va_K D vwCl [(cI, .int)] s) (hP : wP D vwCl (mW cI B M) H) (d : decode cc pc = .ok (.getfield 43, 3)) (kk : W p l e R s m args below meth c H locs cells slots Q (F0 m (pc + 3) ls (.ref (B 21) :: rest))) : W p l e R s m args below meth c H locs cells slots Q (F0 m pc ls (.ref (B 0) :: rest)) := x_get (C := RX6) (T := TX6) (N := 28) (ci := 6) (own := RX6) (ref := RX6) hx hb hts in_X6 hown hK hP 0 rfl rfl 20 (by decide) (hts _ q1038) (fun _ h => h) rfl d kk
theorem mg_21 (hx : p.tables.exec = Jvm.exec) (hb : c.code = cc) (hts : ∀ w ∈ lw_all, w.before args s = true) (hown : s.vm.findClass RX6 = some m.cls) (hK : va_K D vwCl [(cI, .int)] s) (hP : wP D vwCl (mW cI B M) H) (d : decode cc pc = .ok (.getfield 46, 3)) (kk : W p l e R s m args below meth c H locs cells slots Q (F0 m (pc + 3) ls (.ref (B 22) :: rest))) : W p l e R s m args below meth c H locs cells slots Q (F0 m pc ls (.ref (B 0) :: rest)) := x_get (C := RX6) (T := TX6) (N := 28) (ci := 6) (own := RX6) (ref := RX6) hx hb hts in_X6 hown hK hP 0 rfl rfl 21 (by decide) (hts _ q1039) (fun _ h => h) rfl d kk
theorem mg_22 (hx : p.tables.exec = Jvm.exec) (hb : c.code = cc) (hts : ∀ w ∈ lw_all, w.before args s = true) (hown : s.vm.findClass RX6 = some m.cls) (hK : va_K D vwCl [(cI, .int)] s) (hP : wP D vwCl (mW cI B M) H) (d : decode cc pc = .ok (.getfield 49, 3)) (kk : W p l e R s m args below meth c H locs cells slots Q (F0 m (pc + 3) ls (.ref (B 23) :: rest))) : W p l e R s m args below meth c H locs cells slots Q (F0 m pc ls (.ref (B 0) :: rest)) := x_get (C := RX6) (T := TX6) (N := 28) (ci := 6) (own := RX6) (ref := RX6) hx hb hts in_X6 hown hK hP 0 rfl rfl 22 (by decide) (hts _ q1040) (fun _ h => h) rfl d kk
theorem mg_23 (hx : p.tables.exec = Jvm.exec) (hb : c.code = cc) (hts : ∀ w ∈ lw_all, w.before args s = true) (hown : s.vm.findClass RX6 = some m.cls) (hK : va_K D vwCl [(cI, .int)] s) (hP : wP D vwCl (mW cI B M) H) (d : decode cc pc = .ok (.getfield 222, 3)) (kk : W p l e R s m args below meth c H locs cells slots Q (F0 m (pc + 3) ls (.int (iv (M 23 0)) :: rest))) : W p l e R s m args below meth c H locs cells slots Q (F0 m pc ls (.ref (B 0) :: rest)) := x_get (C := RX6) (T := TX6) (N := 28) (ci := 6) (own := RX6) (ref := RX6) hx hb hts in_X6 hown hK hP 0 rfl rfl 23 (by decide) (hts _ q1041) (fun _ h => h) rfl d kk
theorem mp_23 (hx : p.tables.exec = Jvm.exec) (hb : c.code = cc) (hts : ∀ w ∈ lw_all, w.before args s = true) (hown : s.vm.findClass RX6 = some m.cls) (hK : va_K D vwCl [(cI, .int)] s) (hP : wP D vwCl (mW cI B M) H) (hD : wD A (mW cI B M)) (hS : va_S A H0 H locs) {v : Int} (h01 : v = 0 ∨ v = 1) (d : decode cc pc = .ok (.putfield 222, 3)) (kk : ∀ (M1 : St), M1 = upd2 M 23 0 v → ∀ (H1 : Heap) (locs1 : List Loc), wP D vwCl (mW cI B M1) H1 → wD A (mW cI B M1) → va_S A H0 H1 locs1 → W p l e R s m args below meth c H1 locs1 cells slots Q (F0 m (pc + 3) ls rest)) : W p l e R s m args below meth c H locs cells slots Q (F0 m pc ls (.int (iv v) :: .ref (B 0) :: rest)) := x_put (C := RX6) (T := TX6) (N := 28) (ci := 6) (own := RX6) (ref := RX6) (ty := .boolean) hx hb hts in_X6 tyX6 tyX6_ok nmX6 hown hK hP hD hS 0 rfl rfl 23 (by decide) (hts _ q1041) (fun _ h => h) rfl (by decide +kernel) (iv_z01 h01).1 (iv_z01 h01).2 (Nat.le_of_ble_eq_true rfl) (mW cI B (upd2 M 23 0 v)) (mW_setS 23 rfl (mF_set23 B M v)) d (fun H1 locs1 => kk _ rfl H1 locs1)
theorem mg_24 (hx : p.tables.exec = Jvm.exec) (hb : c.code = cc) (hts : ∀ w ∈ lw_all, w.before args s = true) (hown : s.vm.findClass RX6 = some m.cls) (hK : va_K D vwCl [(cI, .int)] s) (hP : wP D vwCl (mW cI B M) H) (d : decode cc pc = .ok (.getfield 52, 3)) (kk : W p l e R s m args below meth c H locs cells slots Q (F0 m (pc + 3) ls (.ref (B 25) :: rest))) : W p l e R s m args below meth c H locs cells slots Q (F0 m pc ls (.ref (B 0) :: rest)) := x_get (C := RX6) (T := TX6) (N := 28) (ci := 6) (own := RX6) (ref := RX6) hx hb hts in_X6 hown hK hP 0 rfl rfl 24 (by decide) (hts _ q1042) (fun _ h => h) rfl d kk
theorem mg_25 (hx : p.tables.exec = Jvm.exec) (hb : c.code = cc) (hts : ∀ w ∈ lw_all, w.before args s = true) (hown : s.vm.findClass RX6 = some m.cls) (hK : va_K D vwCl [(cI, .int)] s) (hP : wP D vwCl (mW cI B M) H) (d : decode cc pc = .ok (.getfield 55, 3)) (kk : W p l e R s m args below meth c H locs cells slots Q (F0 m (pc + 3) ls (.ref (B 26) :: rest))) : W p l e R s m args below meth c H locs cells slots Q (F0 m pc ls (.ref (B 0) :: rest)) := x_get (C := RX6) (T := TX6) (N := 28) (ci := 6) (own := RX6) (ref := RX6) hx hb hts in_X6 hown hK hP 0 rfl rfl 25 (by decide) (hts _ q1043) (fun _ h => h) rfl d kk
theorem mg_26 (hx : p.tables.exec = Jvm.exec) (hb : c.code = cc) (hts : ∀ w ∈ lw_all, w.before args s = true) (hown : s.vm.findClass RX6 = some m.cls) (hK : va_K D vwCl [(cI, .int)] s) (hP : wP D vwCl (mW cI B M) H) (d : decode cc pc = .ok (.getfield 58, 3)) (kk : W p l e R s m args below meth c H locs cells slots Q (F0 m (pc + 3) ls (.ref (B 27) :: rest))) : W p l e R s m args below meth c H locs cells slots Q (F0 m pc ls (.ref (B 0) :: rest)) := x_get (C := RX6) (T := TX6) (N := 28) (ci := 6) (own := RX6) (ref := RX6) hx hb hts in_X6 hown hK hP 0 rfl rfl 26 (by decide) (hts _ q1044) (fun _ h => h) rfl d kk
theorem mg_27 (hx : p.tables.exec = Jvm.exec) (hb : c.code = cc) (hts : ∀ w ∈ lw_all, w.before args s = true) (hown : s.vm.findClass RX6 = some m.cls) (hK : va_K D vwCl [(cI, .int)] s) (hP : wP D vwCl (mW cI B M) H) (d : decode cc pc = .ok (.getfield 61, 3)) (kk : W p l e R s m args below meth c H locs cells slots Q (F0 m (pc + 3) ls (.ref (B 28) :: rest))) : W p l e R s m args below meth c H locs cells slots Q (F0 m pc ls (.ref (B 0) :: rest)) := x_get (C := RX6) (T := TX6) (N := 28) (ci := 6) (own := RX6) (ref := RX6) hx hb hts in_X6 hown hK hP 0 rfl rfl 27 (by decide) (hts _ q1045) (fun _ h => h) rfl d kk
end MW
