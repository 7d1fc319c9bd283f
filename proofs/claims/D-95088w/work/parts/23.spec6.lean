/-! ===== reading texts ===== -/
/-- a state of the reader: where it is, whether it has failed -/
def pM (M : St) (a w : Int) : St := upd2 (upd2 M 11 0 a) 12 0 w
theorem pM_self (M : St) : pM M (M 11 0) (M 12 0) = M := by
  unfold pM
  rw [upd2_id, upd2_id]
theorem upd2_comm (M : St) {j k : Nat} (h : j ≠ k) (y z v w : Int) : upd2 (upd2 M j y v) k z w = upd2 (upd2 M k z w) j y v := by
  funext f i
  unfold upd2
  by_cases hj : f = j
  · have hk : ¬ f = k := fun q => h (hj.symm.trans q)
    simp only [if_pos hj, if_neg hk]
  · simp only [if_neg hj]
theorem pM_c {M M1 M2 : St} {a w b v : Int} (h : M1 = pM M a w) (e : M2 = pM M1 b v) : M2 = pM M b v := by
  rw [e, h]
  unfold pM
  rw [upd2_comm (upd2 M 11 0 a) (show (12 : Nat) ≠ 11 by decide), upd2_2, upd2_2]
theorem pM_u {M M1 M2 : St} {a w b : Int} (h : M1 = pM M a w) (e : M2 = upd2 M1 11 0 b) : M2 = pM M b w := by
  rw [e, h]
  unfold pM
  rw [upd2_comm (upd2 M 11 0 a) (show (12 : Nat) ≠ 11 by decide), upd2_2]
theorem pM_v {M M1 M2 : St} {a w v : Int} (h : M1 = pM M a w) (e : M2 = upd2 M1 12 0 v) : M2 = pM M a v := by
  rw [e, h]
  unfold pM
  rw [upd2_2]
theorem pM_11 {M M1 : St} {a w : Int} (h : M1 = pM M a w) : M1 11 0 = a := by
  rw [h]
  unfold pM
  rw [upd2_k (by decide), upd2_e]
theorem pM_12 {M M1 : St} {a w : Int} (h : M1 = pM M a w) : M1 12 0 = w := by
  rw [h]
  unfold pM
  rw [upd2_e]
theorem pM_x {M M1 : St} {a w : Int} (h : M1 = pM M a w) : eqx [11, 12] M M1 := by
  intro k hk
  rw [h]
  unfold pM
  simp only [List.mem_cons, List.not_mem_nil, or_false] at hk
  rw [upd2_k (by omega), upd2_k (by omega)]
theorem pM_eq {M M1 : St} {a w b v : Int} (h : M1 = pM M a w) (ha : a = b) (hw : w = v) : M1 = pM M b v := by rw [h, ha, hw]
/-- x is the first place from a on without a space -/
def skP (T : Int → Int) (n a x : Int) : Prop := a ≤ x ∧ (∀ j, a ≤ j → j < x → j < n ∧ T j = 32) ∧ ¬ (x < n ∧ T x = 32)
noncomputable def skV (T : Int → Int) (n a : Int) : Int := Classical.epsilon (skP T n a)
theorem skV_of {T : Int → Int} {n a x : Int} (h : skP T n a x) : x = skV T n a := by
  have hy : skP T n a (skV T n a) := Classical.epsilon_spec (p := skP T n a) ⟨x, h⟩
  rcases Int.lt_trichotomy x (skV T n a) with q | q | q
  · exact absurd (hy.2.1 x h.1 q) h.2.2
  · exact q
  · exact absurd (h.2.1 _ hy.1 q) hy.2.2
theorem sk_ex (T : Int → Int) (n a : Int) : ∃ x, skP T n a x := by
  have key : ∀ (d : Nat) (x : Int), n - x ≤ (d : Int) → a ≤ x → (∀ j, a ≤ j → j < x → j < n ∧ T j = 32) → ∃ x, skP T n a x := by
    intro d
    induction d with
    | zero => intro x h1 h2 h3; exact ⟨x, h2, h3, by omega⟩
    | succ d ih =>
      intro x h1 h2 h3
      by_cases h : x < n ∧ T x = 32
      · exact ih (x + 1) (by omega) (by omega) (fun j q1 q2 => by
          rcases (show j < x ∨ j = x by omega) with q | q
          · exact h3 j q1 q
          · rw [q]; exact h)
      · exact ⟨x, h2, h3, h⟩
  exact key (n - a).toNat a (by omega) (by omega) (fun j h1 h2 => by omega)
theorem skV_P (T : Int → Int) (n a : Int) : skP T n a (skV T n a) := Classical.epsilon_spec (sk_ex T n a)
theorem skV_r (T : Int → Int) (n a : Int) : a ≤ skV T n a ∧ (skV T n a ≤ n ∨ skV T n a = a) := by
  have h := skV_P T n a
  refine ⟨h.1, ?_⟩
  rcases (show skV T n a = a ∨ a < skV T n a by have := h.1; omega) with q | q
  · exact Or.inr q
  · have := h.2.1 (skV T n a - 1) (by omega) (by omega)
    omega
/-- skipping twice is skipping once -/
theorem skV_sk (T : Int → Int) (n a : Int) : skV T n (skV T n a) = skV T n a := (skV_of ⟨Int.le_refl _, fun j h1 h2 => by omega, (skV_P T n a).2.2⟩).symm
def chV (T : Int → Int) (n x : Int) : Int := if x < n then T x else 0
def hasR (T : Int → Int) (n ch x w : Int) : Int := if w = 0 then (if chV T n x = ch then 1 else 0) else 0
theorem hasR_01 (T : Int → Int) (n ch x w : Int) : hasR T n ch x w = 0 ∨ hasR T n ch x w = 1 := by
  unfold hasR
  split
  · split
    · exact Or.inr rfl
    · exact Or.inl rfl
  · exact Or.inl rfl
noncomputable def hasA (T : Int → Int) (n ch a w : Int) : Int := if w = 0 then skV T n a + hasR T n ch (skV T n a) w else a
abbrev digOK (T : Int → Int) (n lo hi x w : Int) : Prop := w = 0 ∧ 48 + lo ≤ chV T n x ∧ chV T n x ≤ 48 + hi
noncomputable def digW (T : Int → Int) (n lo hi a w : Int) : Int := if digOK T n lo hi (skV T n a) w then 0 else 1
noncomputable def digA (T : Int → Int) (n lo hi a w : Int) : Int := if w = 0 then (if digOK T n lo hi (skV T n a) w then skV T n a + 1 else skV T n a) else a
noncomputable def digV (T : Int → Int) (n lo hi a w : Int) : Int := if digOK T n lo hi (skV T n a) w then chV T n (skV T n a) - 48 else 0
theorem digW_01 (T : Int → Int) (n lo hi a w : Int) : digW T n lo hi a w = 0 ∨ digW T n lo hi a w = 1 := by
  unfold digW
  split
  · exact Or.inl rfl
  · exact Or.inr rfl
theorem digV_r (T : Int → Int) (n : Int) {lo hi : Int} (h : 0 ≤ lo ∧ lo ≤ hi) (a w : Int) : 0 ≤ digV T n lo hi a w ∧ digV T n lo hi a w ≤ hi := by
  unfold digV
  split <;> omega
/-- x is the first place from a on without a digit -/
def enP (T : Int → Int) (n a x : Int) : Prop := a ≤ x ∧ (∀ j, a ≤ j → j < x → j < n ∧ 48 ≤ T j ∧ T j ≤ 57) ∧ ¬ (x < n ∧ 48 ≤ T x ∧ T x ≤ 57)
noncomputable def enV (T : Int → Int) (n a : Int) : Int := Classical.epsilon (enP T n a)
theorem enV_of {T : Int → Int} {n a x : Int} (h : enP T n a x) : x = enV T n a := by
  have hy : enP T n a (enV T n a) := Classical.epsilon_spec (p := enP T n a) ⟨x, h⟩
  rcases Int.lt_trichotomy x (enV T n a) with q | q | q
  · exact absurd (hy.2.1 x h.1 q) h.2.2
  · exact q
  · exact absurd (h.2.1 _ hy.1 q) hy.2.2
noncomputable def dvV (T : Int → Int) (s i : Int) : Int := itV 0 (fun j x => if x ≤ 999 then 10 * x + T (s + j) - 48 else x) i
theorem dvV_0 (T : Int → Int) (s : Int) : (0 : Int) = dvV T s 0 := (itV_0 _ _).symm
theorem dvV_s (T : Int → Int) (s : Int) {i : Int} (h : 0 ≤ i) : dvV T s (i + 1) = if dvV T s i ≤ 999 then 10 * dvV T s i + T (s + i) - 48 else dvV T s i := itV_s _ _ h
/-- a number from a on: fails (1), where it ends, what it is -/
abbrev numOK (T : Int → Int) (n x w : Int) : Prop := w = 0 ∧ 48 ≤ chV T n x ∧ chV T n x ≤ 57
noncomputable def numV (T : Int → Int) (n a w : Int) : Int := if numOK T n (skV T n a) w then dvV T (skV T n a) (enV T n (skV T n a) - skV T n a) else 0
noncomputable def numW (T : Int → Int) (n hi a w : Int) : Int := if numOK T n (skV T n a) w then (if hi < numV T n a w then 1 else 0) else 1
noncomputable def numA (T : Int → Int) (n hi a w : Int) : Int := if w = 0 then (if numOK T n (skV T n a) w then (if hi < numV T n a w then skV T n a else enV T n (skV T n a)) else skV T n a) else a
theorem numW_01 (T : Int → Int) (n hi a w : Int) : numW T n hi a w = 0 ∨ numW T n hi a w = 1 := by
  unfold numW
  split
  · split
    · exact Or.inr rfl
    · exact Or.inl rfl
  · exact Or.inr rfl
theorem num_bad {T : Int → Int} {n a w : Int} (h : ¬ numOK T n (skV T n a) w) (hi : Int) : 0 = numV T n a w ∧ 1 = numW T n hi a w ∧ numA T n hi a w = if w = 0 then skV T n a else a := by
  refine ⟨?_, ?_, ?_⟩
  · unfold numV; exact (if_neg h).symm
  · unfold numW; exact (if_neg h).symm
  · unfold numA
    by_cases q : w = 0
    · rw [if_pos q, if_pos q, if_neg h]
    · rw [if_neg q, if_neg q]
theorem num_ok {T : Int → Int} {n a w x v hi : Int} (h : numOK T n (skV T n a) w) (hx : enP T n (skV T n a) x) (hv : v = dvV T (skV T n a) (x - skV T n a)) :
    v = numV T n a w ∧ (numW T n hi a w = if hi < v then 1 else 0) ∧ (numA T n hi a w = if hi < v then skV T n a else x) := by
  have ex := enV_of hx
  have hv2 : v = numV T n a w := by unfold numV; rw [if_pos h, ← ex]; exact hv
  refine ⟨hv2, ?_, ?_⟩
  · unfold numW; rw [if_pos h, ← hv2]
  · unfold numA; rw [if_pos h.1, if_pos h, ← hv2, ← ex]
theorem numV_0 {T : Int → Int} {n a w hi : Int} (h : numW T n hi a w = 0) : numV T n a w ≤ hi := by
  unfold numW at h
  split at h
  · split at h <;> omega
  · exact absurd h (by decide)
noncomputable def bothV (T : Int → Int) (n a w : Int) : Int := 10 * digV T n 0 3 a w + digV T n 1 9 (digA T n 0 3 a w) (digW T n 0 3 a w)
noncomputable def bothA (T : Int → Int) (n a w : Int) : Int := digA T n 1 9 (digA T n 0 3 a w) (digW T n 0 3 a w)
noncomputable def bothW (T : Int → Int) (n a w : Int) : Int := digW T n 1 9 (digA T n 0 3 a w) (digW T n 0 3 a w)
theorem bothV_r (T : Int → Int) (n a w : Int) : 0 ≤ bothV T n a w ∧ bothV T n a w ≤ 39 := by
  have h1 := digV_r T n (lo := 0) (hi := 3) (by decide) a w
  have h2 := digV_r T n (lo := 1) (hi := 9) (by decide) (digA T n 0 3 a w) (digW T n 0 3 a w)
  unfold bothV
  omega
