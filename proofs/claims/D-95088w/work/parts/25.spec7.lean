/-! ===== clauses ===== -/
def fset (f : Int → Int) (k v : Int) : Int → Int := fun i => if i = k then v else f i
theorem fset_e {f : Int → Int} {k v : Int} : fset f k v k = v := if_pos rfl
theorem fset_n {f : Int → Int} {k v i : Int} (h : i ≠ k) : fset f k v i = f i := if_neg h
/-- the reader's state and the row `read` -/
def rM (M : St) (a w : Int) (f : Int → Int) : St := fun k i => if k = 13 then f i else pM M a w k i
theorem rM_self (M : St) : rM M (M 11 0) (M 12 0) (M 13) = M := by
  funext k i
  unfold rM
  rw [pM_self]
  split
  · rename_i h; rw [h]
  · rfl
theorem rM_p {M M1 : St} {a w : Int} (h : M1 = pM M a w) : M1 = rM M a w (M 13) := by
  funext k i
  unfold rM
  split
  · rename_i q; rw [q, pM_x h 13 (by decide)]
  · rw [h]
theorem rM_u13 {M M1 M2 : St} {a w : Int} {f : Int → Int} {i v : Int} (h : M1 = rM M a w f) (e : M2 = upd2 M1 13 i v) : M2 = rM M a w (fset f i v) := by
  rw [e, h]
  funext k j
  unfold upd2 rM fset
  by_cases hk : k = 13
  · simp only [if_pos hk]
  · simp only [if_neg hk]
theorem rM_11 {M M1 : St} {a w : Int} {f : Int → Int} (h : M1 = rM M a w f) : M1 11 0 = a := by
  rw [h]
  show pM M a w 11 0 = _
  exact pM_11 (M := M) (a := a) (w := w) rfl
theorem rM_12 {M M1 : St} {a w : Int} {f : Int → Int} (h : M1 = rM M a w f) : M1 12 0 = w := by
  rw [h]
  show pM M a w 12 0 = _
  exact pM_12 (M := M) (a := a) (w := w) rfl
theorem rM_13 {M M1 : St} {a w : Int} {f : Int → Int} (h : M1 = rM M a w f) : M1 13 = f := by
  rw [h]
  funext i
  rfl
theorem rM_x {M M1 : St} {a w : Int} {f : Int → Int} (h : M1 = rM M a w f) : eqx [11, 12, 13] M M1 := by
  intro k hk
  simp only [List.mem_cons, List.not_mem_nil, or_false] at hk
  rw [h]
  funext i
  show (if k = 13 then f i else pM M a w k i) = M k i
  rw [if_neg (by omega), pM_x (rfl : pM M a w = pM M a w) k (by simp only [List.mem_cons, List.not_mem_nil, or_false]; omega)]
theorem rM_in {M M1 : St} {a w : Int} {f : Int → Int} (hx : eqx [11, 12, 13] M M1) (h1 : M1 11 0 = a) (h2 : M1 12 0 = w) (h3 : M1 13 = f) (z1 : ∀ i, i ≠ 0 → M1 11 i = M 11 i) (z2 : ∀ i, i ≠ 0 → M1 12 i = M 12 i) : M1 = rM M a w f := by
  funext k i
  show M1 k i = if k = 13 then f i else pM M a w k i
  by_cases q : k = 13
  · rw [if_pos q, q, h3]
  · rw [if_neg q]
    show M1 k i = upd2 (upd2 M 11 0 a) 12 0 w k i
    unfold upd2
    by_cases q2 : k = 12
    · subst q2
      rw [if_pos rfl]
      by_cases qi : i = 0
      · rw [if_pos qi, qi, h2]
      · rw [if_neg qi, if_neg (by decide)]; exact z2 i qi
    · rw [if_neg q2]
      by_cases q1 : k = 11
      · subst q1
        rw [if_pos rfl]
        by_cases qi : i = 0
        · rw [if_pos qi, qi, h1]
        · rw [if_neg qi]; exact z1 i qi
      · rw [if_neg q1]
        exact congrFun (hx k (by simp only [List.mem_cons, List.not_mem_nil, or_false]; omega)) i
theorem rM_c {M M1 M2 : St} {a w b v : Int} {f g : Int → Int} (h : M1 = rM M a w f) (e : M2 = rM M1 b v g) : M2 = rM M b v g := by
  subst e
  subst h
  funext k i
  show (if k = 13 then g i else pM (rM M a w f) b v k i) = if k = 13 then g i else pM M b v k i
  by_cases q : k = 13
  · rw [if_pos q, if_pos q]
  · rw [if_neg q, if_neg q]
    show upd2 (upd2 (rM M a w f) 11 0 b) 12 0 v k i = upd2 (upd2 M 11 0 b) 12 0 v k i
    unfold upd2
    by_cases q2 : k = 12
    · subst q2
      simp only [if_true, if_neg (show ¬ (12 : Nat) = 11 by decide)]
      by_cases qi : i = 0
      · rw [if_pos qi, if_pos qi]
      · rw [if_neg qi, if_neg qi]
        show pM M a w 12 i = M 12 i
        show upd2 (upd2 M 11 0 a) 12 0 w 12 i = M 12 i
        unfold upd2
        rw [if_pos rfl, if_neg qi, if_neg (by decide)]
    · rw [if_neg q2, if_neg q2]
      by_cases q1 : k = 11
      · subst q1
        rw [if_pos rfl, if_pos rfl]
        by_cases qi : i = 0
        · rw [if_pos qi, if_pos qi]
        · rw [if_neg qi, if_neg qi]
          show upd2 (upd2 M 11 0 a) 12 0 w 11 i = M 11 i
          unfold upd2
          rw [if_neg (by decide), if_pos rfl, if_neg qi]
      · rw [if_neg q1, if_neg q1]
        show (if k = 13 then f i else pM M a w k i) = M k i
        rw [if_neg q]
        exact congrFun (pM_x (rfl : pM M a w = pM M a w) k (by simp only [List.mem_cons, List.not_mem_nil, or_false]; omega)) i
theorem rM_pc {M M1 M2 : St} {a w b v : Int} {f : Int → Int} (h : M1 = rM M a w f) (e : M2 = pM M1 b v) : M2 = rM M b v f := by
  have e2 := rM_c h (rM_p e)
  rw [rM_13 h] at e2
  exact e2
theorem rM_u {M M1 M2 : St} {a w b : Int} {f : Int → Int} (h : M1 = rM M a w f) (e : M2 = upd2 M1 11 0 b) : M2 = rM M b w f := by
  have e2 : M2 = pM M1 b (M1 12 0) := pM_u (pM_self M1).symm e
  rw [rM_12 h] at e2
  exact rM_pc h e2
theorem rM_v {M M1 M2 : St} {a w v : Int} {f : Int → Int} (h : M1 = rM M a w f) (e : M2 = upd2 M1 12 0 v) : M2 = rM M a v f := by
  have e2 : M2 = pM M1 (M1 11 0) v := pM_v (pM_self M1).symm e
  rw [rM_11 h] at e2
  exact rM_pc h e2
theorem rM_eq {M M1 : St} {a w b v : Int} {f g : Int → Int} (h : M1 = rM M a w f) (ha : a = b) (hw : w = v) (hf : f = g) : M1 = rM M b v g := by rw [h, ha, hw, hf]
/-! a beat's clause, piece by piece -/
section
variable (T : Int → Int) (n : Int)
noncomputable def obV (ch a w : Int) : Int := if hasR T n ch (skV T n a) w = 0 then 0 else bothV T n (hasA T n ch a w) w
noncomputable def obA (ch a w : Int) : Int := if hasR T n ch (skV T n a) w = 0 then hasA T n ch a w else bothA T n (hasA T n ch a w) w
noncomputable def obW (ch a w : Int) : Int := if hasR T n ch (skV T n a) w = 0 then w else bothW T n (hasA T n ch a w) w
noncomputable def odV (ch a w : Int) : Int := if hasR T n ch (skV T n a) w = 0 then -1 else digV T n 0 3 (hasA T n ch a w) w
noncomputable def odA (ch a w : Int) : Int := if hasR T n ch (skV T n a) w = 0 then hasA T n ch a w else digA T n 0 3 (hasA T n ch a w) w
noncomputable def odW (ch a w : Int) : Int := if hasR T n ch (skV T n a) w = 0 then w else digW T n 0 3 (hasA T n ch a w) w
noncomputable def bA1 (a w : Int) : Int := hasA T n 58 (numA T n 15 a w) (numW T n 15 a w)
noncomputable def bW1 (a w : Int) : Int := if hasR T n 58 (skV T n (numA T n 15 a w)) (numW T n 15 a w) = 0 then 1 else 0
noncomputable def bV1 (a w : Int) : Int := obV T n 109 (bA1 T n a w) (bW1 T n a w)
noncomputable def bA2 (a w : Int) : Int := obA T n 109 (bA1 T n a w) (bW1 T n a w)
noncomputable def bW2 (a w : Int) : Int := obW T n 109 (bA1 T n a w) (bW1 T n a w)
noncomputable def bV2 (a w : Int) : Int := odV T n 108 (bA2 T n a w) (bW2 T n a w)
noncomputable def bA3 (a w : Int) : Int := odA T n 108 (bA2 T n a w) (bW2 T n a w)
noncomputable def bW3 (a w : Int) : Int := odW T n 108 (bA2 T n a w) (bW2 T n a w)
noncomputable def bV3 (a w : Int) : Int := odV T n 110 (bA3 T n a w) (bW3 T n a w)
noncomputable def bA4 (a w : Int) : Int := odA T n 110 (bA3 T n a w) (bW3 T n a w)
noncomputable def bW4 (a w : Int) : Int := odW T n 110 (bA3 T n a w) (bW3 T n a w)
noncomputable def bV4 (a w : Int) : Int := hasR T n 106 (skV T n (bA4 T n a w)) (bW4 T n a w)
noncomputable def bA5 (a w : Int) : Int := hasA T n 106 (bA4 T n a w) (bW4 T n a w)
noncomputable def bV5 (a w : Int) : Int := obV T n 120 (bA5 T n a w) (bW4 T n a w)
noncomputable def bA6 (a w : Int) : Int := obA T n 120 (bA5 T n a w) (bW4 T n a w)
noncomputable def bW6 (a w : Int) : Int := obW T n 120 (bA5 T n a w) (bW4 T n a w)
/-- the clause's row -/
noncomputable def bRow (f : Int → Int) (k a w : Int) : Int → Int :=
  fset (fset (fset (fset (fset (fset f k (numV T n a w)) (k + 1) (bV1 T n a w)) (k + 2) (bV2 T n a w)) (k + 3) (bV3 T n a w)) (k + 4) (bV4 T n a w)) (k + 5) (bV5 T n a w)
end
theorem obV_r (T : Int → Int) (n ch a w : Int) : 0 ≤ obV T n ch a w ∧ obV T n ch a w ≤ 39 := by
  unfold obV
  split
  · decide
  · exact bothV_r T n _ _
theorem odV_r (T : Int → Int) (n ch a w : Int) : -1 ≤ odV T n ch a w ∧ odV T n ch a w ≤ 3 := by
  unfold odV
  split
  · decide
  · have := digV_r T n (lo := 0) (hi := 3) (by decide) (hasA T n ch a w) w
    omega
/-! a seat's clause -/
noncomputable def dupV (f : Int → Int) (v tk : Int) (i : Int) : Int := itV tk (fun j x => if ¬ x = 0 ∨ f (6 * j) = v then 1 else 0) i
theorem dupV_0 (f : Int → Int) (v tk : Int) : tk = dupV f v tk 0 := (itV_0 _ _).symm
theorem dupV_s (f : Int → Int) (v tk : Int) {i : Int} (h : 0 ≤ i) : dupV f v tk (i + 1) = if ¬ dupV f v tk i = 0 ∨ f (6 * i) = v then 1 else 0 := itV_s _ _ h
def kdV (c : Int) : Int := if c = 112 then 0 else if c = 119 then 1 else if c = 99 then 2 else if c = 120 then 3 else -4
theorem kdV_r (c : Int) : (0 ≤ kdV c ∧ kdV c ≤ 3) ∨ kdV c = -4 := by
  unfold kdV
  (repeat' split) <;> omega
section
variable (T : Int → Int) (n : Int)
noncomputable def sA0 (a w : Int) : Int := numA T n 11 (skV T n a) w
noncomputable def sW0 (a w : Int) : Int := numW T n 11 (skV T n a) w
/-- after the seat: d says that it is taken -/
noncomputable def sA1 (d a w : Int) : Int := if sW0 T n a w = 0 ∧ ¬ d = 0 then skV T n a else sA0 T n a w
noncomputable def sW1 (d a w : Int) : Int := if sW0 T n a w = 0 ∧ ¬ d = 0 then 1 else sW0 T n a w
noncomputable def sA2 (d a w : Int) : Int := if sW1 T n d a w = 0 then skV T n (sA1 T n d a w) else sA1 T n d a w
noncomputable def sC (d a w : Int) : Int := if sW1 T n d a w = 0 then chV T n (skV T n (sA1 T n d a w)) else 0
noncomputable def sK (d a w : Int) : Int := kdV (sC T n d a w)
noncomputable def sW3 (d a w : Int) : Int := if ¬ sW1 T n d a w = 0 ∨ sK T n d a w < 0 then 1 else 0
noncomputable def sA3 (d a w : Int) : Int := if sW3 T n d a w = 0 then sA2 T n d a w + 1 else sA2 T n d a w
end
theorem en_ex (T : Int → Int) (n a : Int) : ∃ x, enP T n a x := by
  have key : ∀ (d : Nat) (x : Int), n - x ≤ (d : Int) → a ≤ x → (∀ j, a ≤ j → j < x → j < n ∧ 48 ≤ T j ∧ T j ≤ 57) → ∃ x, enP T n a x := by
    intro d
    induction d with
    | zero => intro x h1 h2 h3; exact ⟨x, h2, h3, by omega⟩
    | succ d ih =>
      intro x h1 h2 h3
      by_cases h : x < n ∧ 48 ≤ T x ∧ T x ≤ 57
      · exact ih (x + 1) (by omega) (by omega) (fun j q1 q2 => by
          rcases (show j < x ∨ j = x by omega) with q | q
          · exact h3 j q1 q
          · rw [q]; exact h)
      · exact ⟨x, h2, h3, h⟩
  exact key (n - a).toNat a (by omega) (by omega) (fun j h1 h2 => by omega)
theorem enV_P (T : Int → Int) (n a : Int) : enP T n a (enV T n a) := Classical.epsilon_spec (en_ex T n a)
theorem dvV_r (T : Int → Int) (s : Int) : ∀ (k : Nat), (∀ j, 0 ≤ j → j < (k : Int) → 48 ≤ T (s + j) ∧ T (s + j) ≤ 57) → 0 ≤ dvV T s (k : Int) ∧ dvV T s (k : Int) ≤ 9999 := by
  intro k
  induction k with
  | zero =>
    intro _
    have e := dvV_0 T s
    rw [show ((0 : Nat) : Int) = 0 from rfl, ← e]
    decide
  | succ k ih =>
    intro h
    have i := ih (fun j q1 q2 => h j q1 (by omega))
    have d := h (k : Int) (by omega) (by omega)
    rw [show ((k + 1 : Nat) : Int) = (k : Int) + 1 from rfl, dvV_s _ _ (by omega)]
    split <;> omega
theorem numV_r (T : Int → Int) (n a w : Int) : 0 ≤ numV T n a w ∧ numV T n a w ≤ 9999 := by
  unfold numV
  split
  · have h := enV_P T n (skV T n a)
    have e : ((enV T n (skV T n a) - skV T n a).toNat : Int) = enV T n (skV T n a) - skV T n a := by have := h.1; omega
    rw [← e]
    exact dvV_r T _ _ (fun j q1 q2 => (h.2.1 (skV T n a + j) (by omega) (by omega)).2)
  · decide
theorem bW1_01 (T : Int → Int) (n a w : Int) : bW1 T n a w = 0 ∨ bW1 T n a w = 1 := by
  unfold bW1
  split
  · exact Or.inr rfl
  · exact Or.inl rfl
theorem sW1_01 (T : Int → Int) (n d a w : Int) : sW1 T n d a w = 0 ∨ sW1 T n d a w = 1 := by
  unfold sW1
  split
  · exact Or.inr rfl
  · exact numW_01 _ _ _ _ _
theorem sW3_01 (T : Int → Int) (n d a w : Int) : sW3 T n d a w = 0 ∨ sW3 T n d a w = 1 := by
  unfold sW3
  split
  · exact Or.inr rfl
  · exact Or.inl rfl
/-- a good clause ends before the tape's end -/
theorem sA3_r (T : Int → Int) (n d a w : Int) (h : sW3 T n d a w = 0) : skV T n (sA1 T n d a w) < n ∧ sA2 T n d a w = skV T n (sA1 T n d a w) := by
  have h0 : sW1 T n d a w = 0 ∧ ¬ sK T n d a w < 0 := by
    unfold sW3 at h
    by_cases q : ¬ sW1 T n d a w = 0 ∨ sK T n d a w < 0
    · rw [if_pos q] at h; exact absurd h (by decide)
    · constructor <;> omega
  have h2 : sA2 T n d a w = skV T n (sA1 T n d a w) := by unfold sA2; exact if_pos h0.1
  refine ⟨?_, h2⟩
  have hk := h0.2
  unfold sK sC at hk
  rw [if_pos h0.1] at hk
  by_cases q : skV T n (sA1 T n d a w) < n
  · exact q
  · exfalso
    apply hk
    unfold chV
    rw [if_neg q]
    decide
theorem chV_r {T : Int → Int} (h : ∀ j, 0 ≤ T j ∧ T j ≤ 126) (n x : Int) : 0 ≤ chV T n x ∧ chV T n x ≤ 126 := by
  unfold chV
  split
  · exact h x
  · decide
theorem sC_r {T : Int → Int} (h : ∀ j, 0 ≤ T j ∧ T j ≤ 126) (n d a w : Int) : 0 ≤ sC T n d a w ∧ sC T n d a w ≤ 126 := by
  unfold sC
  split
  · exact chV_r h n _
  · decide
