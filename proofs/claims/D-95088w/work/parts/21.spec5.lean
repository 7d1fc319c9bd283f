/-! ===== covers, warnings ===== -/
def bitV (a c : Int) : Int := a / p2 c % 2
theorem bitV_r (a c : Int) : bitV a c = 0 ∨ bitV a c = 1 := by
  unfold bitV
  omega
/-- a routine behind a cover more -/
def covS (cp : Int → Int) (set c : Int) (R : St) : St :=
  upd2 (upd2 (upd2 (upd2 R 0 (cp (4 * c)) (if (if bitV set c = 1 then cp (4 * c + 1) else -4) = 0 then 10 * cp (4 * c + 2) + 6 else R 0 (cp (4 * c)))) 2 (cp (4 * c)) (if (if bitV set c = 1 then cp (4 * c + 1) else -4) = 1 then cp (4 * c + 2) else R 2 (cp (4 * c)))) 3 (cp (4 * c)) (if (if bitV set c = 1 then cp (4 * c + 1) else -4) = 2 then cp (4 * c + 2) else R 3 (cp (4 * c)))) 4 (cp (4 * c)) (if (if bitV set c = 1 then cp (4 * c + 1) else -4) = 3 then 1 else R 4 (cp (4 * c)))
noncomputable def appV (R : St) (cp : Int → Int) (set c : Int) : St := itV R (covS cp set) c
theorem appV_0 (R : St) (cp : Int → Int) (set : Int) : R = appV R cp set 0 := (itV_0 _ _).symm
theorem appV_s (R : St) (cp : Int → Int) (set : Int) {c : Int} (h : 0 ≤ c) : appV R cp set (c + 1) = covS cp set c (appV R cp set c) := itV_s _ _ h
noncomputable def swV (R V : St) (n : Int) (cp : Int → Int) (nc set : Int) : Int := seesAllV (appV R cp set nc) V n 1 16
theorem covS_r {cp : Int → Int} {set c : Int} {R : St} (h : RB R) (hc : ∀ j, 0 ≤ cp j ∧ cp j ≤ (if j % 4 = 0 then 15 else if j % 4 = 3 then 99 else 3)) : RB (covS cp set c R) := by
  have h2 := hc (4 * c + 2)
  rw [if_neg (by omega), if_neg (by omega)] at h2
  obtain ⟨r0, r1, r2, r3, r4, r5, r6⟩ := h
  unfold covS
  refine ⟨fun b => ?_, fun b => ?_, fun b => ?_, fun b => ?_, fun b => ?_, fun b => ?_, fun b => ?_⟩
  · rw [upd2_k (by decide), upd2_k (by decide), upd2_k (by decide), upd2_s]
    have a := r0 b
    have a2 := r0 (cp (4 * c))
    (repeat' split) <;> omega
  · rw [upd2_k (by decide), upd2_k (by decide), upd2_k (by decide), upd2_k (by decide)]
    exact r1 b
  · rw [upd2_k (by decide), upd2_k (by decide), upd2_s, upd2_k (by decide)]
    have a := r2 b
    have a2 := r2 (cp (4 * c))
    (repeat' split) <;> omega
  · rw [upd2_k (by decide), upd2_s, upd2_k (by decide), upd2_k (by decide)]
    have a := r3 b
    have a2 := r3 (cp (4 * c))
    (repeat' split) <;> omega
  · rw [upd2_s, upd2_k (by decide), upd2_k (by decide), upd2_k (by decide)]
    have a := r4 b
    have a2 := r4 (cp (4 * c))
    (repeat' split) <;> omega
  · rw [upd2_k (by decide), upd2_k (by decide), upd2_k (by decide), upd2_k (by decide)]
    exact r5 b
  · rw [upd2_k (by decide), upd2_k (by decide), upd2_k (by decide), upd2_k (by decide)]
    exact r6 b
theorem appV_r {cp : Int → Int} {set : Int} {R : St} (h : RB R) (hc : ∀ j, 0 ≤ cp j ∧ cp j ≤ (if j % 4 = 0 then 15 else if j % 4 = 3 then 99 else 3)) (c : Int) : RB (appV R cp set c) := itV_ind RB h (fun i x _ hx => covS_r hx hc) c
theorem swV_r {R V : St} {n : Int} {cp : Int → Int} (h : RB R) (hv : VB V) (hn : 0 ≤ n ∧ n ≤ 8) (hc : ∀ j, 0 ≤ cp j ∧ cp j ≤ (if j % 4 = 0 then 15 else if j % 4 = 3 then 99 else 3)) (nc set : Int) : 0 ≤ swV R V n cp nc set ∧ swV R V n cp nc set ≤ 128000 := seesAllV_r (appV_r h hc nc) hv (by decide) hn (by decide)
/-- the saved rows, and what is not touched: all entries outside of b..15 stand as in M -/
def appI (M Mw : St) (b : Int) : Prop := eqx [0, 2, 3, 4, 14, 15, 18] M Mw ∧ (∀ j, (j < 0 ∨ 16 ≤ j ∨ j < b) → Mw 0 j = M 0 j ∧ Mw 2 j = M 2 j ∧ Mw 3 j = M 3 j ∧ Mw 4 j = M 4 j) ∧ ∀ j, 0 ≤ j → j < 16 → Mw 18 j = M 0 j ∧ Mw 18 (16 + j) = M 2 j ∧ Mw 18 (32 + j) = M 3 j ∧ Mw 18 (48 + j) = M 4 j
def kepI (M Mw : St) (b : Int) : Prop := eqx [18] M Mw ∧ ∀ j, 0 ≤ j → j < b → Mw 18 j = M 0 j ∧ Mw 18 (16 + j) = M 2 j ∧ Mw 18 (32 + j) = M 3 j ∧ Mw 18 (48 + j) = M 4 j
theorem kepI_0 (M : St) : kepI M M 0 := ⟨eqx.rf _ _, fun j h1 h2 => by omega⟩
theorem kepI_s {M Mw Ma Mb Mc Md : St} {b : Int} (hb : 0 ≤ b ∧ b < 16) (h : kepI M Mw b) (ea : Ma = upd2 Mw 18 b (M 0 b)) (eb : Mb = upd2 Ma 18 (16 + b) (M 2 b)) (ec : Mc = upd2 Mb 18 (32 + b) (M 3 b)) (ed : Md = upd2 Mc 18 (48 + b) (M 4 b)) : kepI M Md (b + 1) := by
  refine ⟨(((h.1.upd ea (by decide)).upd eb (by decide)).upd ec (by decide)).upd ed (by decide), fun j h1 h2 => ?_⟩
  rw [ed, ec, eb, ea]
  simp only [upd2_s]
  by_cases hj : j = b
  · subst hj
    refine ⟨?_, ?_, ?_, ?_⟩
    · rw [if_neg (by omega), if_neg (by omega), if_neg (by omega), if_pos rfl]
    · rw [if_neg (by omega), if_neg (by omega), if_pos rfl]
    · rw [if_neg (by omega), if_pos rfl]
    · rw [if_pos rfl]
  · obtain ⟨k1, k2, k3, k4⟩ := h.2 j h1 (by omega)
    refine ⟨?_, ?_, ?_, ?_⟩
    · rw [if_neg (by omega), if_neg (by omega), if_neg (by omega), if_neg (by omega)]; exact k1
    · rw [if_neg (by omega), if_neg (by omega), if_neg (by omega), if_neg (by omega)]; exact k2
    · rw [if_neg (by omega), if_neg (by omega), if_neg (by omega), if_neg (by omega)]; exact k3
    · rw [if_neg (by omega), if_neg (by omega), if_neg (by omega), if_neg (by omega)]; exact k4
theorem kepI_end {M Mw : St} (h : kepI M Mw 16) : appI M Mw 0 := ⟨h.1.mono (by decide), fun j _ => ⟨congrFun (h.1 0 (by decide)) j, congrFun (h.1 2 (by decide)) j, congrFun (h.1 3 (by decide)) j, congrFun (h.1 4 (by decide)) j⟩, fun j h1 h2 => h.2 j h1 h2⟩
theorem appI_s {M Mw Ma Mb Mc Md : St} {z v0 v1 v2 v3 : Int} (hz : 0 ≤ z ∧ z ≤ 15) (h : appI M Mw 0) (ea : Ma = upd2 Mw 0 z v0) (eb : Mb = upd2 Ma 2 z v1) (ec : Mc = upd2 Mb 3 z v2) (ed : Md = upd2 Mc 4 z v3) : appI M Md 0 := by
  refine ⟨(((h.1.upd ea (by decide)).upd eb (by decide)).upd ec (by decide)).upd ed (by decide), fun j hj => ?_, fun j h1 h2 => ?_⟩
  · obtain ⟨k1, k2, k3, k4⟩ := h.2.1 j hj
    rw [ed, ec, eb, ea]
    refine ⟨?_, ?_, ?_, ?_⟩
    · rw [upd2_k (by decide), upd2_k (by decide), upd2_k (by decide), upd2_n (by omega)]; exact k1
    · rw [upd2_k (by decide), upd2_k (by decide), upd2_n (by omega), upd2_k (by decide)]; exact k2
    · rw [upd2_k (by decide), upd2_n (by omega), upd2_k (by decide), upd2_k (by decide)]; exact k3
    · rw [upd2_n (by omega), upd2_k (by decide), upd2_k (by decide), upd2_k (by decide)]; exact k4
  · have e : Md 18 = Mw 18 := by rw [ed, upd2_k (by decide), ec, upd2_k (by decide), eb, upd2_k (by decide), ea, upd2_k (by decide)]
    rw [e]
    exact h.2.2 j h1 h2
theorem appI_x {M Mw Me : St} {b : Int} (h : appI M Mw b) (x : eqx [14, 15] Mw Me) : appI M Me b := by
  refine ⟨h.1.tr (x.mono (by decide)), fun j hj => ?_, fun j h1 h2 => ?_⟩
  · rw [x 0 (by decide), x 2 (by decide), x 3 (by decide), x 4 (by decide)]
    exact h.2.1 j hj
  · rw [x 18 (by decide)]
    exact h.2.2 j h1 h2
theorem appI_t {M Mw Ma Mb Mc Md : St} {b : Int} (hb : 0 ≤ b ∧ b < 16) (h : appI M Mw b) (ea : Ma = upd2 Mw 0 b (Mw 18 b)) (eb : Mb = upd2 Ma 2 b (Mw 18 (16 + b))) (ec : Mc = upd2 Mb 3 b (Mw 18 (32 + b))) (ed : Md = upd2 Mc 4 b (Mw 18 (48 + b))) : appI M Md (b + 1) := by
  obtain ⟨q1, q2, q3, q4⟩ := h.2.2 b hb.1 hb.2
  refine ⟨(((h.1.upd ea (by decide)).upd eb (by decide)).upd ec (by decide)).upd ed (by decide), fun j hj => ?_, fun j h1 h2 => ?_⟩
  · rw [ed, ec, eb, ea]
    by_cases hjb : j = b
    · subst hjb
      refine ⟨?_, ?_, ?_, ?_⟩
      · rw [upd2_k (by decide), upd2_k (by decide), upd2_k (by decide), upd2_e]; exact q1
      · rw [upd2_k (by decide), upd2_k (by decide), upd2_e]; exact q2
      · rw [upd2_k (by decide), upd2_e]; exact q3
      · rw [upd2_e]; exact q4
    · obtain ⟨k1, k2, k3, k4⟩ := h.2.1 j (by omega)
      refine ⟨?_, ?_, ?_, ?_⟩
      · rw [upd2_k (by decide), upd2_k (by decide), upd2_k (by decide), upd2_n hjb]; exact k1
      · rw [upd2_k (by decide), upd2_k (by decide), upd2_n hjb, upd2_k (by decide)]; exact k2
      · rw [upd2_k (by decide), upd2_n hjb, upd2_k (by decide), upd2_k (by decide)]; exact k3
      · rw [upd2_n hjb, upd2_k (by decide), upd2_k (by decide), upd2_k (by decide)]; exact k4
  · have e : Md 18 = Mw 18 := by rw [ed, upd2_k (by decide), ec, upd2_k (by decide), eb, upd2_k (by decide), ea, upd2_k (by decide)]
    rw [e]
    exact h.2.2 j h1 h2
theorem appI_end {M Mw : St} (h : appI M Mw 16) : eqx [14, 15, 18] M Mw := by
  intro k hk
  by_cases h5 : k ∈ [0, 2, 3, 4, 14, 15, 18]
  · simp only [List.mem_cons, List.not_mem_nil, or_false] at h5 hk
    funext j
    obtain ⟨k1, k2, k3, k4⟩ := h.2.1 j (by omega)
    rcases (show k = 0 ∨ k = 2 ∨ k = 3 ∨ k = 4 by omega) with rfl | rfl | rfl | rfl
    · exact k1
    · exact k2
    · exact k3
    · exact k4
  · exact h.1 k h5
theorem andn_all : ∀ n : Nat, n < 9 → ∀ c : Nat, c < n → iv (((2 ^ n : Nat) : Int) - 1) &&& (iv ((2 ^ c : Nat) : Int) ^^^ iv (-1)) = iv (((2 ^ n : Nat) : Int) - 1 - ((2 ^ c : Nat) : Int)) := by decide +kernel
theorem andn_iv {n c : Int} (hn : 0 ≤ n ∧ n ≤ 8) (hc : 0 ≤ c ∧ c ≤ n - 1) : iv (p2 n - 1) &&& (iv (p2 c) ^^^ iv (-1)) = iv (p2 n - 1 - p2 c) := by
  obtain ⟨k, rfl⟩ : ∃ k : Nat, n = (k : Int) := ⟨n.toNat, by omega⟩
  obtain ⟨j, rfl⟩ : ∃ j : Nat, c = (j : Int) := ⟨c.toNat, by omega⟩
  exact andn_all k (by omega) j (by omega)
theorem p2_mono {a b : Int} (h : 0 ≤ a ∧ a ≤ b) : p2 a ≤ p2 b := by
  have : 2 ^ a.toNat ≤ 2 ^ b.toNat := Nat.pow_le_pow_right (by decide) (by omega)
  unfold p2
  omega
abbrev doesOK (nc cover what : Int) : Prop := (0 ≤ cover ∧ cover ≤ nc - 1) ∧ 0 ≤ what ∧ what ≤ 1
noncomputable def opDoes (R V : St) (n : Int) (cp : Int → Int) (nc cover what : Int) : Int := if doesOK nc cover what then (if what = 0 then swV R V n cp nc 0 - swV R V n cp nc (p2 cover) else swV R V n cp nc (p2 nc - 1 - p2 cover) - swV R V n cp nc (p2 nc - 1)) else -100001
noncomputable def costV (cp : Int → Int) (set c : Int) : Int := itV 0 (fun c x => x + (if bitV set c = 1 then cp (4 * c + 3) else 0)) c
theorem costV_0 (cp : Int → Int) (set : Int) : (0 : Int) = costV cp set 0 := (itV_0 _ _).symm
theorem costV_s (cp : Int → Int) (set : Int) {c : Int} (h : 0 ≤ c) : costV cp set (c + 1) = costV cp set c + (if bitV set c = 1 then cp (4 * c + 3) else 0) := itV_s _ _ h
theorem costV_r {cp : Int → Int} (hc : ∀ j, 0 ≤ cp j ∧ cp j ≤ (if j % 4 = 0 then 15 else if j % 4 = 3 then 99 else 3)) (set : Int) {c : Int} (h : 0 ≤ c) : 0 ≤ costV cp set c ∧ costV cp set c ≤ 99 * c := itV_sum (f := fun c => if bitV set c = 1 then cp (4 * c + 3) else 0) (fun j => by have := hc (4 * j + 3); split <;> (split at this <;> first | omega | (split at this <;> omega))) h
/-- the best set so far: set, seen, cost -/
def buyS (sees cost : Int → Int) (coin set : Int) (x : Int × Int × Int) : Int × Int × Int := if coin < cost set then x else if set = 0 then (set, sees set, cost set) else if sees set < x.2.1 then (set, sees set, cost set) else if sees set = x.2.1 then (if cost set < x.2.2 then (set, sees set, cost set) else x) else x
noncomputable def buyV (sees cost : Int → Int) (coin set : Int) : Int × Int × Int := itV ((0 : Int), (0 : Int), (0 : Int)) (buyS sees cost coin) set
theorem buyV_0 (sees cost : Int → Int) (coin : Int) : ((0 : Int), (0 : Int), (0 : Int)) = buyV sees cost coin 0 := (itV_0 _ _).symm
theorem buyV_s (sees cost : Int → Int) (coin : Int) {set : Int} (h : 0 ≤ set) : buyV sees cost coin (set + 1) = buyS sees cost coin set (buyV sees cost coin set) := itV_s _ _ h
noncomputable def boughtV (R V : St) (n : Int) (cp : Int → Int) (nc coin : Int) : Int × Int × Int := buyV (fun set => swV R V n cp nc set) (fun set => costV cp set nc) coin (p2 nc)
noncomputable def opBought (R V : St) (n : Int) (cp : Int → Int) (nc coin what : Int) : Int := if (0 ≤ coin ∧ coin ≤ 999) ∧ 0 ≤ what ∧ what ≤ 2 then (if what = 0 then (boughtV R V n cp nc coin).1 else if what = 1 then (boughtV R V n cp nc coin).2.1 else (boughtV R V n cp nc coin).2.2) else -1
/-- the kinds 0 of the watchers lo..hi-1 as 1 -/
def markM (M : St) (lo hi : Int) : St := fun k j => if k = 8 ∧ j % 3 = 1 ∧ 3 * lo ≤ j ∧ j < 3 * hi ∧ M 8 j = 0 then 1 else M k j
theorem markM_0 (M : St) (i : Int) : markM M i i = M := by
  funext k j
  exact if_neg (by omega)
theorem markM_x (M : St) (lo hi : Int) : eqx [8] M (markM M lo hi) := by
  intro k hk
  funext j
  exact if_neg (fun h => hk (by rw [h.1]; decide))
theorem markM_at (M : St) {lo hi w : Int} : markM M lo hi 8 (3 * w + 1) = if lo ≤ w ∧ w < hi ∧ M 8 (3 * w + 1) = 0 then 1 else M 8 (3 * w + 1) := by
  unfold markM
  by_cases h : lo ≤ w ∧ w < hi ∧ M 8 (3 * w + 1) = 0
  · rw [if_pos h, if_pos ⟨rfl, by omega, by omega, by omega, h.2.2⟩]
  · rw [if_neg h, if_neg (fun q => h ⟨by omega, by omega, q.2.2.2.2⟩)]
theorem markM_s1 (M : St) {i : Int} (hi : 0 ≤ i) (h : M 8 (3 * i + 1) = 0) : upd2 (markM M 0 i) 8 (3 * i + 1) 1 = markM M 0 (i + 1) := by
  funext k j
  unfold upd2 markM
  by_cases hk : k = 8
  · subst hk
    rw [if_pos rfl]
    by_cases hj : j = 3 * i + 1
    · rw [if_pos hj, if_pos ⟨rfl, by omega, by omega, by omega, by rw [hj]; exact h⟩]
    · rw [if_neg hj]
      by_cases h2 : 8 = 8 ∧ j % 3 = 1 ∧ 3 * 0 ≤ j ∧ j < 3 * i ∧ M 8 j = 0
      · rw [if_pos h2, if_pos ⟨rfl, h2.2.1, h2.2.2.1, by omega, h2.2.2.2.2⟩]
      · rw [if_neg h2, if_neg (fun q => h2 ⟨rfl, q.2.1, q.2.2.1, by omega, q.2.2.2.2⟩)]
  · rw [if_neg hk, if_neg (fun q => hk q.1), if_neg (fun q => hk q.1)]
theorem markM_s2 (M : St) {i : Int} (hi : 0 ≤ i) (h : ¬ M 8 (3 * i + 1) = 0) : markM M 0 i = markM M 0 (i + 1) := by
  funext k j
  unfold markM
  by_cases h2 : k = 8 ∧ j % 3 = 1 ∧ 3 * 0 ≤ j ∧ j < 3 * i ∧ M 8 j = 0
  · rw [if_pos h2, if_pos ⟨h2.1, h2.2.1, h2.2.2.1, by omega, h2.2.2.2.2⟩]
  · rw [if_neg h2, if_neg]
    intro q
    by_cases hj : j = 3 * i + 1
    · exact h (by rw [← hj]; exact q.2.2.2.2)
    · exact h2 ⟨q.1, q.2.1, q.2.2.1, by omega, q.2.2.2.2⟩
theorem markM_t (M : St) {i n v : Int} (hi : 0 ≤ i ∧ i < n) (hv : v = M 8 (3 * i + 1)) : upd2 (markM M i n) 8 (3 * i + 1) v = markM M (i + 1) n := by
  funext k j
  unfold upd2 markM
  by_cases hk : k = 8
  · subst hk
    rw [if_pos rfl]
    by_cases hj : j = 3 * i + 1
    · rw [if_pos hj, if_neg (by omega), hj, hv]
    · rw [if_neg hj]
      by_cases h2 : 8 = 8 ∧ j % 3 = 1 ∧ 3 * i ≤ j ∧ j < 3 * n ∧ M 8 j = 0
      · rw [if_pos h2, if_pos ⟨rfl, h2.2.1, by omega, h2.2.2.2.1, h2.2.2.2.2⟩]
      · rw [if_neg h2, if_neg (fun q => h2 ⟨rfl, q.2.1, by omega, q.2.2.2.1, q.2.2.2.2⟩)]
  · rw [if_neg hk, if_neg (fun q => hk q.1), if_neg (fun q => hk q.1)]
noncomputable def maskV (f : Int → Int) (i : Int) : Int := itV 0 (fun w x => if f w = 0 then x + p2 w else x) i
theorem maskV_0 (f : Int → Int) : (0 : Int) = maskV f 0 := (itV_0 _ _).symm
theorem maskV_s (f : Int → Int) {i : Int} (h : 0 ≤ i) : maskV f (i + 1) = if f i = 0 then maskV f i + p2 i else maskV f i := itV_s _ _ h
theorem maskV_r (f : Int → Int) {i : Int} (h : 0 ≤ i) : 0 ≤ maskV f i ∧ maskV f i < p2 i := by
  obtain ⟨k, rfl⟩ : ∃ k : Nat, i = (k : Int) := ⟨i.toNat, by omega⟩
  induction k with
  | zero => rw [show ((0 : Nat) : Int) = 0 from rfl, ← maskV_0]; decide
  | succ k ih =>
    have ih := ih (by omega)
    rw [show ((k + 1 : Nat) : Int) = (k : Int) + 1 by omega, maskV_s _ (by omega), p2_s (by omega)]
    split <;> omega
theorem bit_lo {a c w : Int} (hw : 0 ≤ w ∧ w < c) : bitV (a + p2 c) w = bitV a w := by
  have e : p2 c = p2 w * (2 * p2 (c - w - 1)) := by
    obtain ⟨k, rfl⟩ : ∃ k : Nat, w = (k : Int) := ⟨w.toNat, by omega⟩
    obtain ⟨j, hj⟩ : ∃ j : Nat, c - (k : Int) - 1 = (j : Int) := ⟨(c - (k : Int) - 1).toNat, by omega⟩
    rw [hj, show c = ((k + (1 + j) : Nat) : Int) by omega, p2_nat, p2_nat, p2_nat, Nat.pow_add, Nat.pow_add, Int.natCast_mul, Int.natCast_mul]
    rfl
  unfold bitV
  rw [e, Int.add_mul_ediv_left _ _ (show p2 w ≠ 0 by have := p2_pos w; omega)]
  omega
theorem bit_hi {a c : Int} (ha : 0 ≤ a ∧ a < p2 c) : bitV (a + p2 c) c = 1 ∧ bitV a c = 0 := by
  unfold bitV
  have h := p2_pos c
  have e1 : a / p2 c = 0 := Int.ediv_eq_zero_of_lt ha.1 ha.2
  constructor
  · rw [show a + p2 c = a + p2 c * 1 by omega, Int.add_mul_ediv_left _ _ (by omega), e1]
    rfl
  · rw [e1]
    rfl
theorem maskV_bit (f : Int → Int) {i w : Int} (hw : 0 ≤ w ∧ w < i) : bitV (maskV f i) w = if f w = 0 then 1 else 0 := by
  obtain ⟨k, rfl⟩ : ∃ k : Nat, i = (k : Int) := ⟨i.toNat, by omega⟩
  induction k with
  | zero => omega
  | succ k ih =>
    rw [show ((k + 1 : Nat) : Int) = (k : Int) + 1 by omega, maskV_s _ (by omega)]
    have hr := maskV_r f (i := (k : Int)) (by omega)
    by_cases h : w = (k : Int)
    · subst h
      split
      · exact (bit_hi hr).1
      · exact (bit_hi hr).2
    · have ih := ih (by omega)
      split
      · rw [bit_lo (by omega)]; exact ih
      · exact ih
theorem seesV_c {R V U : St} {beat k n : Int} (h : ∀ f w, 0 ≤ w → w < n → f ≤ 2 → V f w = U f w) : seesV R V beat k n = seesV R U beat k n := itV_congr (fun j x h1 h2 => by
  unfold seeV
  rw [h 0 j h1 h2 (by decide), h 1 j h1 h2 (by decide), h 2 j h1 h2 (by decide)])
theorem seesAtV_c {R V U : St} {beat k n : Int} (h : ∀ f w, 0 ≤ w → w < n → f ≤ 2 → V f w = U f w) : seesAtV R V n beat k = seesAtV R U n beat k := by
  unfold seesAtV
  rw [seesV_c h]
theorem seesAllV_c {R V U : St} {k n b : Int} (h : ∀ f w, 0 ≤ w → w < n → f ≤ 2 → V f w = U f w) : seesAllV R V n k b = seesAllV R U n k b := itV_congr (fun j x h1 h2 => by rw [seesAtV_c h])
/-- the watchers as if those of kind 0 were warned -/
def warnV (V : St) : St := fun f w => if f = 1 then (if V 1 w = 0 then 1 else V f w) else V f w
theorem pw_mark (M : St) (n : Int) : ∀ f w, 0 ≤ w → w < n → f ≤ 2 → pw (markM M 0 n) f w = warnV (pw M) f w := by
  intro f w h1 h2 h3
  rcases (show f = 0 ∨ f = 1 ∨ f = 2 by omega) with rfl | rfl | rfl
  · have e : warnV (pw M) 0 w = pw M 0 w := if_neg (by decide)
    rw [e]
    exact if_neg (show ¬ (8 = 8 ∧ (3 * w) % 3 = 1 ∧ 3 * 0 ≤ 3 * w ∧ 3 * w < 3 * n ∧ M 8 (3 * w) = 0) by omega)
  · have e : warnV (pw M) 1 w = if pw M 1 w = 0 then 1 else pw M 1 w := if_pos rfl
    have e2 : pw (markM M 0 n) 1 w = if 0 ≤ w ∧ w < n ∧ M 8 (3 * w + 1) = 0 then 1 else M 8 (3 * w + 1) := markM_at M
    rw [e, e2]
    by_cases h : pw M 1 w = 0
    · rw [if_pos ⟨h1, h2, h⟩, if_pos h]
    · rw [if_neg (fun q => h q.2.2), if_neg h]
      rfl
  · have e : warnV (pw M) 2 w = pw M 2 w := if_neg (by decide)
    rw [e]
    exact if_neg (show ¬ (8 = 8 ∧ (3 * w + 2) % 3 = 1 ∧ 3 * 0 ≤ 3 * w + 2 ∧ 3 * w + 2 < 3 * n ∧ M 8 (3 * w + 2) = 0) by omega)
noncomputable def opWarning (R V : St) (n : Int) : Int := seesAllV R (warnV V) n 1 16 - seesAllV R V n 1 16
theorem buyS_keep {sees cost : Int → Int} {coin set b l c v : Int} (ev : v = cost set) (h : coin < v ∨ (¬ set = 0 ∧ ¬ sees set < l ∧ ¬ (sees set = l ∧ v < c))) : (b, l, c) = buyS sees cost coin set (b, l, c) := by
  unfold buyS
  rw [← ev]
  by_cases h1 : coin < v
  · rw [if_pos h1]
  · obtain ⟨a1, a2, a3⟩ : ¬ set = 0 ∧ ¬ sees set < l ∧ ¬ (sees set = l ∧ v < c) := by omega
    rw [if_neg h1, if_neg a1, if_neg a2]
    by_cases h2 : sees set = l
    · rw [if_pos h2, if_neg (fun q => a3 ⟨h2, q⟩)]
    · rw [if_neg h2]
theorem buyS_take {sees cost : Int → Int} {coin set b l c v : Int} (ev : v = cost set) (h1 : ¬ coin < v) (h : set = 0 ∨ sees set < l ∨ (sees set = l ∧ v < c)) : (set, sees set, v) = buyS sees cost coin set (b, l, c) := by
  unfold buyS
  rw [← ev, if_neg h1]
  by_cases h2 : set = 0
  · rw [if_pos h2]
  · rw [if_neg h2]
    by_cases h3 : sees set < l
    · rw [if_pos h3]
    · obtain ⟨a1, a2⟩ : sees set = l ∧ v < c := by omega
      rw [if_neg h3, if_pos a1, if_pos a2]
