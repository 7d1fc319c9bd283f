/-! ===== odds and what is seen ===== -/
def eqx (ks : List Nat) (M M1 : St) : Prop := ∀ k, k ∉ ks → M1 k = M k
theorem eqx.rf (ks : List Nat) (M : St) : eqx ks M M := fun _ _ => rfl
theorem eqx.tr {ks : List Nat} {M M1 M2 : St} (h1 : eqx ks M M1) (h2 : eqx ks M1 M2) : eqx ks M M2 := fun k hk => (h2 k hk).trans (h1 k hk)
theorem eqx.mono {ks js : List Nat} {M M1 : St} (h : eqx ks M M1) (hs : ∀ k ∈ ks, k ∈ js) : eqx js M M1 := fun k hk => h k (fun q => hk (hs k q))
theorem eqx.upd {ks : List Nat} {M M1 M2 : St} {k : Nat} {z v : Int} (h : eqx ks M M1) (e : M2 = upd2 M1 k z v) (hk : k ∈ ks) : eqx ks M M2 := fun k' hk' => by
  rw [e, upd2_k (fun q => hk' (by rw [q]; exact hk))]
  exact h k' hk'
theorem eqx.of {ks : List Nat} {M M2 : St} {k : Nat} {z v : Int} (e : M2 = upd2 M k z v) (hk : k ∈ ks) : eqx ks M M2 := (eqx.rf ks M).upd e hk
theorem rv_x {M M1 : St} (h : ∀ f, f ≤ 6 → M1 f = M f) : rv M1 = rv M := by
  funext f
  unfold rv
  by_cases hf : f ≤ 6
  · rw [if_pos hf, if_pos hf, h f hf]
  · rw [if_neg hf, if_neg hf]
theorem rv_eqx {ks : List Nat} {M M1 : St} (h : eqx ks M M1) (hk : ∀ f, f ≤ 6 → f ∉ ks) : rv M1 = rv M := rv_x (fun f hf => h f (hk f hf))
theorem pw_x {M M1 : St} (h : M1 8 = M 8) : pw M1 = pw M := by
  funext f w
  unfold pw
  rw [h]
/-- what bounds a routine's table, and the watchers -/
def RB (R : St) : Prop := (∀ b, 0 ≤ R 0 b ∧ R 0 b ≤ 39) ∧ (∀ b, 0 ≤ R 1 b ∧ R 1 b ≤ 39) ∧ (∀ b, -1 ≤ R 2 b ∧ R 2 b ≤ 3) ∧ (∀ b, -1 ≤ R 3 b ∧ R 3 b ≤ 3) ∧ (∀ b, 0 ≤ R 4 b ∧ R 4 b ≤ 1) ∧ (∀ b, 0 ≤ R 5 b ∧ R 5 b ≤ 3) ∧ ∀ i, 0 ≤ R 6 i ∧ R 6 i ≤ 10
def VB (V : St) : Prop := ∀ f i, 0 ≤ V f i ∧ V f i ≤ 11
theorem RB_rv {M : St} (h : InvM M) : RB (rv M) := ⟨fun b => iM_0 h b, fun b => iM_1 h b, fun b => iM_2 h b, fun b => iM_3 h b, fun b => iM_4 h b, fun b => iM_5 h b, fun b => iM_6 h b⟩
theorem VB_pw {M : St} (h : InvM M) : VB (pw M) := fun f i => by
  unfold pw
  split
  · exact iM_8 h _
  · exact iM_8 h _
  · exact iM_8 h _
theorem mul_r {a b x y : Int} (ha : 0 ≤ a ∧ a ≤ x) (hb : 0 ≤ b ∧ b ≤ y) : 0 ≤ a * b ∧ a * b ≤ x * y := ⟨Int.mul_nonneg ha.1 hb.1, Int.mul_le_mul ha.2 hb.2 hb.1 (by omega)⟩
theorem pullV_r {R : St} (h : RB R) {kind doubt beat place k : Int} (hd : 0 ≤ doubt ∧ doubt ≤ 11) (hk : 1 ≤ k ∧ k ≤ 9) : 1 ≤ pullV R kind doubt beat place k ∧ pullV R kind doubt beat place k ≤ 121 := by
  obtain ⟨h0, h1, h2, h3, h4, h5, h6⟩ := h
  have a1 : 0 ≤ (if R 0 beat ≤ 0 then 0 else if R 0 beat / 10 = fromV kind place then R 0 beat % 10 else 0) ∧ (if R 0 beat ≤ 0 then 0 else if R 0 beat / 10 = fromV kind place then R 0 beat % 10 else 0) ≤ 9 := by
    have := h0 beat
    split
    · omega
    · split <;> omega
  have a2 : 0 ≤ (if R 2 beat = fromV kind place then R 6 0 else 0) ∧ (if R 2 beat = fromV kind place then R 6 0 else 0) ≤ 10 := by
    have := h6 0
    split <;> omega
  have a3 : 0 ≤ (if R 3 beat = fromV kind place then if kind = 2 then 0 else R 6 1 else 0) ∧ (if R 3 beat = fromV kind place then if kind = 2 then 0 else R 6 1 else 0) ≤ 10 := by
    have := h6 1
    split
    · split <;> omega
    · omega
  have a4 : 0 ≤ (if kind = 1 then if 2 ≤ fromV kind place then 0 else if R 2 beat = fromV kind place then 0 else doubt else 0) ∧ (if kind = 1 then if 2 ≤ fromV kind place then 0 else if R 2 beat = fromV kind place then 0 else doubt else 0) ≤ 11 := by
    split
    · split
      · omega
      · split <;> omega
    · omega
  have a5 : 0 ≤ (if R 1 beat ≤ 0 then 0 else if R 1 beat / 10 = place then R 6 3 * (k - 1) else 0) ∧ (if R 1 beat ≤ 0 then 0 else if R 1 beat / 10 = place then R 6 3 * (k - 1) else 0) ≤ 80 := by
    have h9 := mul_r (h6 3) (b := k - 1) (y := 8) (by omega)
    split
    · omega
    · split <;> omega
  unfold pullV
  omega
def sizV (R : St) (seat beat : Int) : Int := if 1 ≤ R 1 beat % 10 - seat / 4 then R 1 beat % 10 - seat / 4 else 1
noncomputable def allV (R : St) (kind doubt beat k n : Int) : Int := itV 0 (fun q x => x + pullV R kind doubt beat q k) n
theorem allV_0 (R : St) (kind doubt beat k : Int) : (0 : Int) = allV R kind doubt beat k 0 := (itV_0 _ _).symm
theorem allV_s (R : St) (kind doubt beat k : Int) {n : Int} (h : 0 ≤ n) : allV R kind doubt beat k (n + 1) = allV R kind doubt beat k n + pullV R kind doubt beat n k := itV_s _ _ h
theorem allV_4 (R : St) (kind doubt beat k : Int) : allV R kind doubt beat k 4 = pullV R kind doubt beat 0 k + pullV R kind doubt beat 1 k + pullV R kind doubt beat 2 k + pullV R kind doubt beat 3 k := by
  have e1 := allV_s R kind doubt beat k (n := 0) (by omega)
  have e2 := allV_s R kind doubt beat k (n := 1) (by omega)
  have e3 := allV_s R kind doubt beat k (n := 2) (by omega)
  have e4 := allV_s R kind doubt beat k (n := 3) (by omega)
  have e0 := allV_0 R kind doubt beat k
  rw [show (3 : Int) + 1 = 4 from rfl] at e4
  rw [show (2 : Int) + 1 = 3 from rfl] at e3
  rw [show (1 : Int) + 1 = 2 from rfl] at e2
  rw [show (0 : Int) + 1 = 1 from rfl] at e1
  omega
theorem allV_r {R : St} (h : RB R) {kind doubt beat k : Int} (hd : 0 ≤ doubt ∧ doubt ≤ 11) (hk : 1 ≤ k ∧ k ≤ 9) : 4 ≤ allV R kind doubt beat k 4 ∧ allV R kind doubt beat k 4 ≤ 484 ∧ ∀ q, 0 ≤ q → q ≤ 3 → pullV R kind doubt beat q k ≤ allV R kind doubt beat k 4 := by
  have e := allV_4 R kind doubt beat k
  have p0 := pullV_r h (kind := kind) (beat := beat) (place := 0) hd hk
  have p1 := pullV_r h (kind := kind) (beat := beat) (place := 1) hd hk
  have p2 := pullV_r h (kind := kind) (beat := beat) (place := 2) hd hk
  have p3 := pullV_r h (kind := kind) (beat := beat) (place := 3) hd hk
  refine ⟨by omega, by omega, fun q h1 h2 => ?_⟩
  rcases (show q = 0 ∨ q = 1 ∨ q = 2 ∨ q = 3 by omega) with rfl | rfl | rfl | rfl <;> omega
noncomputable def seenV (R : St) (seat kind doubt beat k : Int) : Int := pullV R kind doubt beat (R 1 beat / 10) k * heedV R kind (beat + 1) * sizV R seat beat + (if sizV R seat beat ≤ 6 then 0 else (allV R kind doubt beat k 4 - pullV R kind doubt beat (R 1 beat / 10) k) * heedV R kind (beat + 1) * (sizV R seat beat - 6))
noncomputable def aboveV (R : St) (seat kind doubt beat k : Int) : Int := if sightV seat (R 1 beat / 10) (R 5 0) then seenV R seat kind doubt beat k else 0
noncomputable def belowV (R : St) (kind doubt beat k : Int) : Int := 81 * allV R kind doubt beat k 4
theorem sizV_r {R : St} (h : RB R) {seat beat : Int} (hs : 0 ≤ seat) : 1 ≤ sizV R seat beat ∧ sizV R seat beat ≤ 9 := by
  have := h.2.1 beat
  unfold sizV
  split <;> omega
theorem seenV_r {R : St} (h : RB R) {seat kind doubt beat k : Int} (hs : 0 ≤ seat) (hd : 0 ≤ doubt ∧ doubt ≤ 11) (hk : 1 ≤ k ∧ k ≤ 9) : 0 ≤ seenV R seat kind doubt beat k ∧ seenV R seat kind doubt beat k ≤ belowV R kind doubt beat k := by
  have hz := sizV_r h (beat := beat) hs
  have hh := heedV_r0 (h.2.2.2.2.2.2 2).1 kind (beat + 1)
  have hb := h.2.1 beat
  obtain ⟨hA1, hA2, hA3⟩ := allV_r h (kind := kind) (beat := beat) hd hk
  have hA4 := hA3 (R 1 beat / 10) (by omega) (by omega)
  have hp := pullV_r h (kind := kind) (beat := beat) (place := R 1 beat / 10) hd hk
  unfold seenV belowV
  generalize allV R kind doubt beat k 4 = a at *
  generalize pullV R kind doubt beat (R 1 beat / 10) k = o at *
  generalize heedV R kind (beat + 1) = g at *
  generalize sizV R seat beat = z at *
  have e1 := mul_r (a := o) (b := g) (x := o) (y := 9) (by omega) hh
  have e2 := mul_r (a := o * g) (b := z) (x := o * 9) (y := 9) e1 (by omega)
  split
  · omega
  · have e3 := mul_r (a := a - o) (b := g) (x := a - o) (y := 9) (by omega) hh
    have e4 := mul_r (a := (a - o) * g) (b := z - 6) (x := (a - o) * 9) (y := 3) e3 (by omega)
    omega
theorem aboveV_r {R : St} (h : RB R) {seat kind doubt beat k : Int} (hs : 0 ≤ seat) (hd : 0 ≤ doubt ∧ doubt ≤ 11) (hk : 1 ≤ k ∧ k ≤ 9) : 0 ≤ aboveV R seat kind doubt beat k ∧ aboveV R seat kind doubt beat k ≤ belowV R kind doubt beat k := by
  have h1 := seenV_r h (kind := kind) (beat := beat) hs hd hk
  unfold aboveV
  split
  · exact h1
  · omega
theorem belowV_r {R : St} (h : RB R) {kind doubt beat k : Int} (hd : 0 ≤ doubt ∧ doubt ≤ 11) (hk : 1 ≤ k ∧ k ≤ 9) : 324 ≤ belowV R kind doubt beat k ∧ belowV R kind doubt beat k ≤ 39204 := by
  have := allV_r h (kind := kind) (beat := beat) hd hk
  unfold belowV
  omega
noncomputable def seeV (R V : St) (beat k w : Int) : Int := aboveV R (V 0 w) (V 1 w) (V 2 w) beat k * 1000 / belowV R (V 1 w) (V 2 w) beat k
theorem seeV_r {R V : St} (h : RB R) (hv : VB V) {beat k : Int} (hk : 1 ≤ k ∧ k ≤ 9) (w : Int) : 0 ≤ seeV R V beat k w ∧ seeV R V beat k w ≤ 1000 := by
  have h1 := aboveV_r h (seat := V 0 w) (kind := V 1 w) (doubt := V 2 w) (beat := beat) (hv 0 w).1 (hv 2 w) hk
  have h2 := belowV_r h (kind := V 1 w) (doubt := V 2 w) (beat := beat) (hv 2 w) hk
  unfold seeV
  refine ⟨Int.ediv_nonneg (by omega) (by omega), ?_⟩
  exact Int.ediv_le_of_le_mul (by omega) (by omega)
noncomputable def seesV (R V : St) (beat k n : Int) : Int := itV 0 (fun w x => x + seeV R V beat k w) n
theorem seesV_0 (R V : St) (beat k : Int) : (0 : Int) = seesV R V beat k 0 := (itV_0 _ _).symm
theorem seesV_s (R V : St) (beat k : Int) {n : Int} (h : 0 ≤ n) : seesV R V beat k (n + 1) = seesV R V beat k n + seeV R V beat k n := itV_s _ _ h
theorem itV_sum {f : Int → Int} {c : Int} (h : ∀ j, 0 ≤ f j ∧ f j ≤ c) {n : Int} (hn : 0 ≤ n) : 0 ≤ itV 0 (fun w x => x + f w) n ∧ itV 0 (fun w x => x + f w) n ≤ c * n := by
  obtain ⟨k, rfl⟩ : ∃ k : Nat, n = (k : Int) := ⟨n.toNat, by omega⟩
  induction k with
  | zero =>
    rw [show ((0 : Nat) : Int) = 0 from rfl, itV_0]
    omega
  | succ k ih =>
    have ih := ih (by omega)
    rw [show ((k + 1 : Nat) : Int) = (k : Int) + 1 by omega, itV_s _ _ (by omega), Int.mul_add]
    have := h (k : Int)
    omega
theorem seesV_r {R V : St} (h : RB R) (hv : VB V) {beat k n : Int} (hk : 1 ≤ k ∧ k ≤ 9) (hn : 0 ≤ n) : 0 ≤ seesV R V beat k n ∧ seesV R V beat k n ≤ 1000 * n := itV_sum (seeV_r h hv hk) hn
/-- of a slip: none where there is none -/
noncomputable def seesAtV (R V : St) (n beat k : Int) : Int := if R 1 beat ≤ 0 then 0 else seesV R V beat k n
theorem seesAtV_r {R V : St} (h : RB R) (hv : VB V) {beat k n : Int} (hk : 1 ≤ k ∧ k ≤ 9) (hn : 0 ≤ n ∧ n ≤ 8) : 0 ≤ seesAtV R V n beat k ∧ seesAtV R V n beat k ≤ 8000 := by
  have := seesV_r h hv (beat := beat) hk hn.1
  unfold seesAtV
  split <;> omega
noncomputable def seesAllV (R V : St) (n k b : Int) : Int := itV 0 (fun b x => x + seesAtV R V n b k) b
theorem seesAllV_0 (R V : St) (n k : Int) : (0 : Int) = seesAllV R V n k 0 := (itV_0 _ _).symm
theorem seesAllV_s (R V : St) (n k : Int) {b : Int} (h : 0 ≤ b) : seesAllV R V n k (b + 1) = seesAllV R V n k b + seesAtV R V n b k := itV_s _ _ h
theorem seesAllV_r {R V : St} (h : RB R) (hv : VB V) {k n b : Int} (hk : 1 ≤ k ∧ k ≤ 9) (hn : 0 ≤ n ∧ n ≤ 8) (hb : 0 ≤ b ∧ b ≤ 16) : 0 ≤ seesAllV R V n k b ∧ seesAllV R V n k b ≤ 128000 := by
  have := itV_sum (f := fun b => seesAtV R V n b k) (c := 8000) (fun j => seesAtV_r h hv hk hn) hb.1
  unfold seesAllV
  omega
/-- Euclid's steps -/
theorem gcd_step (a b : Int) : Int.gcd b (a % b) = Int.gcd a b := by
  have h := Int.gcd_add_mul_right_right b (a % b) (a / b)
  rw [Int.mul_comm (a / b) b, Int.emod_add_mul_ediv] at h
  rw [Int.gcd_comm a b]
  exact h.symm
def gcdV (a b : Int) : Int := (Int.gcd a b : Int)
theorem gcdV_step (a b : Int) : gcdV b (a % b) = gcdV a b := by
  unfold gcdV
  rw [gcd_step]
theorem gcdV_0 {a : Int} (h : 0 ≤ a) : gcdV a 0 = a := by
  unfold gcdV
  rw [Int.gcd_zero]
  omega
theorem gcdV_pos (a : Int) {b : Int} (h : b ≠ 0) : 0 < gcdV a b := by
  unfold gcdV
  have := Int.gcd_pos_of_ne_zero_right a h
  omega
abbrev oddsOK (n watcher beat k part : Int) : Prop := (0 ≤ watcher ∧ watcher ≤ n - 1) ∧ (0 ≤ beat ∧ beat ≤ 15) ∧ (1 ≤ k ∧ k ≤ 9) ∧ 0 ≤ part ∧ part ≤ 1
noncomputable def opOdds (R V : St) (n watcher beat k part : Int) : Int := if oddsOK n watcher beat k part then (if R 1 beat = 0 then -2 else (if part = 0 then aboveV R (V 0 watcher) (V 1 watcher) (V 2 watcher) beat k else belowV R (V 1 watcher) (V 2 watcher) beat k) / gcdV (aboveV R (V 0 watcher) (V 1 watcher) (V 2 watcher) beat k) (belowV R (V 1 watcher) (V 2 watcher) beat k)) else -1
noncomputable def opSees (R V : St) (n beat k : Int) : Int := if (-1 ≤ beat ∧ beat ≤ 15) ∧ 1 ≤ k ∧ k ≤ 9 then (if beat < 0 then seesAllV R V n k 16 else if R 1 beat = 0 then -2 else seesAtV R V n beat k) else -1
/-- the largest k below n with no more than most, from above -/
noncomputable def oftenV (R V : St) (n most : Int) : Int := itV 0 (fun j x => if seesAllV R V n (j + 1) 16 ≤ most then j + 1 else x) 9
noncomputable def opOften (R V : St) (n most : Int) : Int := if 0 ≤ most ∧ most ≤ 99999 then oftenV R V n most else -1
noncomputable def leftV (R V : St) (n beat b : Int) : Int := if 0 < 10 - R 6 4 * (beat - b) then seesAtV R V n b 1 * (10 - R 6 4 * (beat - b)) / 10 else 0
noncomputable def shownAtV (R V : St) (n beat b : Int) : Int := itV 0 (fun b x => x + leftV R V n beat b) b
theorem shownAtV_0 (R V : St) (n beat : Int) : (0 : Int) = shownAtV R V n beat 0 := (itV_0 _ _).symm
theorem shownAtV_s (R V : St) (n beat : Int) {b : Int} (h : 0 ≤ b) : shownAtV R V n beat (b + 1) = shownAtV R V n beat b + leftV R V n beat b := itV_s _ _ h
/-- the last slip at or below b, else d -/
noncomputable def lastV (R : St) (d b : Int) : Int := itV d (fun b x => if R 1 b ≤ 0 then x else b) b
theorem lastV_0 (R : St) (d : Int) : d = lastV R d 0 := (itV_0 _ _).symm
theorem lastV_s (R : St) (d : Int) {b : Int} (h : 0 ≤ b) : lastV R d (b + 1) = if R 1 b ≤ 0 then lastV R d b else b := itV_s _ _ h
/-- the first least of f from i0 on, in n steps: best and least; best -4 where there is none -/
noncomputable def bestV (f : Int → Int) (i0 n : Int) : Int × Int := itV ((-4 : Int), (0 : Int)) (fun j x => if x.1 < 0 then (i0 + j, f (i0 + j)) else if f (i0 + j) < x.2 then (i0 + j, f (i0 + j)) else x) n
theorem seesAtV_of {R V : St} {n beat k x : Int} (h1 : R 1 beat ≤ 0 → x = 0) (h2 : ¬ R 1 beat ≤ 0 → x = seesV R V beat k n) : x = seesAtV R V n beat k := by
  unfold seesAtV
  by_cases h : R 1 beat ≤ 0
  · rw [if_pos h]; exact h1 h
  · rw [if_neg h]; exact h2 h
