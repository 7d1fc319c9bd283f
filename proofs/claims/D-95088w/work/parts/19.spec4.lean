/-! ===== counts, stances, often, shown, quiet, fits, leave ===== -/
noncomputable def cntV (R : St) (what b : Int) : Int := if what = 1 ∧ 0 < R 1 b then 1 else if what = 2 ∧ 0 < R 0 b then 1 else if what = 3 ∧ 0 < R 4 b then 1 else 0
noncomputable def manyV (R : St) (what b : Int) : Int := itV 0 (fun b x => x + cntV R what b) b
theorem manyV_0 (R : St) (what : Int) : (0 : Int) = manyV R what 0 := (itV_0 _ _).symm
theorem manyV_s (R : St) (what : Int) {b : Int} (h : 0 ≤ b) : manyV R what (b + 1) = manyV R what b + cntV R what b := itV_s _ _ h
noncomputable def opCount (R : St) (n nc np what : Int) : Int := if 0 ≤ what ∧ what ≤ 5 then (if what = 0 then n else if what = 4 then nc else if what = 5 then np else manyV R what 16) else -1
def p2 (c : Int) : Int := ((2 ^ c.toNat : Nat) : Int)
theorem p2_nat (n : Nat) : p2 (n : Int) = ((2 ^ n : Nat) : Int) := rfl
theorem shl_all : ∀ n : Nat, n < 9 → iv 1 <<< (iv ((n : Nat) : Int) &&& 31) = iv ((2 ^ n : Nat) : Int) := by decide +kernel
theorem shl_iv {c : Int} (h : 0 ≤ c ∧ c ≤ 8) : iv 1 <<< (iv c &&& 31) = iv (p2 c) := by
  have := shl_all c.toNat (by omega)
  rw [toNat_c h.1] at this
  exact this
theorem or_all : ∀ n : Nat, n < 8 → ∀ a : Nat, a < 2 ^ n → iv ((a : Nat) : Int) ||| iv ((2 ^ n : Nat) : Int) = iv (((a + 2 ^ n : Nat)) : Int) := by decide +kernel
theorem or_iv {a c : Int} (hc : 0 ≤ c ∧ c ≤ 7) (ha : 0 ≤ a ∧ a < p2 c) : iv a ||| iv (p2 c) = iv (a + p2 c) := by
  have := or_all c.toNat (by omega) a.toNat (by unfold p2 at ha; omega)
  rw [toNat_c ha.1] at this
  rw [show p2 c = ((2 ^ c.toNat : Nat) : Int) from rfl, this]
  congr 1
  omega
theorem or_0 (a : Int) : iv a ||| iv 0 = iv a := by
  rw [iv_0]
  exact Int32.or_zero
theorem bit_all : ∀ n : Nat, n < 8 → ∀ a : Nat, a < 256 → (iv ((a : Nat) : Int) >>> (iv ((n : Nat) : Int) &&& 31)) &&& iv 1 = iv ((a / 2 ^ n % 2 : Nat) : Int) := by decide +kernel
theorem p2_s {c : Int} (h : 0 ≤ c) : p2 (c + 1) = 2 * p2 c := by
  unfold p2
  rw [toNat_s h, Nat.pow_succ]
  omega
theorem p2_pos (c : Int) : 0 < p2 c := by
  unfold p2
  have := Nat.pow_pos (n := c.toNat) (show 0 < 2 by decide)
  omega
theorem p2_0 : p2 0 = 1 := rfl
theorem p2_le {c : Int} (h : 0 ≤ c ∧ c ≤ 8) : p2 c ≤ 256 := by
  have : 2 ^ c.toNat ≤ 2 ^ 8 := Nat.pow_le_pow_right (by decide) (by omega)
  unfold p2
  omega
theorem bit_iv {a c : Int} (hc : 0 ≤ c ∧ c ≤ 7) (ha : 0 ≤ a ∧ a ≤ 255) : (iv a >>> (iv c &&& 31)) &&& iv 1 = iv (a / p2 c % 2) := by
  obtain ⟨n, rfl⟩ : ∃ n : Nat, a = (n : Int) := ⟨a.toNat, by omega⟩
  obtain ⟨k, rfl⟩ : ∃ k : Nat, c = (k : Int) := ⟨c.toNat, by omega⟩
  rw [bit_all k (by omega) n (by omega), p2_nat]
  congr 1
/-- is a column hidden still, one watcher more -/
def stepH (R V : St) (column b w y : Int) : Int := if y = 0 then 0 else if R 1 b = 0 then 1 else if sightV (V 0 w) (R 1 b / 10) column then 0 else 1
noncomputable def hidW (R V : St) (column b y n : Int) : Int := itV y (stepH R V column b) n
theorem hidW_0 (R V : St) (column b y : Int) : y = hidW R V column b y 0 := (itV_0 _ _).symm
theorem hidW_s (R V : St) (column b y : Int) {n : Int} (h : 0 ≤ n) : hidW R V column b y (n + 1) = stepH R V column b n (hidW R V column b y n) := itV_s _ _ h
noncomputable def hidV (R V : St) (n column b : Int) : Int := itV 1 (fun b x => hidW R V column b x n) b
theorem hidV_0 (R V : St) (n column : Int) : (1 : Int) = hidV R V n column 0 := (itV_0 _ _).symm
theorem hidV_s (R V : St) (n column : Int) {b : Int} (h : 0 ≤ b) : hidV R V n column (b + 1) = hidW R V column b (hidV R V n column b) n := itV_s _ _ h
noncomputable def stanV (R V : St) (n c : Int) : Int := itV 0 (fun c x => x + (if hidV R V n c 16 = 0 then 0 else p2 c)) c
theorem stanV_0 (R V : St) (n : Int) : (0 : Int) = stanV R V n 0 := (itV_0 _ _).symm
theorem stanV_s (R V : St) (n : Int) {c : Int} (h : 0 ≤ c) : stanV R V n (c + 1) = stanV R V n c + (if hidV R V n c 16 = 0 then 0 else p2 c) := itV_s _ _ h
theorem oftenV_of {R V : St} {n most k : Int} (hk : 0 ≤ k ∧ k ≤ 9) (h1 : k = 0 ∨ seesAllV R V n k 16 ≤ most) (h2 : ∀ j, k < j → j ≤ 9 → most < seesAllV R V n j 16) : k = oftenV R V n most := by
  unfold oftenV
  have key : ∀ d : Nat, k + (d : Int) ≤ 9 → itV 0 (fun j x => if seesAllV R V n (j + 1) 16 ≤ most then j + 1 else x) (k + (d : Int)) = k := by
    intro d
    induction d with
    | zero =>
      intro _
      rw [show k + ((0 : Nat) : Int) = k by omega]
      by_cases h0 : k = 0
      · rw [h0, itV_0]
      · have e := itV_s (0 : Int) (fun j x => if seesAllV R V n (j + 1) 16 ≤ most then j + 1 else x) (i := k - 1) (by omega)
        rw [show k - 1 + 1 = k by omega] at e
        rw [e, if_pos (by omega)]
    | succ d ih =>
      intro hd
      have e := itV_s (0 : Int) (fun j x => if seesAllV R V n (j + 1) 16 ≤ most then j + 1 else x) (i := k + (d : Int)) (by omega)
      rw [show k + ((d + 1 : Nat) : Int) = k + (d : Int) + 1 by omega, e, ih (by omega), if_neg]
      have := h2 (k + (d : Int) + 1) (by omega) (by omega)
      omega
  have := key (9 - k).toNat (by omega)
  rw [show k + (((9 - k).toNat : Nat) : Int) = 9 by omega] at this
  exact this.symm
/-- the first least so far -/
def bstep (f : Int → Int) (b : Int) (x : Int × Int) : Int × Int := if x.1 < 0 then (b, f b) else if f b < x.2 then (b, f b) else x
theorem bstep_eq {f : Int → Int} {b best least v w y : Int} {x : Int × Int} (hx : (best, least) = x) (hv : v = if best < 0 then 1 else if least ≤ f b then 0 else 1) (hw : w = if v = 0 then best else b) (hy : y = if v = 0 then least else f b) : (w, y) = bstep f b x := by
  rw [← hx]
  unfold bstep
  by_cases h1 : best < 0
  · rw [if_pos h1] at hv ⊢
    rw [hw, hy, hv]
    rfl
  · rw [if_neg h1] at hv ⊢
    by_cases h2 : f b < least
    · rw [if_neg (by omega)] at hv
      rw [if_pos h2, hw, hy, hv]
      rfl
    · rw [if_pos (by omega)] at hv
      rw [if_neg h2, hw, hy, hv]
      rfl
noncomputable def shownW (R V : St) (n i0 j : Int) : Int × Int := itV ((-4 : Int), (0 : Int)) (fun j x => bstep (fun b => shownAtV R V n b b) (i0 + j) x) j
theorem shownW_0 (R V : St) (n i0 : Int) : ((-4 : Int), (0 : Int)) = shownW R V n i0 0 := (itV_0 _ _).symm
theorem shownW_s (R V : St) (n i0 : Int) {j : Int} (h : 0 ≤ j) : shownW R V n i0 (j + 1) = bstep (fun b => shownAtV R V n b b) (i0 + j) (shownW R V n i0 j) := itV_s _ _ h
noncomputable def opShown (R V : St) (n beat : Int) : Int := if -1 ≤ beat ∧ beat ≤ 15 then (if beat < 0 then (if lastV R (-4) 16 < 0 then -4 else (shownW R V n (lastV R (-4) 16 + 1) (15 - lastV R (-4) 16)).1) else shownAtV R V n beat beat) else -1
theorem leftV_r {R V : St} (h : RB R) (hv : VB V) {beat b n : Int} (hb : 0 ≤ beat - b ∧ beat - b ≤ 15) (hn : 0 ≤ n ∧ n ≤ 8) : 0 ≤ leftV R V n beat b ∧ leftV R V n beat b ≤ 8000 := by
  have h1 := mul_r (h.2.2.2.2.2.2 4) (b := beat - b) (y := 15) hb
  have h2 := seesAtV_r h hv (beat := b) (k := 1) (by decide) hn
  unfold leftV
  split
  · have h3 := mul_r h2 (b := 10 - R 6 4 * (beat - b)) (y := 10) (by omega)
    omega
  · omega
theorem shownAtV_r {R V : St} (h : RB R) (hv : VB V) {beat b n : Int} (hb : 0 ≤ b ∧ b ≤ beat ∧ beat ≤ 15) (hn : 0 ≤ n ∧ n ≤ 8) : 0 ≤ shownAtV R V n beat b ∧ shownAtV R V n beat b ≤ 8000 * b := by
  have key : ∀ k : Nat, (k : Int) ≤ beat → 0 ≤ shownAtV R V n beat (k : Int) ∧ shownAtV R V n beat (k : Int) ≤ 8000 * (k : Int) := by
    intro k
    induction k with
    | zero =>
      intro _
      rw [show ((0 : Nat) : Int) = 0 from rfl, ← shownAtV_0]
      omega
    | succ k ih =>
      intro hk
      have e := shownAtV_s R V n beat (b := (k : Int)) (by omega)
      have h1 := leftV_r h hv (beat := beat) (b := (k : Int)) (n := n) (by omega) hn
      have h2 := ih (by omega)
      rw [show ((k + 1 : Nat) : Int) = (k : Int) + 1 by omega, e]
      omega
  have := key b.toNat (by omega)
  rw [toNat_c hb.1] at this
  exact this
theorem lastV_r (R : St) (b : Int) : (0 ≤ b → lastV R (-4) b < b) ∧ -4 ≤ lastV R (-4) b ∧ (lastV R (-4) b < 0 → lastV R (-4) b = -4) := by
  refine ⟨fun hb => ?_, itV_ind (fun x => -4 ≤ x) (by decide) (fun i x hi h => by split <;> omega) b, itV_ind (fun x => x < 0 → x = -4) (fun _ => rfl) (fun i x hi h => by split <;> omega) b⟩
  obtain ⟨k, rfl⟩ : ∃ k : Nat, b = (k : Int) := ⟨b.toNat, by omega⟩
  induction k with
  | zero => rw [show ((0 : Nat) : Int) = 0 from rfl, ← lastV_0]; decide
  | succ k ih =>
    have e := lastV_s R (-4) (b := (k : Int)) (by omega)
    have := ih (by omega)
    rw [show ((k + 1 : Nat) : Int) = (k : Int) + 1 by omega, e]
    split <;> omega
theorem rv_upd (M : St) {k : Nat} (hk : k ≤ 6) (z v : Int) : rv (upd2 M k z v) = upd2 (rv M) k z v := by
  funext f i
  unfold rv upd2
  by_cases hf : f = k
  · subst hf
    simp only [if_pos hk, if_true]
  · by_cases h6 : f ≤ 6
    · simp only [if_pos h6, if_neg hf]
    · simp only [if_neg h6, if_neg hf]
theorem upd2_2 (M : St) (k : Nat) (z v w : Int) : upd2 (upd2 M k z v) k z w = upd2 M k z w := by
  funext f i
  unfold upd2
  by_cases hf : f = k
  · by_cases hi : i = z
    · simp only [if_pos hf, if_pos hi]
    · simp only [if_pos hf, if_neg hi]
  · simp only [if_neg hf]
theorem upd2_id (M : St) (k : Nat) (z : Int) : upd2 M k z (M k z) = M := by
  funext f i
  unfold upd2
  by_cases hf : f = k
  · rw [if_pos hf]
    by_cases hi : i = z
    · rw [if_pos hi, hf, hi]
    · rw [if_neg hi]
  · rw [if_neg hf]
/-- the routine with the slip of a beat moved to b -/
def movedR (R : St) (beat b : Int) : St := upd2 (upd2 R 1 beat 0) 1 b (R 1 beat)
noncomputable def quietW (R V : St) (n beat b : Int) : Int × Int := itV ((-4 : Int), (0 : Int)) (fun b x => if upd2 R 1 beat 0 1 b = 0 then bstep (fun b => seesAtV (movedR R beat b) V n b 1) b x else x) b
theorem quietW_0 (R V : St) (n beat : Int) : ((-4 : Int), (0 : Int)) = quietW R V n beat 0 := (itV_0 _ _).symm
theorem quietW_s (R V : St) (n beat : Int) {b : Int} (h : 0 ≤ b) : quietW R V n beat (b + 1) = if upd2 R 1 beat 0 1 b = 0 then bstep (fun b => seesAtV (movedR R beat b) V n b 1) b (quietW R V n beat b) else quietW R V n beat b := itV_s _ _ h
noncomputable def opQuiet (R V : St) (n beat what : Int) : Int := if (0 ≤ beat ∧ beat ≤ 15) ∧ 0 ≤ what ∧ what ≤ 1 then (if R 1 beat = 0 then -2 else if what = 0 then (quietW R V n beat 16).1 else (quietW R V n beat 16).2) else -1
/-- do the eyes at a point fit a plain watcher's -/
noncomputable def eyesV (R : St) (beat place q : Int) : Int := itV 1 (fun q x => if x = 0 then 0 else if pullV R 0 0 beat place 1 < pullV R 0 0 beat q 1 then 0 else 1) q
theorem eyesV_0 (R : St) (beat place : Int) : (1 : Int) = eyesV R beat place 0 := (itV_0 _ _).symm
theorem eyesV_s (R : St) (beat place : Int) {q : Int} (h : 0 ≤ q) : eyesV R beat place (q + 1) = if eyesV R beat place q = 0 then 0 else if pullV R 0 0 beat place 1 < pullV R 0 0 beat q 1 then 0 else 1 := itV_s _ _ h
noncomputable def fitN (R : St) (pb pp : Int → Int) (k : Int) : Int := itV 0 (fun k x => x + (if eyesV R (pb k) (pp k) 4 = 0 then 0 else 1)) k
theorem fitN_0 (R : St) (pb pp : Int → Int) : (0 : Int) = fitN R pb pp 0 := (itV_0 _ _).symm
theorem fitN_s (R : St) (pb pp : Int → Int) {k : Int} (h : 0 ≤ k) : fitN R pb pp (k + 1) = fitN R pb pp k + (if eyesV R (pb k) (pp k) 4 = 0 then 0 else 1) := itV_s _ _ h
noncomputable def fitW (R : St) (pb pp : Int → Int) (np v : Int) : Int × Int := itV ((0 : Int), (-1 : Int)) (fun v x => if fitN (upd2 R 6 0 v) pb pp np ≤ x.2 then x else (v, fitN (upd2 R 6 0 v) pb pp np)) v
theorem fitW_0 (R : St) (pb pp : Int → Int) (np : Int) : ((0 : Int), (-1 : Int)) = fitW R pb pp np 0 := (itV_0 _ _).symm
theorem fitW_s (R : St) (pb pp : Int → Int) (np : Int) {v : Int} (h : 0 ≤ v) : fitW R pb pp np (v + 1) = if fitN (upd2 R 6 0 v) pb pp np ≤ (fitW R pb pp np v).2 then fitW R pb pp np v else (v, fitN (upd2 R 6 0 v) pb pp np) := itV_s _ _ h
noncomputable def opFits (R : St) (pb pp : Int → Int) (np what : Int) : Int := if 0 ≤ what ∧ what ≤ 1 then (if np = 0 then -2 else if what = 0 then (fitW R pb pp np 10).1 else (fitW R pb pp np 10).2) else -1
/-- the watchers behind w, one place down, as far as i -/
def shiftM (M : St) (w i : Int) : St := fun k j => if k = 8 ∧ 3 * w ≤ j ∧ j < i then M 8 (j + 3) else M k j
theorem shiftM_0 (M : St) (w : Int) : M = shiftM M w (3 * w) := by
  funext k j
  exact (if_neg (by omega)).symm
theorem shiftM_x (M : St) (w i : Int) : eqx [8] M (shiftM M w i) := by
  intro k hk
  funext j
  exact if_neg (fun h => hk (by rw [h.1]; decide))
theorem shiftM_s (M : St) {w i : Int} (h : 3 * w ≤ i) : upd2 (shiftM M w i) 8 i (shiftM M w i 8 (i + 3)) = shiftM M w (i + 1) := by
  funext k j
  have e : shiftM M w i 8 (i + 3) = M 8 (i + 3) := if_neg (by omega)
  rw [e]
  unfold upd2 shiftM
  by_cases hk : k = 8
  · rw [if_pos hk]
    by_cases hj : j = i
    · rw [if_pos hj, if_pos (by omega), hj]
    · rw [if_neg hj]
      by_cases h2 : k = 8 ∧ 3 * w ≤ j ∧ j < i
      · rw [if_pos h2, if_pos (by omega)]
      · rw [if_neg h2, if_neg (by omega)]
  · rw [if_neg hk, if_neg (fun h => hk h.1), if_neg (fun h => hk h.1)]
def leaveR (n watcher : Int) : Int := if 0 ≤ watcher ∧ watcher ≤ n - 1 then n - 1 else -1
def leaveM (M : St) (watcher : Int) : St := if 0 ≤ watcher ∧ watcher ≤ M 7 0 - 1 then shiftM (upd2 M 7 0 (M 7 0 - 1)) watcher (3 * (M 7 0 - 1)) else M
theorem eqx_upd {ks : List Nat} {M M1 : St} (h : eqx ks M M1) (k : Nat) (z v : Int) : eqx ks (upd2 M k z v) (upd2 M1 k z v) := by
  intro f hf
  funext i
  unfold upd2
  rw [h f hf]
theorem eqx_back {M0 Mw Ma Mb Mc : St} {b x : Int} (h : eqx [14, 15] M0 Mw) (ea : Ma = upd2 Mw 1 b x) (hb : eqx [14, 15] Ma Mb) (ec : Mc = upd2 Mb 1 b 0) (h0 : M0 1 b = 0) : eqx [14, 15] M0 Mc := by
  have h1 := eqx_upd h 1 b x
  rw [← ea] at h1
  have h2 := eqx_upd (h1.tr hb) 1 b 0
  rw [← ec, upd2_2] at h2
  have e : upd2 M0 1 b 0 = M0 := by
    have := upd2_id M0 1 b
    rw [h0] at this
    exact this
  rw [e] at h2
  exact h2
theorem eqx_end {M Mw Me : St} {beat : Int} (h : eqx [14, 15] (upd2 M 1 beat 0) Mw) (e : Me = upd2 Mw 1 beat (M 1 beat)) : eqx [14, 15] M Me := by
  have h2 := eqx_upd h 1 beat (M 1 beat)
  rw [← e, upd2_2, upd2_id] at h2
  exact h2
theorem ex6 {M Mw : St} {x : Int} (h : upd2 Mw 6 0 x = M) : eqx [6] M Mw := by
  intro k hk
  rw [← h, upd2_k (fun q => hk (by rw [q]; decide))]
theorem ex6v {M Mw : St} {x : Int} (h : upd2 Mw 6 0 x = M) (v : Int) : upd2 Mw 6 0 v = upd2 M 6 0 v := by rw [← h, upd2_2]
theorem fitN_r {R : St} {pb pp : Int → Int} {k : Int} (h : 0 ≤ k) : 0 ≤ fitN R pb pp k ∧ fitN R pb pp k ≤ k := by
  have := itV_sum (f := fun k => if eyesV R (pb k) (pp k) 4 = 0 then 0 else 1) (c := 1) (fun j => by split <;> omega) h
  unfold fitN
  omega
