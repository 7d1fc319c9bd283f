/-! ===== what the methods compute, as plain functions ===== -/
theorem bi_of {q : Prop} [Decidable q] {z : Int} (h1 : q → z = 1) (h0 : ¬ q → z = 0) : z = bi q := by
  by_cases h : q
  · rw [bi_1 h, h1 h]
  · rw [bi_0 h, h0 h]
theorem toNat_s {i : Int} (h : 0 ≤ i) : (i + 1).toNat = i.toNat + 1 := by omega
theorem toNat_c {i : Int} (h : 0 ≤ i) : ((i.toNat : Nat) : Int) = i := by omega
/-- iteration, closed to unfolding -/
theorem recV_ex {α : Type} (a : α) (f : Nat → α → α) : ∃ g : Nat → α, g 0 = a ∧ ∀ n, g (n + 1) = f n (g n) := ⟨fun n => Nat.rec a (fun n x => f n x) n, rfl, fun _ => rfl⟩
noncomputable def recV {α : Type} (a : α) (f : Nat → α → α) : Nat → α := Classical.choose (recV_ex a f)
theorem recV_0 {α : Type} (a : α) (f : Nat → α → α) : recV a f 0 = a := (Classical.choose_spec (recV_ex a f)).1
theorem recV_s {α : Type} (a : α) (f : Nat → α → α) (n : Nat) : recV a f (n + 1) = f n (recV a f n) := (Classical.choose_spec (recV_ex a f)).2 n
noncomputable def itV {α : Type} (a : α) (f : Int → α → α) (i : Int) : α := recV a (fun n x => f (n : Int) x) i.toNat
theorem itV_0 {α : Type} (a : α) (f : Int → α → α) : itV a f 0 = a := recV_0 _ _
theorem itV_s {α : Type} (a : α) (f : Int → α → α) {i : Int} (h : 0 ≤ i) : itV a f (i + 1) = f i (itV a f i) := by
  unfold itV
  rw [toNat_s h, recV_s, toNat_c h]
theorem itV_ind {α : Type} {a : α} {f : Int → α → α} (P : α → Prop) (h0 : P a) (hs : ∀ (i : Int) (x : α), 0 ≤ i → P x → P (f i x)) (i : Int) : P (itV a f i) := by
  unfold itV
  generalize i.toNat = n
  induction n with
  | zero => rw [recV_0]; exact h0
  | succ n ih => rw [recV_s]; exact hs _ _ (by omega) ih
/-- .. whose steps agree below i -/
theorem itV_congr {α : Type} {a : α} {f g : Int → α → α} {i : Int} (h : ∀ (j : Int) (x : α), 0 ≤ j → j < i → f j x = g j x) : itV a f i = itV a g i := by
  unfold itV
  have key : ∀ n : Nat, n ≤ i.toNat → recV a (fun n x => f (n : Int) x) n = recV a (fun n x => g (n : Int) x) n := by
    intro n
    induction n with
    | zero => intro _; rw [recV_0, recV_0]
    | succ n ih =>
      intro hn
      rw [recV_s, recV_s, ih (by omega)]
      exact h _ _ (by omega) (by omega)
  exact key _ (Nat.le_refl _)
/-- a routine's table in a state: 0 moves, 1 slips, 2 looks, 3 names, 4 jokes, 5 stands, 6 laws -/
def rv (M : St) : St := fun f => if f ≤ 6 then M f else fun _ => 0
/-- the watchers in the model: 0 seat, 1 kind, 2 doubt -/
def pw (M : St) : St := fun f w => match f with
  | 0 => M 8 (3 * w)
  | 1 => M 8 (3 * w + 1)
  | _ => M 8 (3 * w + 2)
noncomputable def takenV (f : Int → Int) (s i : Int) : Int := itV 0 (fun w x => if x = 0 then (if f w = s then 1 else 0) else 1) i
theorem takenV_01 (f : Int → Int) (s i : Int) : takenV f s i = 0 ∨ takenV f s i = 1 := itV_ind (fun x => x = 0 ∨ x = 1) (Or.inl rfl) (fun j x _ h => by split <;> first | omega | (split <;> omega)) i
theorem takenV_0 (f : Int → Int) (s : Int) : (0 : Int) = takenV f s 0 := (itV_0 _ _).symm
theorem takenV_s (f : Int → Int) (s : Int) {i : Int} (h : 0 ≤ i) : takenV f s (i + 1) = if takenV f s i = 0 then (if f i = s then 1 else 0) else 1 := itV_s _ _ h
abbrev sightV (seat place column : Int) : Prop := ¬ ((place = 1 ∧ seat % 4 - column < -1) ∨ (place = 0 ∧ 1 < seat % 4 - column))
def fromV (kind place : Int) : Int := if kind = 3 then if 2 ≤ place then place else 1 - place else place
/-- the pull of a place on one of a kind -/
def pullV (R : St) (kind doubt beat place k : Int) : Int :=
  1 + (if R 0 beat ≤ 0 then 0 else if R 0 beat / 10 = fromV kind place then R 0 beat % 10 else 0) + (if R 2 beat = fromV kind place then R 6 0 else 0) + (if R 3 beat = fromV kind place then if kind = 2 then 0 else R 6 1 else 0) + (if kind = 1 then if 2 ≤ fromV kind place then 0 else if R 2 beat = fromV kind place then 0 else doubt else 0) + (if R 1 beat ≤ 0 then 0 else if R 1 beat / 10 = place then R 6 3 * (k - 1) else 0)
/-- heed behind one beat more -/
def heedS (R : St) (kind b h : Int) : Int :=
  if (if h + R 6 2 ≤ 9 then h + R 6 2 else 9) - (if R 3 b < 0 then 0 else if kind = 2 then 0 else 2) < 0 then 0 else if R 4 b ≤ 0 then (if h + R 6 2 ≤ 9 then h + R 6 2 else 9) - (if R 3 b < 0 then 0 else if kind = 2 then 0 else 2) else 0
noncomputable def heedV (R : St) (kind b : Int) : Int := itV 9 (heedS R kind) b
theorem heedV_0 (R : St) (kind : Int) : (9 : Int) = heedV R kind 0 := (itV_0 _ _).symm
theorem heedV_s (R : St) (kind : Int) {b : Int} (h : 0 ≤ b) : heedV R kind (b + 1) = heedS R kind b (heedV R kind b) := itV_s _ _ h
theorem heedV_r0 {R : St} (h6 : 0 ≤ R 6 2) (kind b : Int) : 0 ≤ heedV R kind b ∧ heedV R kind b ≤ 9 := itV_ind (fun x => 0 ≤ x ∧ x ≤ 9) (by decide) (fun j x _ h => by unfold heedS; omega) b
theorem heedV_r {M : St} (hI : InvM M) (kind b : Int) : 0 ≤ heedV (rv M) kind b ∧ heedV (rv M) kind b ≤ 9 := heedV_r0 (R := rv M) (iM_6 hI 2).1 kind b
noncomputable def opHeed (R V : St) (n watcher beat : Int) : Int := if (0 ≤ watcher ∧ watcher ≤ n - 1) ∧ 0 ≤ beat ∧ beat ≤ 15 then heedV R (V 1 watcher) (beat + 1) else -1
def opCan (R : St) (seat place : Int) : Int := if (0 ≤ seat ∧ seat ≤ 11) ∧ 0 ≤ place ∧ place ≤ 3 then (if sightV seat place (R 5 0) then 1 else 0) else -1
def opPull (R V : St) (n watcher beat place k : Int) : Int := if (0 ≤ watcher ∧ watcher ≤ n - 1) ∧ (0 ≤ beat ∧ beat ≤ 15) ∧ (0 ≤ place ∧ place ≤ 3) ∧ 1 ≤ k ∧ k ≤ 9 then pullV R (V 1 watcher) (V 2 watcher) beat place k else -1
noncomputable def toldV (R V : St) (watcher what : Int) : Int := if what = 0 then V 0 watcher else if what = 1 then V 1 watcher else heedV R (V 1 watcher) (15 + 1)
noncomputable def opTold (R V : St) (n watcher what : Int) : Int := if (0 ≤ watcher ∧ watcher ≤ n - 1) ∧ 0 ≤ what ∧ what ≤ 2 then toldV R V watcher what else -1
def shareV (saw not : Int) : Int := if saw + not = 0 then 0 else 1000 * saw / (saw + not)
theorem shareV_r {saw not : Int} (h1 : 0 ≤ saw ∧ saw ≤ 999) (h2 : 0 ≤ not ∧ not ≤ 999) : 0 ≤ shareV saw not ∧ shareV saw not ≤ 1000 := by
  unfold shareV
  split
  · omega
  · refine ⟨Int.ediv_nonneg (by omega) (by omega), ?_⟩
    have := Int.ediv_le_of_le_mul (a := 1000 * saw) (b := 1000) (c := saw + not) (by omega) (by omega)
    omega
