/-! ===== sheets, images, type ===== -/
theorem iMs_22 {M M1 : St} {z v : Int} (h : InvM M) (e : M1 = upd2 M 22 z v) (hv : (if 32 ≤ z ∧ z < 64 then -1 else 0) ≤ v ∧ v ≤ (if z < 32 then 39 else if z < 64 then 3 else if z < 80 then 1 else if z < 85 then 10 else if z < 109 then 11 else if z < 141 then (if (z - 109) % 4 = 0 then 15 else if (z - 109) % 4 = 3 then 99 else 3) else if z < 165 then 15 else if z < 190 then 3 else if z < 192 then 8 else 24)) : InvM M1 := h.set e hv
theorem iM_22b {M : St} (h : InvM M) (z : Int) : (if 32 ≤ z ∧ z < 64 then -1 else 0) ≤ M 22 z ∧ M 22 z ≤ (if z < 32 then 39 else if z < 64 then 3 else if z < 80 then 1 else if z < 85 then 10 else if z < 109 then 11 else if z < 141 then (if (z - 109) % 4 = 0 then 15 else if (z - 109) % 4 = 3 then 99 else 3) else if z < 165 then 15 else if z < 190 then 3 else if z < 192 then 8 else 24) := h 22 z
/-- a row copied into another from a on -/
def cpy (f : Int → Int) (a : Int) (g : Int → Int) (n : Int) : Int → Int := fun i => if a ≤ i ∧ i < a + n then g (i - a) else f i
def rowS (M : St) (k : Nat) (f : Int → Int) : St := fun j i => if j = k then f i else M j i
theorem rowS_k {M : St} {k : Nat} {f : Int → Int} : rowS M k f k = f := by funext i; exact if_pos rfl
theorem rowS_n {M : St} {k j : Nat} {f : Int → Int} (h : j ≠ k) : rowS M k f j = M j := by funext i; exact if_neg h
theorem rowS_x (M : St) (k : Nat) (f : Int → Int) {js : List Nat} (h : k ∈ js) : eqx js M (rowS M k f) := by
  intro j hj
  exact rowS_n (fun q => hj (q ▸ h))
theorem rowS_0 (M : St) (k : Nat) (a : Int) (g : Int → Int) : M = rowS M k (cpy (M k) a g 0) := by
  funext j i
  show M j i = if j = k then (if a ≤ i ∧ i < a + 0 then g (i - a) else M k i) else M j i
  by_cases h : j = k
  · rw [if_pos h, if_neg (by omega), h]
  · rw [if_neg h]
theorem rowS_s (M : St) (k : Nat) (a : Int) (g : Int → Int) {n : Int} (h : 0 ≤ n) : upd2 (rowS M k (cpy (M k) a g n)) k (a + n) (g n) = rowS M k (cpy (M k) a g (n + 1)) := by
  funext j i
  show (if j = k then (if i = a + n then g n else if j = k then (if a ≤ i ∧ i < a + n then g (i - a) else M k i) else M j i) else if j = k then (if a ≤ i ∧ i < a + n then g (i - a) else M k i) else M j i) = if j = k then (if a ≤ i ∧ i < a + (n + 1) then g (i - a) else M k i) else M j i
  by_cases hj : j = k
  · rw [if_pos hj, if_pos hj, if_pos hj]
    by_cases hi : i = a + n
    · rw [if_pos hi, if_pos (by omega), show i - a = n by omega]
    · rw [if_neg hi]
      by_cases hq : a ≤ i ∧ i < a + n
      · rw [if_pos hq, if_pos (by omega)]
      · rw [if_neg hq, if_neg (by omega)]
  · rw [if_neg hj, if_neg hj, if_neg hj]
def savM (M : St) (k : Nat) (a n : Int) : St := rowS M 22 (cpy (M 22) a (M k) n)
def givM (M : St) (k : Nat) (a n : Int) : St := rowS M k (cpy (M k) 0 (fun i => M 22 (a + i)) n)
def im10 (M : St) : St := savM (savM (savM (savM (savM (savM (savM (savM (savM (savM M 0 0 16) 1 16 16) 2 32 16) 3 48 16) 4 64 16) 6 80 5) 8 85 24) 17 109 32) 20 141 24) 21 165 24
def imgM' (X : St) : St := upd2 (upd2 (upd2 (upd2 (upd2 X 22 189 (X 5 0)) 22 190 (X 7 0)) 22 191 (X 16 0)) 22 192 (X 19 0)) 23 0 1
def imgM (M : St) : St := imgM' (im10 M)
def re10 (M : St) : St := givM (givM (givM (givM (givM (givM (givM (givM (givM (givM M 0 0 16) 1 16 16) 2 32 16) 3 48 16) 4 64 16) 6 80 5) 8 85 24) 17 109 32) 20 141 24) 21 165 24
def resM' (X : St) : St := upd2 (upd2 (upd2 (upd2 X 5 0 (X 22 189)) 7 0 (X 22 190)) 16 0 (X 22 191)) 19 0 (X 22 192)
def resM (M : St) : St := resM' (re10 M)
theorem savM_22 (M : St) (k : Nat) (a n : Int) : eqx [22] M (savM M k a n) := rowS_x _ _ _ (by simp only [List.mem_cons, List.not_mem_nil, or_false])
theorem givM_k (M : St) (k : Nat) (a n : Int) : eqx [k] M (givM M k a n) := rowS_x _ _ _ (by simp only [List.mem_cons, List.not_mem_nil, or_false])
/-! eyes -/
noncomputable def eyV (it : Int → Int) (b j : Int) : Int := itV 0 (fun k x => x + (if 0 ≤ it (b + k) then 1 else 0)) j
theorem eyV_0 (it : Int → Int) (b : Int) : (0 : Int) = eyV it b 0 := (itV_0 _ _).symm
theorem eyV_s (it : Int → Int) (b : Int) {j : Int} (h : 0 ≤ j) : eyV it b (j + 1) = eyV it b j + (if 0 ≤ it (b + j) then 1 else 0) := itV_s _ _ h
theorem eyV_mono (it : Int → Int) (b : Int) {i : Int} (h : 0 ≤ i) : ∀ d : Nat, eyV it b i ≤ eyV it b (i + (d : Int)) ∧ eyV it b (i + (d : Int)) ≤ eyV it b i + (d : Int) := by
  intro d
  induction d with
  | zero => rw [show i + ((0 : Nat) : Int) = i from Int.add_zero i]; omega
  | succ d ih =>
    rw [show i + ((d + 1 : Nat) : Int) = (i + (d : Int)) + 1 by omega, eyV_s _ _ (by omega)]
    split <;> omega
theorem eyV_le (it : Int → Int) (b : Int) {i j : Int} (h : 0 ≤ i ∧ i ≤ j) : eyV it b i ≤ eyV it b j := by
  have e := (eyV_mono it b h.1 (j - i).toNat).1
  rw [show i + ((j - i).toNat : Int) = j by omega] at e
  exact e
def eyOK (it : Int → Int) (b n : Int) : Prop := ∀ k, 0 ≤ k → k < n → -1 ≤ it (b + k) ∧ it (b + k) ≤ 3
noncomputable def eyIf {α : Type} (it : Int → Int) (b n : Int) (x y : α) : α := haveI := Classical.propDecidable (eyOK it b n); if eyOK it b n then x else y
theorem eyIf_pos {α : Type} {it : Int → Int} {b n : Int} {x y : α} (h : eyOK it b n) : eyIf it b n x y = x := if_pos h
theorem eyIf_neg {α : Type} {it : Int → Int} {b n : Int} {x y : α} (h : ¬ eyOK it b n) : eyIf it b n x y = y := if_neg h
abbrev eyG (beat sheet lane n : Int) : Prop := (0 ≤ beat ∧ beat ≤ 15) ∧ (0 ≤ sheet ∧ sheet ≤ 3) ∧ (0 ≤ lane ∧ lane ≤ 2) ∧ (1 ≤ n ∧ n ≤ 16) ∧ beat + n ≤ 16
noncomputable def eyR (M : St) (beat sheet lane i n : Int) : Int := if eyG beat sheet lane n then (if findsV M sheet lane i n < 0 then findsV M sheet lane i n else eyIf (M 26) (16 * sheet + i) n (if 24 < M 19 0 + eyV (M 26) (16 * sheet + i) n then -3 else eyV (M 26) (16 * sheet + i) n) (-2)) else -1
noncomputable def ptsM (M : St) (it : Int → Int) (beat b j : Int) : St := itV M (fun k X => if 0 ≤ it (b + k) then pointedM X (beat + k) (it (b + k)) else X) j
theorem ptsM_0 (M : St) (it : Int → Int) (beat b : Int) : M = ptsM M it beat b 0 := (itV_0 _ _).symm
theorem ptsM_s (M : St) (it : Int → Int) (beat b : Int) {j : Int} (h : 0 ≤ j) : ptsM M it beat b (j + 1) = if 0 ≤ it (b + j) then pointedM (ptsM M it beat b j) (beat + j) (it (b + j)) else ptsM M it beat b j := itV_s _ _ h
theorem pointedM_x (M : St) (a b : Int) : eqx [19, 20, 21] M (pointedM M a b) := by
  intro k hk
  simp only [List.mem_cons, List.not_mem_nil, or_false] at hk
  unfold pointedM
  rw [upd2_k (by omega), upd2_k (by omega), upd2_k (by omega)]
theorem pointedM_19 (M : St) (a b : Int) : pointedM M a b 19 0 = M 19 0 + 1 := by unfold pointedM; exact upd2_e
theorem ptsM_x (M : St) (it : Int → Int) (beat b j : Int) : eqx [19, 20, 21] M (ptsM M it beat b j) := by
  unfold ptsM
  exact itV_ind (fun X => eqx [19, 20, 21] M X) (eqx.rf _ _) (fun k X _ h => by
    show eqx _ M (if _ then _ else _)
    split
    · exact h.tr (pointedM_x X _ _)
    · exact h) j
theorem ptsM_19 (M : St) (it : Int → Int) (beat b : Int) : ∀ d : Nat, ptsM M it beat b (d : Int) 19 0 = M 19 0 + eyV it b (d : Int) := by
  intro d
  induction d with
  | zero => rw [show ((0 : Nat) : Int) = 0 from rfl, ← ptsM_0, ← eyV_0, Int.add_zero]
  | succ d ih =>
    rw [show ((d + 1 : Nat) : Int) = (d : Int) + 1 from rfl, ptsM_s _ _ _ _ (by omega), eyV_s _ _ (by omega)]
    split
    · rw [pointedM_19, ih]; omega
    · rw [ih]; omega
noncomputable def eyM (M : St) (beat sheet lane i n : Int) : St := if eyG beat sheet lane n then (if findsV M sheet lane i n < 0 then M else eyIf (M 26) (16 * sheet + i) n (if 24 < M 19 0 + eyV (M 26) (16 * sheet + i) n then M else ptsM M (M 26) beat (16 * sheet + i) n) M) else M
/-! copy -/
noncomputable def cpR (M : St) (fr i to_ j n : Int) : Int := if (0 ≤ fr ∧ fr ≤ 3) ∧ 0 ≤ to_ ∧ to_ ≤ 3 then (if M 24 fr < 0 ∨ M 24 to_ < 0 then -11 else if M 24 fr = M 24 to_ then (if n < 0 ∨ findsV M fr (M 24 fr) i n < 0 ∨ findsV M to_ (M 24 to_) j n < 0 then -13 else n) else -12) else -1
noncomputable def cpM' (M : St) (fr i to_ j n : Int) : St := rowS (rowS M 27 (cpy (M 27) 0 (fun k => M 26 (16 * fr + i + k)) n)) 26 (cpy (M 26) (16 * to_ + j) (fun k => M 26 (16 * fr + i + k)) n)
noncomputable def cpM (M : St) (fr i to_ j n : Int) : St := if (0 ≤ fr ∧ fr ≤ 3) ∧ 0 ≤ to_ ∧ to_ ≤ 3 then (if M 24 fr < 0 ∨ M 24 to_ < 0 then M else if M 24 fr = M 24 to_ then (if n < 0 ∨ findsV M fr (M 24 fr) i n < 0 ∨ findsV M to_ (M 24 to_) j n < 0 then M else cpM' M fr i to_ j n) else M) else M
/-! type -/
def shW (w k : Int) : Int64 := jv w >>> ((iv (8 * k)).toInt64 &&& 63)
def byV (w k : Int) : Int := (shW w k &&& jv 255).toInt
theorem byV_jv (w k : Int) : shW w k &&& jv 255 = jv (byV w k) := (Int64.ofInt_toInt _).symm
theorem byV_r (w k : Int) : 0 ≤ byV w k ∧ byV w k ≤ 255 := by
  have h : (shW w k &&& jv 255).toBitVec.toNat ≤ 255 := by
    rw [Int64.toBitVec_and, BitVec.toNat_and]
    exact Nat.and_le_right
  have e : byV w k = (shW w k &&& jv 255).toBitVec.toInt := rfl
  rw [e, BitVec.toInt_eq_toNat_of_lt (by omega)]
  omega
def tyOK (w n : Int) : Prop := ∀ k, 0 ≤ k → k < n → 32 ≤ byV w k ∧ byV w k ≤ 126
noncomputable def tyIf {α : Type} (w n : Int) (x y : α) : α := haveI := Classical.propDecidable (tyOK w n); if tyOK w n then x else y
theorem tyIf_pos {α : Type} {w n : Int} {x y : α} (h : tyOK w n) : tyIf w n x y = x := if_pos h
theorem tyIf_neg {α : Type} {w n : Int} {x y : α} (h : ¬ tyOK w n) : tyIf w n x y = y := if_neg h
noncomputable def tyR (t w n : Int) : Int := if 1 ≤ n ∧ n ≤ 8 then tyIf w n (if 100 < t + n then -3 else t + n) (-1) else -1
noncomputable def tyM' (M : St) (w n j : Int) : St := itV M (fun k X => upd2 (upd2 X 9 (X 10 0) (byV w (n - 1 - k))) 10 0 (X 10 0 + 1)) j
theorem tyM_0 (M : St) (w n : Int) : M = tyM' M w n 0 := (itV_0 _ _).symm
theorem tyM_s (M : St) (w n : Int) {j : Int} (h : 0 ≤ j) : tyM' M w n (j + 1) = upd2 (upd2 (tyM' M w n j) 9 (tyM' M w n j 10 0) (byV w (n - 1 - j))) 10 0 (tyM' M w n j 10 0 + 1) := itV_s _ _ h
noncomputable def tyM (M : St) (w n : Int) : St := if 1 ≤ n ∧ n ≤ 8 then tyIf w n (if 100 < M 10 0 + n then M else tyM' M w n n) M else M
section SI
variable {p : Program} {l : Launch} {e : Env} {R : Room} {s : State} {m : MethodId} {args : Array Value} {below : List Frame} {meth : Method} {c : Code} {H : Heap} {locs : List Loc} {cells slots : Nat} {Q : State → Prop}
variable {cc : ByteArray} {pc : Nat} {ls : Array Slot} {rest st : List Value} {D : va_G} {A : Nat → Prop} {cI : ClassId} {B : Nat → Nat} {M : St} {H0 : Heap}
variable {y : MethodName} {bytes : ByteArray} {maxL n index nL : Nat} {ret : Option FieldType} {rm : Room} {As : List Value} {own : String}
theorem s_cI {post : Int32 → St → Prop} (S : CallFix p m c cc nL s args lw_all own) (hM : Met l y (ws_ y bytes maxL ret) rm (va_Pc As (mUS D cI A (mW cI B M))) (va_Qi post (mB D cI B A) A) 0 0 A) (cw : CallB R s args own index y bytes maxL ret (ws_ y bytes maxL ret) rm 0 0 n ∧ (Cond.static y).before args s = true) (hK : va_K D vwCl [(cI, .int)] s) (hP : wP D vwCl (mW cI B M) H) (hD : wD A (mW cI B M)) (hS : va_S A H0 H locs) (hn : As.length = n) (hsize : ls.size = nL) (hst : st = As.reverse ++ rest) (hroom : (rest.map fun v => v.category).sum ≤ 8) (hf : cells ≤ R.cells ∧ slots ≤ R.slots) (d : decode cc pc = .ok (.invokestatic index, 3)) (k : ∀ (r : Int32) (M1 : St) (H1 : Heap) (locs1 : List Loc), post r M1 → wP D vwCl (mW cI B M1) H1 → wD A (mW cI B M1) → va_S A H0 H1 locs1 → W p l e R s m args below meth c H1 locs1 cells slots Q (F0 m (pc + 3) ls (.int r :: rest))) : W p l e R s m args below meth c H locs cells slots Q (F0 m pc ls st) :=
  va_calli (va_runS (g := F0 m pc ls st) S hM cw ⟨fun a U g mk q => ⟨q.1, q.2.1, q.2.2.1, va_K.moved (u := U) (U := U.calling g mk a) (Vm.Alike.refl U.vm) q.2.2.2⟩, fun U hU hW => ⟨rfl, by rw [hU]; exact hP, hD, va_K.moved hW.alike hK⟩⟩ rfl hn hsize hst (lv_room (pc := pc) (ls := ls) (m := m) (rest := st) hroom) d hf) hS (fun _ _ h => h) (fun _ h => h) (fun r u t H1 locs1 ht _ hp hB _ _ hS => k r u H1 locs1 hp (ht ▸ hB.1) hB.2 hS)
end SI
theorem cp_end (M : St) (f0 : Int → Int) (b n a : Int) (hf : f0 = fun k => M 26 (a + k)) : rowS (rowS M 27 (cpy (M 27) 0 f0 n)) 26 (cpy (rowS M 27 (cpy (M 27) 0 f0 n) 26) b (rowS M 27 (cpy (M 27) 0 f0 n) 27) n) = rowS (rowS M 27 (cpy (M 27) 0 f0 n)) 26 (cpy (M 26) b f0 n) := by
  congr 1
  rw [rowS_n (by decide), rowS_k]
  funext x
  unfold cpy
  by_cases h : b ≤ x ∧ x < b + n
  · rw [if_pos h, if_pos h, if_pos (by omega), show x - b - 0 = x - b by omega]
  · rw [if_neg h, if_neg h]
