/-! ===== all clauses ===== -/
abbrev RS := Int × Int × Int × Int × (Int → Int)
abbrev RS.m (s : RS) : Int := s.1
abbrev RS.a (s : RS) : Int := s.2.1
abbrev RS.w (s : RS) : Int := s.2.2.1
abbrev RS.more (s : RS) : Int := s.2.2.2.1
abbrev RS.f (s : RS) : Int → Int := s.2.2.2.2
abbrev CL := Int → Int → Int → (Int → Int) → Int × Int × (Int → Int)
noncomputable def rdStep (T : Int → Int) (n : Int) (cl : CL) (_ : Int) (s : RS) : RS :=
  if s.more = 0 then s
  else if s.m + 1 < 8 then ⟨s.m + 1, hasA T n 59 (cl (6 * s.m) s.a s.w s.f).1 (cl (6 * s.m) s.a s.w s.f).2.1, (cl (6 * s.m) s.a s.w s.f).2.1, hasR T n 59 (skV T n (cl (6 * s.m) s.a s.w s.f).1) (cl (6 * s.m) s.a s.w s.f).2.1, (cl (6 * s.m) s.a s.w s.f).2.2⟩
  else ⟨s.m + 1, (cl (6 * s.m) s.a s.w s.f).1, (cl (6 * s.m) s.a s.w s.f).2.1, 0, (cl (6 * s.m) s.a s.w s.f).2.2⟩
noncomputable def rdV (T : Int → Int) (n : Int) (cl : CL) (f0 : Int → Int) (i : Int) : RS := itV ((⟨0, 0, 0, 1, f0⟩ : RS)) (rdStep T n cl) i
theorem rdV_0 (T : Int → Int) (n : Int) (cl : CL) (f0 : Int → Int) : rdV T n cl f0 0 = ⟨0, 0, 0, 1, f0⟩ := itV_0 _ _
theorem rd_go {T : Int → Int} {n : Int} {cl : CL} {f0 : Int → Int} {i a1 w1 : Int} {f1 : Int → Int} (h0 : 0 ≤ i) (hm : (rdV T n cl f0 i).m = i) (hr : ¬ (rdV T n cl f0 i).more = 0)
    (hc : cl (6 * i) (rdV T n cl f0 i).a (rdV T n cl f0 i).w (rdV T n cl f0 i).f = (a1, w1, f1)) (hi : i + 1 < 8) :
    rdV T n cl f0 (i + 1) = ⟨i + 1, hasA T n 59 a1 w1, w1, hasR T n 59 (skV T n a1) w1, f1⟩ := by
  have e : rdV T n cl f0 (i + 1) = rdStep T n cl i (rdV T n cl f0 i) := itV_s _ _ h0
  rw [e]
  unfold rdStep
  rw [if_neg hr, hm, if_pos hi, hc]
theorem rd_end {T : Int → Int} {n : Int} {cl : CL} {f0 : Int → Int} {i a1 w1 : Int} {f1 : Int → Int} (h0 : 0 ≤ i) (hm : (rdV T n cl f0 i).m = i) (hr : ¬ (rdV T n cl f0 i).more = 0)
    (hc : cl (6 * i) (rdV T n cl f0 i).a (rdV T n cl f0 i).w (rdV T n cl f0 i).f = (a1, w1, f1)) (hi : ¬ i + 1 < 8) :
    rdV T n cl f0 (i + 1) = ⟨i + 1, a1, w1, 0, f1⟩ := by
  have e : rdV T n cl f0 (i + 1) = rdStep T n cl i (rdV T n cl f0 i) := itV_s _ _ h0
  rw [e]
  unfold rdStep
  rw [if_neg hr, hm, if_neg hi, hc]
theorem rd_fix {T : Int → Int} {n : Int} {cl : CL} {f0 : Int → Int} {i : Int} (h0 : 0 ≤ i) (hz : (rdV T n cl f0 i).more = 0) : ∀ (d : Nat), rdV T n cl f0 (i + (d : Int)) = rdV T n cl f0 i := by
  intro d
  induction d with
  | zero => rw [show i + ((0 : Nat) : Int) = i from Int.add_zero i]
  | succ d ih =>
    have e : rdV T n cl f0 (i + (d : Int) + 1) = rdStep T n cl (i + (d : Int)) (rdV T n cl f0 (i + (d : Int))) := itV_s _ _ (by omega)
    rw [show i + ((d + 1 : Nat) : Int) = i + (d : Int) + 1 by omega, e, ih]
    unfold rdStep
    rw [if_pos hz]
theorem rd_8 {T : Int → Int} {n : Int} {cl : CL} {f0 : Int → Int} {i : Int} (h0 : 0 ≤ i) (h8 : i ≤ 8) (hz : (rdV T n cl f0 i).more = 0) : rdV T n cl f0 i = rdV T n cl f0 8 := by
  have h := rd_fix h0 hz (8 - i).toNat
  rw [show i + ((8 - i).toNat : Int) = 8 by omega] at h
  exact h.symm
noncomputable def bcl (T : Int → Int) (n : Int) : CL := fun k a w f => (bA6 T n a w, bW6 T n a w, bRow T n f k a w)
noncomputable def sD (T : Int → Int) (n : Int) (P : Int → Int) (nw : Int) (f : Int → Int) (k a w : Int) : Int := dupV f (numV T n (skV T n a) w) (takenV P (numV T n (skV T n a) w) nw) (k / 6)
noncomputable def scl (T : Int → Int) (n : Int) (P : Int → Int) (nw : Int) : CL := fun k a w f =>
  (sA3 T n (sD T n P nw f k a w) a w, sW3 T n (sD T n P nw f k a w) a w, fset (fset f k (numV T n (skV T n a) w)) (k + 1) (sK T n (sD T n P nw f k a w) a w))
noncomputable def clV (T : Int → Int) (n : Int) (P : Int → Int) (nw : Int) (beats : Int) : CL := if beats = 0 then scl T n P nw else bcl T n
noncomputable def rdA (T : Int → Int) (n : Int) (s : RS) : Int := if s.w = 0 then skV T n s.a else s.a
noncomputable def rdW (T : Int → Int) (n : Int) (s : RS) : Int := if s.w = 0 then (if chV T n (skV T n s.a) = 0 then 0 else 1) else 1
noncomputable def rdR (T : Int → Int) (n : Int) (s : RS) : Int := if rdW T n s = 0 then s.m else -20 - rdA T n s
noncomputable def rdM (M : St) (s : RS) : St := upd2 (rM M (rdA (M 9) (M 10 0) s) (rdW (M 9) (M 10 0) s) s.f) 10 0 0
/-- what holds of the clauses read -/
def rdOK (cond : (Int → Int) → Int → Prop) (s : RS) : Prop := (¬ s.more = 0 → s.w = 0) ∧ 0 ≤ s.m ∧ s.m ≤ 8 ∧ (s.w = 0 → ∀ j, 0 ≤ j → j < s.m → cond s.f (6 * j))
def beOK (f : Int → Int) (k : Int) : Prop := (0 ≤ f k ∧ f k ≤ 15) ∧ (0 ≤ f (k + 1) ∧ f (k + 1) ≤ 39) ∧ (-1 ≤ f (k + 2) ∧ f (k + 2) ≤ 3) ∧ (-1 ≤ f (k + 3) ∧ f (k + 3) ≤ 3) ∧ (0 ≤ f (k + 4) ∧ f (k + 4) ≤ 1) ∧ (0 ≤ f (k + 5) ∧ f (k + 5) ≤ 39)
def seOK (f : Int → Int) (k : Int) : Prop := (0 ≤ f k ∧ f k ≤ 11) ∧ (0 ≤ f (k + 1) ∧ f (k + 1) ≤ 3)
theorem hasR_w {T : Int → Int} {n ch x w : Int} (h : ¬ hasR T n ch x w = 0) : w = 0 := by
  unfold hasR at h
  split at h
  · assumption
  · exact absurd rfl h
theorem obW_0 {T : Int → Int} {n ch a w : Int} (h : obW T n ch a w = 0) : w = 0 := by
  unfold obW at h
  split at h
  · exact h
  · rename_i q; exact hasR_w q
theorem odW_0 {T : Int → Int} {n ch a w : Int} (h : odW T n ch a w = 0) : w = 0 := by
  unfold odW at h
  split at h
  · exact h
  · rename_i q; exact hasR_w q
theorem bW6_0 {T : Int → Int} {n a w : Int} (h : bW6 T n a w = 0) : numW T n 15 a w = 0 := by
  have h1 : bW1 T n a w = 0 := obW_0 (odW_0 (odW_0 (obW_0 h)))
  unfold bW1 at h1
  split at h1
  · exact absurd h1 (by decide)
  · rename_i q; exact hasR_w q
theorem sW3_0 {T : Int → Int} {n d a w : Int} (h : sW3 T n d a w = 0) : numW T n 11 (skV T n a) w = 0 ∧ 0 ≤ sK T n d a w ∧ d = 0 := by
  unfold sW3 at h
  by_cases q : ¬ sW1 T n d a w = 0 ∨ sK T n d a w < 0
  · rw [if_pos q] at h; exact absurd h (by decide)
  · have q1 : sW1 T n d a w = 0 := by omega
    refine ⟨?_, by omega, ?_⟩
    · unfold sW1 at q1
      split at q1
      · exact absurd q1 (by decide)
      · exact q1
    · unfold sW1 at q1
      split at q1
      · exact absurd q1 (by decide)
      · rename_i q2; unfold sW0 at q2 q1; exact Classical.byContradiction (fun hd => q2 ⟨q1, hd⟩)
theorem bRow_lo {T : Int → Int} {n : Int} {f : Int → Int} {k a w j : Int} (h : j < k) : bRow T n f k a w j = f j := by
  unfold bRow
  rw [fset_n (by omega), fset_n (by omega), fset_n (by omega), fset_n (by omega), fset_n (by omega), fset_n (by omega)]
theorem bRow_at {T : Int → Int} {n : Int} {f : Int → Int} {k a w : Int} : bRow T n f k a w k = numV T n a w ∧ bRow T n f k a w (k + 1) = bV1 T n a w ∧ bRow T n f k a w (k + 2) = bV2 T n a w ∧ bRow T n f k a w (k + 3) = bV3 T n a w ∧ bRow T n f k a w (k + 4) = bV4 T n a w ∧ bRow T n f k a w (k + 5) = bV5 T n a w := by
  unfold bRow
  refine ⟨?_, ?_, ?_, ?_, ?_, ?_⟩
  · rw [fset_n (by omega), fset_n (by omega), fset_n (by omega), fset_n (by omega), fset_n (by omega), fset_e]
  · rw [fset_n (by omega), fset_n (by omega), fset_n (by omega), fset_n (by omega), fset_e]
  · rw [fset_n (by omega), fset_n (by omega), fset_n (by omega), fset_e]
  · rw [fset_n (by omega), fset_n (by omega), fset_e]
  · rw [fset_n (by omega), fset_e]
  · rw [fset_e]
theorem beOK_lo {T : Int → Int} {n : Int} {f : Int → Int} {k a w j : Int} (h : j + 5 < k) (hb : beOK f j) : beOK (bRow T n f k a w) j := by
  unfold beOK
  rw [bRow_lo (by omega), bRow_lo (by omega), bRow_lo (by omega), bRow_lo (by omega), bRow_lo (by omega), bRow_lo (by omega)]
  exact hb
theorem beOK_at {T : Int → Int} {n : Int} {f : Int → Int} {k a w : Int} (h : numW T n 15 a w = 0) : beOK (bRow T n f k a w) k := by
  obtain ⟨e0, e1, e2, e3, e4, e5⟩ := @bRow_at T n f k a w
  unfold beOK
  rw [e0, e1, e2, e3, e4, e5]
  have hn := numV_r T n a w
  have hw := numV_0 h
  have h4 : bV4 T n a w = 0 ∨ bV4 T n a w = 1 := hasR_01 _ _ _ _ _
  exact ⟨⟨hn.1, hw⟩, obV_r _ _ _ _ _, odV_r _ _ _ _ _, odV_r _ _ _ _ _, by omega, obV_r _ _ _ _ _⟩
theorem rd_ok {T : Int → Int} {n : Int} {cl : CL} {f0 : Int → Int} {cond : (Int → Int) → Int → Prop}
    (hlo : ∀ (k a w : Int) (f : Int → Int) (j : Int), 0 ≤ k → j + 5 < k → cond f j → cond (cl k a w f).2.2 j)
    (hat : ∀ (k a w : Int) (f : Int → Int), 0 ≤ k → (cl k a w f).2.1 = 0 → cond (cl k a w f).2.2 k) {i : Int} (h8 : 0 ≤ i ∧ i ≤ 8) : rdOK cond (rdV T n cl f0 i) := by
  have key : ∀ (d : Nat), (d : Int) ≤ 8 → rdOK cond (rdV T n cl f0 d) ∧ (rdV T n cl f0 d).m ≤ (d : Int) := by
    intro d
    induction d with
    | zero =>
      intro _
      rw [show ((0 : Nat) : Int) = 0 from rfl, rdV_0]
      exact ⟨⟨fun _ => rfl, by show (0 : Int) ≤ 0; omega, by show (0 : Int) ≤ 8; omega, fun _ j q1 q2 => absurd q2 (by show ¬ j < 0; omega)⟩, by show (0 : Int) ≤ 0; omega⟩
    | succ d ih =>
      intro h
      obtain ⟨⟨i1, i2, i3, i4⟩, i5⟩ := ih (by omega)
      have e : rdV T n cl f0 ((d : Int) + 1) = rdStep T n cl (d : Int) (rdV T n cl f0 (d : Int)) := itV_s _ _ (by omega)
      rw [show ((d + 1 : Nat) : Int) = (d : Int) + 1 from rfl, e]
      generalize rdV T n cl f0 (d : Int) = s at *
      unfold rdStep
      by_cases q : s.more = 0
      · rw [if_pos q]; exact ⟨⟨i1, i2, i3, i4⟩, by omega⟩
      · rw [if_neg q]
        have hg : ∀ j, 0 ≤ j → j < s.m + 1 → (cl (6 * s.m) s.a s.w s.f).2.1 = 0 → cond (cl (6 * s.m) s.a s.w s.f).2.2 (6 * j) := by
          intro j q1 q2 q3
          rcases (show j < s.m ∨ j = s.m by omega) with r | r
          · exact hlo _ _ _ _ _ (by omega) (by omega) (i4 (i1 q) j q1 r)
          · rw [r]; exact hat _ _ _ _ (by omega) q3
        by_cases q8 : s.m + 1 < 8
        · rw [if_pos q8]
          exact ⟨⟨fun hr => hasR_w hr, by show 0 ≤ s.m + 1; omega, by show s.m + 1 ≤ 8; omega, fun hw j q1 q2 => hg j q1 q2 hw⟩, by show s.m + 1 ≤ (d : Int) + 1; omega⟩
        · rw [if_neg q8]
          exact ⟨⟨fun hr => absurd rfl hr, by show 0 ≤ s.m + 1; omega, by show s.m + 1 ≤ 8; omega, fun hw j q1 q2 => hg j q1 q2 hw⟩, by show s.m + 1 ≤ (d : Int) + 1; omega⟩
  have hk := (key i.toNat (by omega)).1
  rw [show (i.toNat : Int) = i by omega] at hk
  exact hk
theorem rd_okB (T : Int → Int) (n : Int) (f0 : Int → Int) : rdOK beOK (rdV T n (bcl T n) f0 8) :=
  rd_ok (fun k a w f j _ h2 h3 => beOK_lo h2 h3) (fun k a w f _ h => beOK_at (bW6_0 h)) (by decide)
theorem rd_okS (T : Int → Int) (n : Int) (P : Int → Int) (nw : Int) (f0 : Int → Int) : rdOK seOK (rdV T n (scl T n P nw) f0 8) :=
  rd_ok (cl := scl T n P nw) (fun k a w f j _ h2 h3 => by
      unfold seOK
      show (0 ≤ fset (fset f k _) (k + 1) _ j ∧ fset (fset f k _) (k + 1) _ j ≤ 11) ∧ (0 ≤ fset (fset f k _) (k + 1) _ (j + 1) ∧ fset (fset f k _) (k + 1) _ (j + 1) ≤ 3)
      rw [fset_n (by omega), fset_n (by omega), fset_n (by omega), fset_n (by omega)]
      exact h3)
    (fun k a w f _ h => by
      have h0 := sW3_0 h
      have hk := kdV_r (sC T n (sD T n P nw f k a w) a w)
      have hk2 : sK T n (sD T n P nw f k a w) a w = kdV (sC T n (sD T n P nw f k a w) a w) := rfl
      have hn := numV_r T n (skV T n a) w
      have hw := numV_0 h0.1
      unfold seOK
      show (0 ≤ fset (fset f k _) (k + 1) _ k ∧ fset (fset f k _) (k + 1) _ k ≤ 11) ∧ (0 ≤ fset (fset f k _) (k + 1) _ (k + 1) ∧ fset (fset f k _) (k + 1) _ (k + 1) ≤ 3)
      rw [fset_n (by omega), fset_e, fset_e]
      omega) (by decide)
/-! what is done with the clauses -/
noncomputable def appM (M : St) (i : Int) : St := itV M (fun j X => upd2 (upd2 (upd2 (upd2 (upd2 X 0 (M 13 (6 * j)) (M 13 (6 * j + 1))) 2 (M 13 (6 * j)) (M 13 (6 * j + 2))) 3 (M 13 (6 * j)) (M 13 (6 * j + 3))) 4 (M 13 (6 * j)) (M 13 (6 * j + 4))) 1 (M 13 (6 * j)) (M 13 (6 * j + 5))) i
theorem appM_0 (M : St) : M = appM M 0 := (itV_0 _ _).symm
theorem appM_s (M : St) {i : Int} (h : 0 ≤ i) : appM M (i + 1) = upd2 (upd2 (upd2 (upd2 (upd2 (appM M i) 0 (M 13 (6 * i)) (M 13 (6 * i + 1))) 2 (M 13 (6 * i)) (M 13 (6 * i + 2))) 3 (M 13 (6 * i)) (M 13 (6 * i + 3))) 4 (M 13 (6 * i)) (M 13 (6 * i + 4))) 1 (M 13 (6 * i)) (M 13 (6 * i + 5)) := itV_s _ _ h
theorem appM_x (M : St) (i : Int) : eqx [0, 1, 2, 3, 4] M (appM M i) := by
  unfold appM
  exact itV_ind (fun X => eqx [0, 1, 2, 3, 4] M X) (eqx.rf _ _) (fun j X _ h => by
    intro k hk
    have hh := h k hk
    simp only [List.mem_cons, List.not_mem_nil, or_false] at hk
    rw [upd2_k (by omega), upd2_k (by omega), upd2_k (by omega), upd2_k (by omega), upd2_k (by omega)]
    exact hh) i
noncomputable def houM (M : St) (i : Int) : St := itV M (fun j X => comesM X (M 13 (6 * j)) (M 13 (6 * j + 1))) i
theorem houM_0 (M : St) : M = houM M 0 := (itV_0 _ _).symm
theorem houM_s (M : St) {i : Int} (h : 0 ≤ i) : houM M (i + 1) = comesM (houM M i) (M 13 (6 * i)) (M 13 (6 * i + 1)) := itV_s _ _ h
theorem comesM_x (M : St) (a b : Int) : eqx [7, 8] M (comesM M a b) := by
  intro k hk
  simp only [List.mem_cons, List.not_mem_nil, or_false] at hk
  unfold comesM
  rw [upd2_k (by omega), upd2_k (by omega), upd2_k (by omega), upd2_k (by omega)]
theorem houM_x (M : St) (i : Int) : eqx [7, 8] M (houM M i) := by
  unfold houM
  exact itV_ind (fun X => eqx [7, 8] M X) (eqx.rf _ _) (fun j X _ h => h.tr (comesM_x X _ _)) i
theorem comesM_7 (M : St) (a b : Int) : comesM M a b 7 0 = M 7 0 + 1 := by
  unfold comesM
  exact upd2_e
theorem houM_7 (M : St) : ∀ (d : Nat), houM M (d : Int) 7 0 = M 7 0 + (d : Int) := by
  intro d
  induction d with
  | zero =>
    rw [show ((0 : Nat) : Int) = 0 from rfl, ← houM_0, Int.add_zero]
  | succ d ih =>
    rw [show ((d + 1 : Nat) : Int) = (d : Int) + 1 from rfl, houM_s _ (by omega), comesM_7, ih]
    omega
theorem rd_bad1 {T : Int → Int} {n : Int} {s : RS} (h : ¬ s.w = 0) : s.a = rdA T n s ∧ 1 = rdW T n s ∧ -20 - s.a = rdR T n s := by
  have h1 : s.a = rdA T n s := by unfold rdA; exact (if_neg h).symm
  have h2 : 1 = rdW T n s := by unfold rdW; exact (if_neg h).symm
  refine ⟨h1, h2, ?_⟩
  unfold rdR
  rw [← h2, ← h1]
  exact (if_neg (by decide)).symm
theorem rd_bad2 {T : Int → Int} {n : Int} {s : RS} (h : s.w = 0) (hc : ¬ chV T n (skV T n s.a) = 0) : skV T n s.a = rdA T n s ∧ 1 = rdW T n s ∧ -20 - skV T n s.a = rdR T n s := by
  have h1 : skV T n s.a = rdA T n s := by unfold rdA; exact (if_pos h).symm
  have h2 : 1 = rdW T n s := by unfold rdW; rw [if_pos h, if_neg hc]
  refine ⟨h1, h2, ?_⟩
  unfold rdR
  rw [← h2, ← h1]
  exact (if_neg (by decide)).symm
theorem rd_good {T : Int → Int} {n : Int} {s : RS} (h : s.w = 0) (hc : chV T n (skV T n s.a) = 0) : skV T n s.a = rdA T n s ∧ 0 = rdW T n s ∧ s.m = rdR T n s := by
  have h1 : skV T n s.a = rdA T n s := by unfold rdA; exact (if_pos h).symm
  have h2 : 0 = rdW T n s := by unfold rdW; rw [if_pos h, if_pos hc]
  refine ⟨h1, h2, ?_⟩
  unfold rdR
  rw [← h2]
  exact (if_pos rfl).symm
theorem rdM_x (M : St) (s : RS) : eqx [10, 11, 12, 13] M (rdM M s) := by
  intro k hk
  simp only [List.mem_cons, List.not_mem_nil, or_false] at hk
  unfold rdM
  rw [upd2_k (by omega)]
  exact rM_x rfl k (by simp only [List.mem_cons, List.not_mem_nil, or_false]; omega)
theorem rdM_13 (M : St) (s : RS) : rdM M s 13 = s.f := by
  unfold rdM
  rw [upd2_k (by decide)]
  exact rM_13 rfl
theorem rdM_11 (M : St) (s : RS) : rdM M s 11 0 = rdA (M 9) (M 10 0) s := by
  unfold rdM
  rw [upd2_k (by decide)]
  exact rM_11 rfl
noncomputable def rbV (M : St) : RS := rdV (M 9) (M 10 0) (bcl (M 9) (M 10 0)) (M 13) 8
noncomputable def rsV (M : St) : RS := rdV (M 9) (M 10 0) (scl (M 9) (M 10 0) (pw M 0) (M 7 0)) (M 13) 8
theorem rdR_ok {T : Int → Int} {n : Int} {s : RS} {cond : (Int → Int) → Int → Prop} (hok : rdOK cond s) (hA : 0 ≤ rdA T n s) :
    rdR T n s ≤ 8 ∧ -20 - rdA T n s ≤ rdR T n s ∧ ∀ j, 0 ≤ j → j < rdR T n s → cond s.f (6 * j) := by
  obtain ⟨h1, h2, h3, h4⟩ := hok
  unfold rdR
  by_cases q : rdW T n s = 0
  · rw [if_pos q]
    refine ⟨h3, by omega, fun j q1 q2 => h4 ?_ j q1 q2⟩
    unfold rdW at q
    split at q
    · assumption
    · exact absurd q (by decide)
  · rw [if_neg q]
    exact ⟨by omega, by omega, fun j q1 q2 => absurd q2 (by omega)⟩
theorem appM_neg (M : St) {i : Int} (h : i ≤ 0) : appM M i = M := by
  have e : appM M i = appM M 0 := by
    unfold appM itV
    rw [show i.toNat = (0 : Int).toNat by omega]
  rw [e, ← appM_0]
theorem houM_neg (M : St) {i : Int} (h : i ≤ 0) : houM M i = M := by
  have e : houM M i = houM M 0 := by
    unfold houM itV
    rw [show i.toNat = (0 : Int).toNat by omega]
  rw [e, ← houM_0]
