/-! ===== more rows over worlds by roles: references, new cells ===== -/
theorem wP.new {D : va_G} {cl : List vw_C} {w w' : wT} {i q : Nat} {e : va_E} {H H1 : Heap} (h : wP D cl w H) (hs : wSt w w' i q e) (he : va_at D cl (q, e) H1) (hk : ∀ x : Nat, x < H.size → H1[x]? = H[x]?) : wP D cl w' H1 := by
  intro j p hj
  by_cases hji : j = i
  · subst hji
    rw [hs.1] at hj
    cases hj
    exact he
  · rw [hs.2 j hji] at hj
    exact (h j p hj).kept (hk p.1 (h.lt hj))
theorem wD.new {A : Nat → Prop} {w w' : wT} {i q : Nat} {e : va_E} (hD : wD A w) (hs : wSt w w' i q e) (hq : ∀ (j : Nat) (p : Nat × va_E), w j = some p → p.1 ≠ q) (hA : A q) : wD A w' := by
  have key : ∀ (j : Nat) (p : Nat × va_E), w' j = some p → (j = i ∧ p.1 = q) ∨ (j ≠ i ∧ w j = some p) := by
    intro j p hj
    by_cases hji : j = i
    · subst hji
      rw [hs.1] at hj
      cases hj
      exact Or.inl ⟨rfl, rfl⟩
    · rw [hs.2 j hji] at hj
      exact Or.inr ⟨hji, hj⟩
  refine ⟨fun j k x y h1 h2 hxy => ?_, fun j x hj => ?_⟩
  · rcases key j x h1 with ⟨a1, a2⟩ | ⟨a1, a2⟩ <;> rcases key k y h2 with ⟨b1, b2⟩ | ⟨b1, b2⟩
    · exact a1.trans b1.symm
    · exact absurd (hxy.symm.trans a2) (hq k y b2)
    · exact absurd (hxy.trans b2) (hq j x a2)
    · exact hD.1 j k x y a2 b2 hxy
  · rcases key j x hj with ⟨a1, a2⟩ | ⟨a1, a2⟩
    · rw [a2]; exact hA
    · exact hD.2 j x a2
/-- a role that is dropped -/
def wDr (w w' : wT) (i : Nat) : Prop := w' i = none ∧ ∀ j : Nat, j ≠ i → w' j = w j
theorem wP.drop {D : va_G} {cl : List vw_C} {w w' : wT} {i : Nat} {H : Heap} (h : wP D cl w H) (hs : wDr w w' i) : wP D cl w' H := by
  intro j p hj
  by_cases hji : j = i
  · subst hji
    rw [hs.1] at hj
    cases hj
  · rw [hs.2 j hji] at hj
    exact h j p hj
theorem wD.drop {A : Nat → Prop} {w w' : wT} {i : Nat} (hD : wD A w) (hs : wDr w w' i) : wD A w' := by
  have key : ∀ (j : Nat) (p : Nat × va_E), w' j = some p → w j = some p := by
    intro j p hj
    by_cases hji : j = i
    · subst hji
      rw [hs.1] at hj
      cases hj
    · rw [hs.2 j hji] at hj
      exact hj
  exact ⟨fun j k x y h1 h2 => hD.1 j k x y (key j x h1) (key k y h2), fun j x hj => hD.2 j x (key j x hj)⟩
section XR
variable {p : Program} {l : Launch} {e : Env} {R : Room} {s : State} {m : MethodId} {args : Array Value} {below : List Frame} {meth : Method} {c : Code} {H : Heap} {locs : List Loc} {cells slots : Nat} {Q : State → Prop}
variable {cc : ByteArray} {pc : Nat} {ls : Array Slot} {rest : List Value} {D : va_G} {cl : List vw_C} {A : Nat → Prop} {a : Nat} {tys : List (ClassId × FieldType)} {w : wT} {H0 : Heap}
theorem x_aald (hexec : p.tables.exec = Jvm.exec) (hb : c.code = cc) (hK : va_K D cl tys s) (hP : wP D cl w H) (i t0 : Nat) {cA : ClassId} {C : String} {n : Nat} {f : Nat → Option Nat} (ha : w i = some (a, .inl (cA, n, .inr (.inr (.inr (.inr f)))))) (ht : tys[t0]? = some (cA, .object C)) {j : Int32} (hin : vp_in j n) (hdg : decode cc pc = .ok (.aaload, 1))
    (kk : W p l e R s m args below meth c H locs cells slots Q (F0 m (pc + 1) ls (va_rf (f j.toNatClampNeg) :: rest))) : W p l e R s m args below meth c H locs cells slots Q (F0 m pc ls (.int j :: .ref a :: rest)) := by
  have hlt : j.toNatClampNeg < n := Nat.not_le.mp fun q => hin (Or.inr q)
  exact W.aald (v := va_rf (f j.toNatClampNeg)) (ty := .object C) hexec hb (hP i _ ha) ((hK.2 t0 _ ht).1 n (fun j => va_rf (f j))) rfl (fun q => by cases q) (by show ¬ (j < 0 ∨ (arrV _ _ _).slots.size ≤ _); rw [arrV_size]; exact hin) (by show (arrV _ _ _).slots[_]? = _; rw [arrV_read _ _ hlt]) rfl rfl hdg kk
theorem x_aast (hexec : p.tables.exec = Jvm.exec) (hb : c.code = cc) (hK : va_K D cl tys s) (hP : wP D cl w H) (hD : wD A w) (hS : va_S A H0 H locs) (i t0 k ci : Nat) {E : String} {cA : ClassId} {r : vw_C} {n v : Nat} {vs : List Value} {f : Nat → Option Nat} (ha : w i = some (a, .inl (cA, n, .inr (.inr (.inr (.inr f)))))) (ht : tys[t0]? = some (cA, .object E)) (hca : r.1 = E ∨ va_Nw (.castable r.1 E) s) (hv : w k = some (v, .inr (ci, vs))) (hc : cl[ci]? = some r) {j : Int32} (hin : vp_in j n) (w' : wT) (hw : wSt w w' i a (.inl (cA, n, .inr (.inr (.inr (.inr (va_up f j.toNatClampNeg (some v)))))))) (hdg : decode cc pc = .ok (.aastore, 1))
    (kk : ∀ (H1 : Heap) (locs1 : List Loc), wP D cl w' H1 → wD A w' → va_S A H0 H1 locs1 → W p l e R s m args below meth c H1 locs1 cells slots Q (F0 m (pc + 1) ls rest)) : W p l e R s m args below meth c H locs cells slots Q (F0 m pc ls (.ref v :: .int j :: .ref a :: rest)) := by
  have hlt : j.toNatClampNeg < n := Nat.not_le.mp fun q => hin (Or.inr q)
  have h0 : ¬ j < 0 := fun q => hin (Or.inl q)
  obtain ⟨r', hr', cellV, g1, g2, g3, -⟩ := hP k _ hv
  have hcls := (hK.1 ci r hc).2
  obtain ⟨kA, comp, k1, k2, k3, -⟩ := (hK.2 t0 _ ht).2
  obtain ⟨kE, hkE, -⟩ := Vm.findClass_spec k3
  have hasg : s.vm.assignable (D.1 ci) comp = true := by
    rcases hca with hca | hca
    · have hcomp : comp = D.1 ci := Option.some.inj (k3.symm.trans (hca ▸ hcls.1))
      rw [hcomp]
      exact va_assign hcls
    · obtain ⟨c0, t1, f1, f2, f3⟩ := Cond.castable_spec (va_Nw.use (A := args) rfl hca)
      cases hcls.1.symm.trans f1
      cases k3.symm.trans f2
      exact f3
  obtain ⟨kC, hkC, -⟩ := hcls.2
  refine W.aast hexec hb (hP i _ ha) (fun q h => by cases h) (fun h => by cases h) k1 k2 rfl hkE ⟨h0, by show _ < (arrV _ _ _).slots.size; rw [arrV_size]; exact hlt⟩ g1 (fun q h => by rw [g3] at h; cases h) (by rw [g2]; exact hkC) (by rw [g2]; exact hasg) rfl rfl hdg fun H1 e z oq => ?_
  refine kk H1 _ (hP.set hD ha hw ?_ oq) (hD.set ha hw) (hS.put z oq (hD.2 i _ ha))
  show H1[a]? = some (vp_cell _ _)
  rw [e]
  rw [vp_cell_q, vp_cell_q, arrV_store]
  congr 2
  funext q
  by_cases hq : q = j.toNatClampNeg
  · subst hq
    simp [updV, va_up, va_rf]
  · simp [updV, va_up, hq]
theorem x_aastN (hexec : p.tables.exec = Jvm.exec) (hb : c.code = cc) (hK : va_K D cl tys s) (hP : wP D cl w H) (hD : wD A w) (hS : va_S A H0 H locs) (i t0 : Nat) {cA : ClassId} {C : String} {n : Nat} {f : Nat → Option Nat} (ha : w i = some (a, .inl (cA, n, .inr (.inr (.inr (.inr f)))))) (ht : tys[t0]? = some (cA, .object C)) {j : Int32} (hin : vp_in j n) (w' : wT) (hw : wSt w w' i a (.inl (cA, n, .inr (.inr (.inr (.inr (va_up f j.toNatClampNeg none))))))) (hdg : decode cc pc = .ok (.aastore, 1))
    (kk : ∀ (H1 : Heap) (locs1 : List Loc), wP D cl w' H1 → wD A w' → va_S A H0 H1 locs1 → W p l e R s m args below meth c H1 locs1 cells slots Q (F0 m (pc + 1) ls rest)) : W p l e R s m args below meth c H locs cells slots Q (F0 m pc ls (.null :: .int j :: .ref a :: rest)) := by
  refine va_WaastN (C := C) hexec hb (hP i _ ha) ((hK.2 t0 _ ht).1 n (fun j => va_rf (f j))) (fun h => by cases h) (by show ¬ (j < 0 ∨ (arrV _ _ _).slots.size ≤ _); rw [arrV_size]; exact hin) rfl rfl hdg fun H1 e z oq => ?_
  refine kk H1 _ (hP.set hD ha hw ?_ oq) (hD.set ha hw) (hS.put z oq (hD.2 i _ ha))
  show H1[a]? = some (vp_cell _ _)
  rw [e]
  rw [vp_cell_q, vp_cell_q, arrV_store]
  congr 2
  funext q
  by_cases hq : q = j.toNatClampNeg
  · subst hq
    simp [updV, va_up, va_rf]
  · simp [updV, va_up, hq]
theorem x_fresh {D : va_G} {cl : List vw_C} {w : wT} {H : Heap} (hP : wP D cl w H) : ∀ (j : Nat) (p : Nat × va_E), w j = some p → p.1 ≠ H.size := fun j p hj => Nat.ne_of_lt (hP.lt hj)
/-- a new array of a primitive type -/
theorem x_newa (hexec : p.tables.exec = Jvm.exec) (hb : c.code = cc) {atype : ArrayType} {ty : FieldType} (hty : newarray.typeOf atype = ty) (harr : (Cond.arrayClass ty).before args s = true) {cA : ClassId} (hcA : s.vm.findClass ("[" ++ ty.toString) = some cA) (hP : wP D cl w H) (hD : wD A w) (hS : va_S A H0 H locs) (hA : ∀ q, H0.size ≤ q → A q)
    {n : Int32} {N' : Nat} {a0 : vp_A} (ha : vp_cell cA a0 = arrV cA N' (fun _ => defaultValue ty)) (hn : ¬ n < 0) (hN : n.toNatClampNeg = N') (hbytes : N' * componentBytes ty ≤ 536870912) (hcells : cells + 1 ≤ R.cells) (hslots : slots + N' ≤ R.slots) (hdg : decode cc pc = .ok (.newarray atype, 2))
    (kk : ∀ (q : Nat) (H1 : Heap), (∀ (j : Nat) (p : Nat × va_E), w j = some p → p.1 ≠ q) → (∀ (i : Nat) (w' : wT), wSt w w' i q (.inl (cA, a0)) → wP D cl w' H1 ∧ wD A w') → va_S A H0 H1 locs → W p l e R s m args below meth c H1 locs (cells + 1) (slots + N') Q (F0 m (pc + 2) ls (.ref q :: rest))) : W p l e R s m args below meth c H locs cells slots Q (F0 m pc ls (.int n :: rest)) := by
  subst hty
  refine va_newaK hexec hb harr rfl hdg rfl hn hN hbytes hcells hslots rfl fun H1 cA' e1 z1 o1 hAr hNm => ?_
  have hcc : cA' = cA := Option.some.inj (hNm.symm.trans hcA)
  subst hcc
  refine kk H.size H1 (x_fresh hP) (fun i w' hw => ⟨hP.new hw ?_ o1, hD.new hw (x_fresh hP) (hA _ hS.1)⟩) ⟨Nat.le_trans hS.1 (by omega), fun x h1 h2 => (o1 x (Nat.lt_of_lt_of_le h1 hS.1)).trans (hS.2.1 x h1 h2), hS.2.2⟩
  show H1[H.size]? = some (vp_cell _ _)
  rw [ha]
  exact e1
/-- a new array of references -/
theorem x_newq (hexec : p.tables.exec = Jvm.exec) (hb : c.code = cc) {own C : String} {index : Nat} (hown : s.vm.findClass own = some m.cls) (hclink : (Cond.classLink own index C).before args s = true) (hover : va_AO C s) {cA : ClassId} (hcA : s.vm.findClass ("[" ++ (FieldType.object C).toString) = some cA) (hP : wP D cl w H) (hD : wD A w) (hS : va_S A H0 H locs) (hA : ∀ q, H0.size ≤ q → A q)
    {n : Int32} {N' : Nat} (hn : ¬ n < 0) (hN : n.toNatClampNeg = N') (hbytes : N' * 4 ≤ 536870912) (hcells : cells + 1 ≤ R.cells) (hslots : slots + N' ≤ R.slots) (hdg : decode cc pc = .ok (.anewarray index, 3))
    (kk : ∀ (q : Nat) (H1 : Heap), (∀ (j : Nat) (p : Nat × va_E), w j = some p → p.1 ≠ q) → (∀ (i : Nat) (w' : wT), wSt w w' i q (.inl (cA, N', .inr (.inr (.inr (.inr (fun _ => none)))))) → wP D cl w' H1 ∧ wD A w') → va_S A H0 H1 locs → W p l e R s m args below meth c H1 locs (cells + 1) (slots + N') Q (F0 m (pc + 3) ls (.ref q :: rest))) : W p l e R s m args below meth c H locs cells slots Q (F0 m pc ls (.int n :: rest)) := by
  subst hN
  refine W.anew hexec hb hown hclink (va_AO.use hover) rfl hdg rfl hn hbytes hcells hslots fun cA' kA comp f1 f2 f3 f4 => ?_
  have hcc : cA' = cA := Option.some.inj (f1.symm.trans hcA)
  subst hcc
  generalize hH1 : H.push ({ cls := cA', slots := Array.replicate n.toNatClampNeg .null, vm := .none } : Cell) = H1
  have z1 : H1.size = H.size + 1 := by rw [← hH1, Array.size_push]
  have e1 : H1[H.size]? = some (arrV cA' n.toNatClampNeg (fun _ => .null)) := by rw [← hH1, Array.getElem?_push_size, ← arrV_new]
  have o1 : ∀ q : Nat, q < H.size → H1[q]? = H[q]? := fun q hq => by rw [← hH1, Array.getElem?_push, if_neg (Nat.ne_of_lt hq)]
  refine kk H.size H1 (x_fresh hP) (fun i w' hw => ⟨hP.new hw ?_ o1, hD.new hw (x_fresh hP) (hA _ hS.1)⟩) ⟨Nat.le_trans hS.1 (by omega), fun x h1 h2 => (o1 x (Nat.lt_of_lt_of_le h1 hS.1)).trans (hS.2.1 x h1 h2), hS.2.2⟩
  show H1[H.size]? = some (vp_cell _ _)
  rw [vp_cell_q]
  exact e1
/-- a new object -/
theorem x_new {c0 : Code} (hexec : p.tables.exec = Jvm.exec) (hb : c0.code = cc) {own C : String} {T : u_T} {N ci index : Nat} {Ts : List Cond} (hts : ∀ w ∈ Ts, w.before args s = true) (hin : ∀ w ∈ u_ws C T N, w ∈ Ts) (ty : Nat → FieldType) (hty : ∀ k, k < N → parseFieldDescriptor (T k).2.2.1 = some (ty k)) (hown : s.vm.findClass own = some m.cls) (hcl : (Cond.classLink own index C).before args s = true) (hinst : (Cond.instantiable C N).before args s = true) (hini : (Cond.initialized C).before args s = true)
    (hK : va_K D cl tys s) (hP : wP D cl w H) (hD : wD A w) (hS : va_S A H0 H locs) (hA : ∀ q, H0.size ≤ q → A q) (hc : cl[ci]? = some (C, T, N)) {fs : List Value} (hfs : ∀ j, j < N → defaultValue (ty j) = vp_V fs j) (hcells : cells + 1 ≤ R.cells) (hslots : slots + N ≤ R.slots) (hdg : decode cc pc = .ok (.new index, 3))
    (kk : ∀ (q : Nat) (H1 : Heap), (∀ (j : Nat) (p : Nat × va_E), w j = some p → p.1 ≠ q) → (∀ (i : Nat) (w' : wT), wSt w w' i q (.inr (ci, fs)) → wP D cl w' H1 ∧ wD A w') → va_S A H0 H1 locs →
      W p l e R s m args below meth c0 H1 locs (cells + 1) (slots + N) Q (F0 m (pc + 3) ls (.ref q :: rest))) : W p l e R s m args below meth c0 H locs cells slots Q (F0 m pc ls rest) := by
  have hKn := hK.1 ci _ hc
  refine W.newcK hexec hb hown hcl hinst hini rfl hdg hcells hslots hKn.2.1 rfl fun H1 kC hkC e1 z1 o1 => ?_
  exact kk H.size H1 (x_fresh hP) (fun i w' hw => ⟨hP.new hw ⟨_, hc, (u_born ty hts hin hKn hkC e1 hty).to hfs⟩ o1, hD.new hw (x_fresh hP) (hA _ hS.1)⟩) ⟨Nat.le_trans hS.1 (by omega), fun x h1 h2 => (o1 x (Nat.lt_of_lt_of_le h1 hS.1)).trans (hS.2.1 x h1 h2), hS.2.2⟩
end XR
