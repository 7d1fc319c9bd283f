/-! ===== the component: arrays and calls ===== -/
set_option maxRecDepth 100000
theorem xW_bt {cs : Nat → ClassId} {B : Nat → Nat} {e0 : Nat} {X : St} {r : Nat} (hr : r < 3) : xW cs B e0 X (4 + r) = some (B (4 + r), .inl (cs 3, 16, .inr (.inr (.inr (.inr (fun b : Nat => some (B (40 + 16 * r + b)))))))) := by
  rcases (show r = 0 ∨ r = 1 ∨ r = 2 by omega) with rfl | rfl | rfl <;> rfl
theorem xW_la {cs : Nat → ClassId} {B : Nat → Nat} {e0 : Nat} {X : St} {r : Nat} (hr : r < 3) : xW cs B e0 X (7 + r) = some (B (7 + r), .inl (cs 0, 5, .inl (fun j : Nat => iv (X (10 * r + 6) (j : Int))))) := by
  rcases (show r = 0 ∨ r = 1 ∨ r = 2 by omega) with rfl | rfl | rfl <;> rfl
/-- the array of a list, if it has been made -/
theorem xW_e {cs : Nat → ClassId} {B : Nat → Nat} {e0 : Nat} {X : St} {j : Nat} (hj : j < 3) (h : ¬ X (56 + j) 0 = 0) : xW cs B e0 X (13 + j) = some ((X (71 + j) 0).toNat, .inl (cs 4, 10, .inr (.inr (.inr (.inr (fun k : Nat => if X (53 + j) (k : Int) < 0 then none else some (X (53 + j) (k : Int)).toNat)))))) := by
  rcases (show j = 0 ∨ j = 1 ∨ j = 2 by omega) with rfl | rfl | rfl <;> exact if_neg h
theorem xW_r {cs : Nat → ClassId} {B : Nat → Nat} {e0 : Nat} {X : St} {q : Nat} (hq : q < 4) (h : 0 ≤ X 65 (q : Int)) : xW cs B e0 X (27 + q) = some ((X 70 (q : Int)).toNat, .inl (cs (rowC (X 65 (q : Int))), (X 66 (q : Int)).toNat, .inl (fun k : Nat => iv (xRow X (q : Int) (k : Int))))) := by
  rcases (show q = 0 ∨ q = 1 ∨ q = 2 ∨ q = 3 by omega) with rfl | rfl | rfl | rfl <;> exact if_neg (Int.not_lt.mpr h)
/-- an int array of fixed role: its row and length -/
abbrev xIA (i k n : Nat) : Prop := (i = 18 ∧ k = 35 ∧ n = 32) ∨ (i = 19 ∧ k = 37 ∧ n = 48) ∨ (i = 20 ∧ k = 40 ∧ n = 32) ∨ (i = 21 ∧ k = 41 ∧ n = 48) ∨ (i = 7 ∧ k = 6 ∧ n = 5) ∨ (i = 8 ∧ k = 16 ∧ n = 5) ∨ (i = 9 ∧ k = 26 ∧ n = 5)
theorem xW_i {cs : Nat → ClassId} {B : Nat → Nat} {e0 : Nat} {X : St} {i k n : Nat} (h : xIA i k n) : xW cs B e0 X i = some (B i, .inl (cs 0, n, .inl (fun j : Nat => iv (X k (j : Int))))) := by
  rcases h with h | h | h | h | h | h | h <;> (obtain ⟨rfl, rfl, rfl⟩ := h; rfl)
theorem xS_i {cs : Nat → ClassId} {B : Nat → Nat} {e0 : Nat} {X : St} {i k n : Nat} (h : xIA i k n) {z : Int} (v : Int) (hz : 0 ≤ z ∧ z < (n : Int)) : wSt (xW cs B e0 X) (xW cs B e0 (upd2 X k z v)) i (B i) (.inl (cs 0, n, .inl (upd (fun j : Nat => iv (X k (j : Int))) (iv z).toNatClampNeg (iv v)))) := by
  have hn : n ≤ 48 := by omega
  refine ⟨by rw [xW_i h, upd_iv X k v (by omega)], fun j hj => xW_o X k z v (by unfold xsp; omega) ?_⟩
  rcases h with h | h | h | h | h | h | h <;> (obtain ⟨rfl, rfl, rfl⟩ := h; exact hj)
theorem xS_t {cs : Nat → ClassId} {B : Nat → Nat} {e0 : Nat} {X : St} {z : Int} (v : Int) (hz : 0 ≤ z ∧ z < 100) : wSt (xW cs B e0 X) (xW cs B e0 (upd2 X 30 z v)) 17 (B 17) (.inl (cs 1, 100, .inl (upd (fun j : Nat => iv (X 30 (j : Int))) (iv z).toNatClampNeg (iv v)))) := by
  refine ⟨?_, fun j hj => xW_o X 30 z v (by decide) hj⟩
  rw [upd_iv X 30 v (by omega)]
  rfl
theorem x_preV {s : State} {H : Heap} {D : va_G} {cs : Nat → ClassId} {B : Nat → Nat} {e0 : Nat} {A : Nat → Prop} {X : St} {As : List Value} {i ci b : Nat} {q : vw_C} {fs : List Value} (hk : xK D cs e0 A s H) (hP : wP D vwCl (xW cs B e0 X) H) (hD : wD A (xW cs B e0 X)) (he : xW cs B e0 X i = some (b, .inr (ci, fs))) (hc : vwCl[ci]? = some q) : PreV s H q.1 b (va_Pc (.ref b :: As) (xU D cs B e0 A X)) As :=
  ⟨fun a U g mk q => ⟨q.1, q.2.1, q.2.2.1, xK.same (u := U) (U := U.calling g mk a) rfl q.2.2.2⟩, x_recv hk.1 hP hc he, fun U hU hW => ⟨rfl, by rw [hU]; exact hP, hD, by rw [hU]; exact hk.warm hW⟩⟩
theorem x_preS {s : State} {H : Heap} {D : va_G} {cs : Nat → ClassId} {B : Nat → Nat} {e0 : Nat} {A : Nat → Prop} {X : St} {As : List Value} (hk : xK D cs e0 A s H) (hP : wP D vwCl (xW cs B e0 X) H) (hD : wD A (xW cs B e0 X)) : PreS s H (va_Pc As (xU D cs B e0 A X)) As :=
  ⟨fun a U g mk q => ⟨q.1, q.2.1, q.2.2.1, xK.same (u := U) (U := U.calling g mk a) rfl q.2.2.2⟩, fun U hU hW => ⟨rfl, by rw [hU]; exact hP, hD, by rw [hU]; exact hk.warm hW⟩⟩
section XA
variable {p : Program} {l : Launch} {e : Env} {R : Room} {s : State} {m : MethodId} {args : Array Value} {below : List Frame} {meth : Method} {c : Code} {H : Heap} {locs : List Loc} {cells slots : Nat} {Q : State → Prop}
variable {cc : ByteArray} {pc : Nat} {ls : Array Slot} {rest st : List Value} {D : va_G} {A : Nat → Prop} {H0 : Heap}
variable {cs : Nat → ClassId} {B : Nat → Nat} {e0 : Nat} {X : St}
variable {y : MethodName} {bytes : ByteArray} {maxL n index nL mc ms : Nat} {ret : Option FieldType} {rm : Room} {As : List Value} {own : String} {free : Addr → Prop}
theorem xa_ald (hx : p.tables.exec = Jvm.exec) (hb : c.code = cc) (hK : va_K D vwCl (xTys cs) s) (hP : wP D vwCl (xW cs B e0 X) H) {i k N : Nat} (hi : xIA i k N) {z : Int} (hz : 0 ≤ z ∧ z < (N : Int)) (d : decode cc pc = .ok (.iaload, 1)) (kk : W p l e R s m args below meth c H locs cells slots Q (F0 m (pc + 1) ls (.int (iv (X k z)) :: rest))) : W p l e R s m args below meth c H locs cells slots Q (F0 m pc ls (.int (iv z) :: .ref (B i) :: rest)) := by
  refine x_iald hx hb hK hP i 0 (xW_i hi) rfl (iv_in hz (by omega)) d ?_
  have h1 : (((iv z).toNatClampNeg : Nat) : Int) = z := by
    rw [iv_clamp (by omega)]
    omega
  show W p l e R s m args below meth c H locs cells slots Q (F0 m (pc + 1) ls (.int (iv (X k (((iv z).toNatClampNeg : Nat) : Int))) :: rest))
  rw [h1]
  exact kk
theorem xa_ast (hx : p.tables.exec = Jvm.exec) (hb : c.code = cc) (hK : va_K D vwCl (xTys cs) s) (hP : wP D vwCl (xW cs B e0 X) H) (hD : wD A (xW cs B e0 X)) (hS : va_S A H0 H locs) {i k N : Nat} (hi : xIA i k N) {z v : Int} (hz : 0 ≤ z ∧ z < (N : Int)) (d : decode cc pc = .ok (.iastore, 1)) (kk : ∀ (X1 : St), X1 = upd2 X k z v → ∀ (H1 : Heap) (locs1 : List Loc), wP D vwCl (xW cs B e0 X1) H1 → wD A (xW cs B e0 X1) → va_S A H0 H1 locs1 → W p l e R s m args below meth c H1 locs1 cells slots Q (F0 m (pc + 1) ls rest)) : W p l e R s m args below meth c H locs cells slots Q (F0 m pc ls (.int (iv v) :: .int (iv z) :: .ref (B i) :: rest)) :=
  x_iast hx hb hK hP hD hS i 0 (xW_i hi) rfl (iv_in hz (by omega)) (xW cs B e0 (upd2 X k z v)) (xS_i hi v hz) d (fun H1 locs1 => kk _ rfl H1 locs1)
theorem xa_tld (hx : p.tables.exec = Jvm.exec) (hb : c.code = cc) (hK : va_K D vwCl (xTys cs) s) (hP : wP D vwCl (xW cs B e0 X) H) {z : Int} (hz : 0 ≤ z ∧ z < 100) (d : decode cc pc = .ok (.baload, 1)) (kk : W p l e R s m args below meth c H locs cells slots Q (F0 m (pc + 1) ls (.int (iv (X 30 z)) :: rest))) : W p l e R s m args below meth c H locs cells slots Q (F0 m pc ls (.int (iv z) :: .ref (B 17) :: rest)) := by
  refine x_bald hx hb hK hP 17 1 rfl rfl (iv_in (n := 100) hz (by decide)) d ?_
  have h1 : (((iv z).toNatClampNeg : Nat) : Int) = z := by
    rw [iv_clamp (by omega)]
    omega
  show W p l e R s m args below meth c H locs cells slots Q (F0 m (pc + 1) ls (.int (iv (X 30 (((iv z).toNatClampNeg : Nat) : Int))) :: rest))
  rw [h1]
  exact kk
theorem xa_beat (hx : p.tables.exec = Jvm.exec) (hb : c.code = cc) (hK : va_K D vwCl (xTys cs) s) (hP : wP D vwCl (xW cs B e0 X) H) {r : Nat} (hr : r < 3) {z : Int} (hz : 0 ≤ z ∧ z < 16) (d : decode cc pc = .ok (.aaload, 1)) (kk : W p l e R s m args below meth c H locs cells slots Q (F0 m (pc + 1) ls (.ref (B (40 + (16 * r + z.toNat))) :: rest))) : W p l e R s m args below meth c H locs cells slots Q (F0 m pc ls (.int (iv z) :: .ref (B (4 + r)) :: rest)) := by
  refine x_aald hx hb hK hP (4 + r) 3 (xW_bt hr) rfl (iv_in (n := 16) hz (by decide)) d ?_
  show W p l e R s m args below meth c H locs cells slots Q (F0 m (pc + 1) ls (.ref (B (40 + 16 * r + (iv z).toNatClampNeg)) :: rest))
  rw [iv_clamp (by omega), show 40 + 16 * r + z.toNat = 40 + (16 * r + z.toNat) by omega]
  exact kk
theorem xa_sheet (hx : p.tables.exec = Jvm.exec) (hb : c.code = cc) (hK : va_K D vwCl (xTys cs) s) (hP : wP D vwCl (xW cs B e0 X) H) {z : Int} (hz : 0 ≤ z ∧ z < 4) (d : decode cc pc = .ok (.aaload, 1)) (kk : W p l e R s m args below meth c H locs cells slots Q (F0 m (pc + 1) ls (.ref (B (23 + z.toNat)) :: rest))) : W p l e R s m args below meth c H locs cells slots Q (F0 m pc ls (.int (iv z) :: .ref (B 22) :: rest)) := by
  refine x_aald hx hb hK hP 22 5 rfl rfl (iv_in (n := 4) hz (by decide)) d ?_
  show W p l e R s m args below meth c H locs cells slots Q (F0 m (pc + 1) ls (.ref (B (23 + (iv z).toNatClampNeg)) :: rest))
  rw [iv_clamp (by omega)]
  exact kk
/-! calls on an object of the component -/
theorem c_cR {r : Int32} {i ci b : Nat} {q : vw_C} {fs : List Value} (S : CallFix p m c cc nL s args lw_all own) (hM : Met l y (ws_ y bytes maxL ret) rm (va_Pc (.ref b :: As) (xU D cs B e0 A X)) (QcRead r) 0 0 (fun _ => False)) (hk : xK D cs e0 A s H) (hP : wP D vwCl (xW cs B e0 X) H) (hD : wD A (xW cs B e0 X)) (he : xW cs B e0 X i = some (b, .inr (ci, fs))) (hc : vwCl[ci]? = some q) (cw : CallW R s args own q.1 index y bytes maxL ret (ws_ y bytes maxL ret) rm 0 0 n) (hn : As.length = n) (hsize : ls.size = nL) (hst : st = As.reverse ++ .ref b :: rest) (hroom : (rest.map fun v => v.category).sum ≤ 8) (hf : cells ≤ R.cells ∧ slots ≤ R.slots) (d : decode cc pc = .ok (.invokevirtual index, 3)) (k : W p l e R s m args below meth c H locs cells slots Q (F0 m (pc + 3) ls (.int r :: rest))) : W p l e R s m args below meth c H locs cells slots Q (F0 m pc ls st) :=
  W.callR (W.runV (g := F0 m pc ls st) S hM cw (x_preV hk hP hD he hc) rfl hn hsize hst (lv_room (pc := pc) (ls := ls) (m := m) (rest := st) hroom) d hf) k
theorem c_cI {post : Int32 → St → Prop} {i ci b : Nat} {q : vw_C} {fs : List Value} (S : CallFix p m c cc nL s args lw_all own) (hM : Met l y (ws_ y bytes maxL ret) rm (va_Pc (.ref b :: As) (xU D cs B e0 A X)) (va_Qi post (xB D cs B e0 A) A) mc ms A) (hk : xK D cs e0 A s H) (hP : wP D vwCl (xW cs B e0 X) H) (hD : wD A (xW cs B e0 X)) (hS : va_S A H0 H locs) (he : xW cs B e0 X i = some (b, .inr (ci, fs))) (hc : vwCl[ci]? = some q) (cw : CallW R s args own q.1 index y bytes maxL ret (ws_ y bytes maxL ret) rm mc ms n) (hn : As.length = n) (hsize : ls.size = nL) (hst : st = As.reverse ++ .ref b :: rest) (hroom : (rest.map fun v => v.category).sum ≤ 8) (hf : cells + mc ≤ R.cells ∧ slots + ms ≤ R.slots) (d : decode cc pc = .ok (.invokevirtual index, 3)) (k : ∀ (r : Int32) (X1 : St) (H1 : Heap) (locs1 : List Loc), post r X1 → wP D vwCl (xW cs B e0 X1) H1 → wD A (xW cs B e0 X1) → va_S A H0 H1 locs1 → W p l e R s m args below meth c H1 locs1 (cells + mc) (slots + ms) Q (F0 m (pc + 3) ls (.int r :: rest))) : W p l e R s m args below meth c H locs cells slots Q (F0 m pc ls st) :=
  va_calli (va_runV (g := F0 m pc ls st) S hM cw (x_preV hk hP hD he hc) rfl hn hsize hst (lv_room (pc := pc) (ls := ls) (m := m) (rest := st) hroom) d hf) hS (fun _ _ h => h) (fun _ h => h) (fun r u t H1 locs1 ht _ hp hB _ _ hS => k r u H1 locs1 hp (ht ▸ hB.1) hB.2 hS)
theorem c_cV {post : St → Prop} {i ci b : Nat} {q : vw_C} {fs : List Value} (S : CallFix p m c cc nL s args lw_all own) (hM : Met l y (ws_ y bytes maxL ret) rm (va_Pc (.ref b :: As) (xU D cs B e0 A X)) (va_Qv post (xB D cs B e0 A) A) mc ms A) (hk : xK D cs e0 A s H) (hP : wP D vwCl (xW cs B e0 X) H) (hD : wD A (xW cs B e0 X)) (hS : va_S A H0 H locs) (he : xW cs B e0 X i = some (b, .inr (ci, fs))) (hc : vwCl[ci]? = some q) (cw : CallW R s args own q.1 index y bytes maxL ret (ws_ y bytes maxL ret) rm mc ms n) (hn : As.length = n) (hsize : ls.size = nL) (hst : st = As.reverse ++ .ref b :: rest) (hroom : (rest.map fun v => v.category).sum ≤ 8) (hf : cells + mc ≤ R.cells ∧ slots + ms ≤ R.slots) (d : decode cc pc = .ok (.invokevirtual index, 3)) (k : ∀ (X1 : St) (H1 : Heap) (locs1 : List Loc), post X1 → wP D vwCl (xW cs B e0 X1) H1 → wD A (xW cs B e0 X1) → va_S A H0 H1 locs1 → W p l e R s m args below meth c H1 locs1 (cells + mc) (slots + ms) Q (F0 m (pc + 3) ls rest)) : W p l e R s m args below meth c H locs cells slots Q (F0 m pc ls st) :=
  va_callv (va_runV (g := F0 m pc ls st) S hM cw (x_preV hk hP hD he hc) rfl hn hsize hst (lv_room (pc := pc) (ls := ls) (m := m) (rest := st) hroom) d hf) hS (fun _ _ h => h) (fun _ h => h) (fun u t H1 locs1 ht _ hp hB _ _ hS => k u H1 locs1 hp (ht ▸ hB.1) hB.2 hS)
end XA
