set_option maxRecDepth 100000
set_option maxHeartbeats 4000000 in
set_option maxRecDepth 100000 in
theorem c_kind_0 {l : Launch} {D : va_G} {cs : Nat → ClassId} {B : Nat → Nat} {e0 : Nat} {A : Nat → Prop} {M : St} (hI : InvX M) {b : Nat}   : Met l yX4_kind (ws_ yX4_kind cX4_kind 1 (some .int)) (rmk 1 0 0) (va_Pc [.ref (b)] (xU D cs B e0 A M)) (QcRead (iv (0))) 0 0 (fun _ => False) := by
  refine r_met (by decide) _ rfl (Nat.le_of_ble_eq_true rfl) ?_
  intro p e s m args below meth c Q ls hx hb hr hlk hml hown hts hpre hQ hl
  obtain ⟨hP, hD, hk0⟩ := hpre
  have hS : va_S A s.heap s.heap [] := va_S.rf
  have hown : s.vm.findClass RX4 = some m.cls := hown
  have hl : lv_has ls 1 [(0, .ref (b))] := hl
  refine r_iconst hx hb dX4_kind_0 ?_
  exact r_iretR hx hb hr hlk hQ (congrArg iv (by rfl)) dX4_kind_1
set_option maxHeartbeats 4000000 in
set_option maxRecDepth 100000 in
theorem c_kind_1 {l : Launch} {D : va_G} {cs : Nat → ClassId} {B : Nat → Nat} {e0 : Nat} {A : Nat → Prop} {M : St} (hI : InvX M) {b : Nat}   : Met l yX7_kind (ws_ yX7_kind cX7_kind 1 (some .int)) (rmk 1 0 0) (va_Pc [.ref (b)] (xU D cs B e0 A M)) (QcRead (iv (1))) 0 0 (fun _ => False) := by
  refine r_met (by decide) _ rfl (Nat.le_of_ble_eq_true rfl) ?_
  intro p e s m args below meth c Q ls hx hb hr hlk hml hown hts hpre hQ hl
  obtain ⟨hP, hD, hk0⟩ := hpre
  have hS : va_S A s.heap s.heap [] := va_S.rf
  have hown : s.vm.findClass RX7 = some m.cls := hown
  have hl : lv_has ls 1 [(0, .ref (b))] := hl
  refine r_iconst hx hb dX7_kind_0 ?_
  exact r_iretR hx hb hr hlk hQ (congrArg iv (by rfl)) dX7_kind_1
set_option maxHeartbeats 4000000 in
set_option maxRecDepth 100000 in
theorem c_kind_2 {l : Launch} {D : va_G} {cs : Nat → ClassId} {B : Nat → Nat} {e0 : Nat} {A : Nat → Prop} {M : St} (hI : InvX M) {b : Nat}   : Met l yX8_kind (ws_ yX8_kind cX8_kind 1 (some .int)) (rmk 1 0 0) (va_Pc [.ref (b)] (xU D cs B e0 A M)) (QcRead (iv (2))) 0 0 (fun _ => False) := by
  refine r_met (by decide) _ rfl (Nat.le_of_ble_eq_true rfl) ?_
  intro p e s m args below meth c Q ls hx hb hr hlk hml hown hts hpre hQ hl
  obtain ⟨hP, hD, hk0⟩ := hpre
  have hS : va_S A s.heap s.heap [] := va_S.rf
  have hown : s.vm.findClass RX8 = some m.cls := hown
  have hl : lv_has ls 1 [(0, .ref (b))] := hl
  refine r_iconst hx hb dX8_kind_0 ?_
  exact r_iretR hx hb hr hlk hQ (congrArg iv (by rfl)) dX8_kind_1
set_option maxHeartbeats 4000000 in
set_option maxRecDepth 100000 in
theorem c_kind_3 {l : Launch} {D : va_G} {cs : Nat → ClassId} {B : Nat → Nat} {e0 : Nat} {A : Nat → Prop} {M : St} (hI : InvX M) {b : Nat}   : Met l yX9_kind (ws_ yX9_kind cX9_kind 1 (some .int)) (rmk 1 0 0) (va_Pc [.ref (b)] (xU D cs B e0 A M)) (QcRead (iv (3))) 0 0 (fun _ => False) := by
  refine r_met (by decide) _ rfl (Nat.le_of_ble_eq_true rfl) ?_
  intro p e s m args below meth c Q ls hx hb hr hlk hml hown hts hpre hQ hl
  obtain ⟨hP, hD, hk0⟩ := hpre
  have hS : va_S A s.heap s.heap [] := va_S.rf
  have hown : s.vm.findClass RX9 = some m.cls := hown
  have hl : lv_has ls 1 [(0, .ref (b))] := hl
  refine r_iconst hx hb dX9_kind_0 ?_
  exact r_iretR hx hb hr hlk hQ (congrArg iv (by rfl)) dX9_kind_1
set_option maxHeartbeats 4000000 in
set_option maxRecDepth 100000 in
theorem c_listens_1 {l : Launch} {D : va_G} {cs : Nat → ClassId} {B : Nat → Nat} {e0 : Nat} {A : Nat → Prop} {M : St} (hI : InvX M) {b : Nat}   : Met l yX4_listens (ws_ yX4_listens cX4_listens 1 (some .boolean)) (rmk 1 0 0) (va_Pc [.ref (b)] (xU D cs B e0 A M)) (QcRead (iv (1))) 0 0 (fun _ => False) := by
  refine r_met (by decide) _ rfl (Nat.le_of_ble_eq_true rfl) ?_
  intro p e s m args below meth c Q ls hx hb hr hlk hml hown hts hpre hQ hl
  obtain ⟨hP, hD, hk0⟩ := hpre
  have hS : va_S A s.heap s.heap [] := va_S.rf
  have hown : s.vm.findClass RX4 = some m.cls := hown
  have hl : lv_has ls 1 [(0, .ref (b))] := hl
  refine r_iconst hx hb dX4_listens_0 ?_
  exact r_zretR hx hb hr hlk hQ (by decide) (congrArg iv (by rfl)) dX4_listens_1
set_option maxHeartbeats 4000000 in
set_option maxRecDepth 100000 in
theorem c_listens_0 {l : Launch} {D : va_G} {cs : Nat → ClassId} {B : Nat → Nat} {e0 : Nat} {A : Nat → Prop} {M : St} (hI : InvX M) {b : Nat}   : Met l yX8_listens (ws_ yX8_listens cX8_listens 1 (some .boolean)) (rmk 1 0 0) (va_Pc [.ref (b)] (xU D cs B e0 A M)) (QcRead (iv (0))) 0 0 (fun _ => False) := by
  refine r_met (by decide) _ rfl (Nat.le_of_ble_eq_true rfl) ?_
  intro p e s m args below meth c Q ls hx hb hr hlk hml hown hts hpre hQ hl
  obtain ⟨hP, hD, hk0⟩ := hpre
  have hS : va_S A s.heap s.heap [] := va_S.rf
  have hown : s.vm.findClass RX8 = some m.cls := hown
  have hl : lv_has ls 1 [(0, .ref (b))] := hl
  refine r_iconst hx hb dX8_listens_0 ?_
  exact r_zretR hx hb hr hlk hQ (by decide) (congrArg iv (by rfl)) dX8_listens_1
