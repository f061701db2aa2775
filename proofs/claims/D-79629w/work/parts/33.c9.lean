def wp_X6_kind (Q : Prop) : Prop := Q
set_option maxHeartbeats 4000000 in
set_option maxRecDepth 100000 in
theorem met_X6_kind (l : Launch) (hl0 : l.stackTraces = false) (d : g_D) (ob : Nat) (xs : Int32) (xp : Option Nat) (Q : Prop) (hw : wp_X6_kind Q) : g_Met l d yX6_kind cX6_kind 1 (Option.some (FieldType.object "GraphModules$Kind")) ({ frames := 0, cells := 0, slots := 0, locals := 0 } : Room) [.ref ob] [[(ob, .inr (5, [.int xs, va_rf xp]))]] 0 0 (fun v w1 => v = some (.ref (d.2.2 0)) ∧ w1 = [[(ob, .inr (5, [.int xs, va_rf xp]))]] ∧ Q) := by
  refine g_enter (by decide) (Nat.le_of_ble_eq_true rfl) ?_
  intro p e s m args below meth c A ls hF hH hl hin
  have hF : g_F p m c cX6_kind 1 s args RX6 meth (Option.some (FieldType.object "GraphModules$Kind")) := hF
  have hl : lv_has ls 1 [(0, .ref ob)] := hl
  unfold wp_X6_kind at hw
  refine g_gets (v := .ref (d.2.2 0)) hF hH (g_zk hH (i := 0) (by decide)).1 q737 (fun _ h9 => h9) dX6_kind_0 ?_
  exact g_aret hF (Or.inl ⟨_, rfl⟩) (Or.inr ⟨_, rfl⟩) hH ⟨rfl, rfl, hw⟩ dX6_kind_3

def wp_X7_kind (Q : Prop) : Prop := Q
set_option maxHeartbeats 4000000 in
set_option maxRecDepth 100000 in
theorem met_X7_kind (l : Launch) (hl0 : l.stackTraces = false) (d : g_D) (ob : Nat) (xs : Int32) (xp : Option Nat) (xk : Nat) (xc : Nat) (Q : Prop) (hw : wp_X7_kind Q) : g_Met l d yX7_kind cX7_kind 1 (Option.some (FieldType.object "GraphModules$Kind")) ({ frames := 0, cells := 0, slots := 0, locals := 0 } : Room) [.ref ob] [[(ob, .inr (6, [.int xs, va_rf xp, .ref (d.2.2 xk), .ref xc]))]] 0 0 (fun v w1 => v = some (.ref (d.2.2 xk)) ∧ w1 = [[(ob, .inr (6, [.int xs, va_rf xp, .ref (d.2.2 xk), .ref xc]))]] ∧ Q) := by
  refine g_enter (by decide) (Nat.le_of_ble_eq_true rfl) ?_
  intro p e s m args below meth c A ls hF hH hl hin
  have hF : g_F p m c cX7_kind 1 s args RX7 meth (Option.some (FieldType.object "GraphModules$Kind")) := hF
  have hl : lv_has ls 1 [(0, .ref ob)] := hl
  unfold wp_X7_kind at hw
  refine lv_aload_n hF.1.1 hF.1.2.1 dX7_kind_0 rfl (lv_at hl 0 rfl) ?_
  refine g_get (v := .ref (d.2.2 xk)) hF hH in_X7 rfl 0 0 rfl rfl 2 (by decide) q500 (fun _ h9 => h9) rfl dX7_kind_1 ?_
  exact g_aret hF (Or.inl ⟨_, rfl⟩) (Or.inr ⟨_, rfl⟩) hH ⟨rfl, rfl, hw⟩ dX7_kind_4
