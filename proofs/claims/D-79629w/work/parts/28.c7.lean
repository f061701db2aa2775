def wp_X15_isModule (a1 : Int32) (a2 : Int32) (Q : Int32 → Prop) : Prop := ((¬ a1 = a2 → (Q 0)) ∧ (a1 = a2 → (Q 1)))
set_option maxHeartbeats 4000000 in
set_option maxRecDepth 100000 in
theorem met_X15_isModule (l : Launch) (hl0 : l.stackTraces = false) (d : g_D) (a1 : Int32) (a2 : Int32) (Q : Int32 → Prop) (hw : wp_X15_isModule a1 a2 Q) : g_LMet l d yX15_isModule cX15_isModule 3 (Option.some FieldType.boolean) ({ frames := 0, cells := 0, slots := 0, locals := 0 } : Room) [.ref (d.2.2 0), .int a1, .int a2] [] 0 0 (fun v w1 => ∃ (r : Int32), v = some (.int r) ∧ w1 = [] ∧ Q r) := by
  refine g_enterL (by decide) (Nat.le_of_ble_eq_true rfl) ?_
  intro p e s m args below meth c A ls hF hH hl hin
  have hF : g_F p m c cX15_isModule 3 s args RX15 meth (Option.some FieldType.boolean) := hF
  have hl : lv_has ls 3 [(0, .ref (d.2.2 0)), (1, .int a1), (2, .int a2)] := hl
  unfold wp_X15_isModule at hw
  refine lv_iload_n hF.1.1 hF.1.2.1 dX15_isModule_0 rfl (lv_at hl 1 rfl) ?_
  refine lv_iload_n hF.1.1 hF.1.2.1 dX15_isModule_1 rfl (lv_at hl 2 rfl) ?_
  refine lv_icmp_ne (tgt := 9) hF.1.1 hF.1.2.1 dX15_isModule_2 (by decide) (fun c_2 => ?_) (fun c_2 => ?_)
  · have hw := hw.1 c_2
    refine lv_iconst (v := 0) hF.1.1 hF.1.2.1 dX15_isModule_9 (by decide) ?_
    exact g_zret hF rfl hH ⟨0, rfl, rfl, hw⟩ dX15_isModule_10
  · have hw := hw.2 c_2
    refine lv_iconst (v := 1) hF.1.1 hF.1.2.1 dX15_isModule_5 (by decide) ?_
    refine lv_goto (tgt := 10) hF.1.1 hF.1.2.1 dX15_isModule_6 (by decide) ?_
    exact g_zret hF rfl hH ⟨1, rfl, rfl, hw⟩ dX15_isModule_10

def wp_X16_isModule (a1 : Int32) (a2 : Int32) (Q : Int32 → Prop) : Prop := ((a1 ≤ 1 → (Q 0)) ∧ (¬ a1 ≤ 1 → (Q 1)))
set_option maxHeartbeats 4000000 in
set_option maxRecDepth 100000 in
theorem met_X16_isModule (l : Launch) (hl0 : l.stackTraces = false) (d : g_D) (a1 : Int32) (a2 : Int32) (Q : Int32 → Prop) (hw : wp_X16_isModule a1 a2 Q) : g_LMet l d yX16_isModule cX16_isModule 3 (Option.some FieldType.boolean) ({ frames := 0, cells := 0, slots := 0, locals := 0 } : Room) [.ref (d.2.2 1), .int a1, .int a2] [] 0 0 (fun v w1 => ∃ (r : Int32), v = some (.int r) ∧ w1 = [] ∧ Q r) := by
  refine g_enterL (by decide) (Nat.le_of_ble_eq_true rfl) ?_
  intro p e s m args below meth c A ls hF hH hl hin
  have hF : g_F p m c cX16_isModule 3 s args RX16 meth (Option.some FieldType.boolean) := hF
  have hl : lv_has ls 3 [(0, .ref (d.2.2 1)), (1, .int a1), (2, .int a2)] := hl
  unfold wp_X16_isModule at hw
  refine lv_iload_n hF.1.1 hF.1.2.1 dX16_isModule_0 rfl (lv_at hl 1 rfl) ?_
  refine lv_iconst (v := 1) hF.1.1 hF.1.2.1 dX16_isModule_1 (by decide) ?_
  refine lv_icmp_le (tgt := 9) hF.1.1 hF.1.2.1 dX16_isModule_2 (by decide) (fun c_2 => ?_) (fun c_2 => ?_)
  · have hw := hw.1 c_2
    refine lv_iconst (v := 0) hF.1.1 hF.1.2.1 dX16_isModule_9 (by decide) ?_
    exact g_zret hF rfl hH ⟨0, rfl, rfl, hw⟩ dX16_isModule_10
  · have hw := hw.2 c_2
    refine lv_iconst (v := 1) hF.1.1 hF.1.2.1 dX16_isModule_5 (by decide) ?_
    refine lv_goto (tgt := 10) hF.1.1 hF.1.2.1 dX16_isModule_6 (by decide) ?_
    exact g_zret hF rfl hH ⟨1, rfl, rfl, hw⟩ dX16_isModule_10

def wp_X9_isModule (a1 : Int32) (a2 : Int32) (Q : Int32 → Prop) : Prop := (wp_X16_isModule a1 a2 (fun r_2 => ((r_2 = 0 ∨ r_2 = 1) ∧ (Q r_2))))
set_option maxHeartbeats 4000000 in
set_option maxRecDepth 100000 in
theorem met_X9_isModule (l : Launch) (hl0 : l.stackTraces = false) (d : g_D) (a1 : Int32) (a2 : Int32) (Q : Int32 → Prop) (hw : wp_X9_isModule a1 a2 Q) : g_Met l d yX9_isModule cX9_isModule 3 (Option.some FieldType.boolean) ({ frames := 1, cells := 0, slots := 0, locals := 60 } : Room) [.ref (d.2.2 2), .int a1, .int a2] [] 0 0 (fun v w1 => ∃ (r : Int32), v = some (.int r) ∧ w1 = [] ∧ Q r) := by
  refine g_enter (by decide) (Nat.le_of_ble_eq_true rfl) ?_
  intro p e s m args below meth c A ls hF hH hl hin
  have hF : g_F p m c cX9_isModule 3 s args RX9 meth (Option.some FieldType.boolean) := hF
  have hl : lv_has ls 3 [(0, .ref (d.2.2 2)), (1, .int a1), (2, .int a2)] := hl
  unfold wp_X9_isModule at hw
  refine g_gets (v := .ref (d.2.2 1)) hF hH (g_zk hH (i := 1) (by decide)).1 q713 (u_same (hF.1.2.2.2.2 _ q714)) dX9_isModule_0 ?_
  refine lv_iload_n hF.1.1 hF.1.2.1 dX9_isModule_3 rfl (lv_at hl 1 rfl) ?_
  refine lv_iload_n hF.1.1 hF.1.2.1 dX9_isModule_4 rfl (lv_at hl 2 rfl) ?_
  refine g_cGL (x := ⟨"GraphModules$Kind", "isModule", "(II)Z"⟩) (owner := "GraphModules$Kind") [.int a1, .int a2] 2 rfl hF (met_X16_isModule l hl0 d a1 a2 _ hw) q715 q703 (va_Decl.abs (g_nw hH q702 rfl)) q708 q709 rfl rfl (by decide +kernel) ⟨Nat.le_of_ble_eq_true rfl, Nat.le_of_ble_eq_true rfl⟩ hH [] rfl rfl rfl (g_recvK hH (i := 1) (by decide)) (hF.1.2.2.2.2 _ q707) hl.1 (Nat.le_of_ble_eq_true rfl) dX9_isModule_5 ⟨(by first | exact Nat.le_of_ble_eq_true rfl | omega | (dsimp only; omega)), (by first | exact Nat.le_of_ble_eq_true rfl | omega | (dsimp only; omega))⟩ (fun v w1 H locs hq hH => ?_)
  obtain ⟨r_2, rfl, rfl, hw⟩ := hq
  have hH : g_HS d A s [] H locs := hH
  refine W.eq (g2 := (F0 m 8 ls [.int r_2])) rfl ?_
  obtain ⟨hb_3, hw⟩ := hw
  exact g_zret hF (g_b01 hb_3) hH ⟨r_2, rfl, rfl, hw⟩ dX9_isModule_8

def wp_X10_isModule (a1 : Int32) (a2 : Int32) (Q : Int32 → Prop) : Prop := (wp_X15_isModule a1 a2 (fun r_2 => ((r_2 = 0 ∨ r_2 = 1) ∧ (Q r_2))))
set_option maxHeartbeats 4000000 in
set_option maxRecDepth 100000 in
theorem met_X10_isModule (l : Launch) (hl0 : l.stackTraces = false) (d : g_D) (a1 : Int32) (a2 : Int32) (Q : Int32 → Prop) (hw : wp_X10_isModule a1 a2 Q) : g_Met l d yX10_isModule cX10_isModule 3 (Option.some FieldType.boolean) ({ frames := 1, cells := 0, slots := 0, locals := 60 } : Room) [.ref (d.2.2 3), .int a1, .int a2] [] 0 0 (fun v w1 => ∃ (r : Int32), v = some (.int r) ∧ w1 = [] ∧ Q r) := by
  refine g_enter (by decide) (Nat.le_of_ble_eq_true rfl) ?_
  intro p e s m args below meth c A ls hF hH hl hin
  have hF : g_F p m c cX10_isModule 3 s args RX10 meth (Option.some FieldType.boolean) := hF
  have hl : lv_has ls 3 [(0, .ref (d.2.2 3)), (1, .int a1), (2, .int a2)] := hl
  unfold wp_X10_isModule at hw
  refine g_gets (v := .ref (d.2.2 0)) hF hH (g_zk hH (i := 0) (by decide)).1 q718 (u_same (hF.1.2.2.2.2 _ q719)) dX10_isModule_0 ?_
  refine lv_iload_n hF.1.1 hF.1.2.1 dX10_isModule_3 rfl (lv_at hl 1 rfl) ?_
  refine lv_iload_n hF.1.1 hF.1.2.1 dX10_isModule_4 rfl (lv_at hl 2 rfl) ?_
  refine g_cGL (x := ⟨"GraphModules$Kind", "isModule", "(II)Z"⟩) (owner := "GraphModules$Kind") [.int a1, .int a2] 2 rfl hF (met_X15_isModule l hl0 d a1 a2 _ hw) q721 q703 (va_Decl.abs (g_nw hH q702 rfl)) q705 q706 rfl rfl (by decide +kernel) ⟨Nat.le_of_ble_eq_true rfl, Nat.le_of_ble_eq_true rfl⟩ hH [] rfl rfl rfl (g_recvK hH (i := 0) (by decide)) (hF.1.2.2.2.2 _ q704) hl.1 (Nat.le_of_ble_eq_true rfl) dX10_isModule_5 ⟨(by first | exact Nat.le_of_ble_eq_true rfl | omega | (dsimp only; omega)), (by first | exact Nat.le_of_ble_eq_true rfl | omega | (dsimp only; omega))⟩ (fun v w1 H locs hq hH => ?_)
  obtain ⟨r_2, rfl, rfl, hw⟩ := hq
  have hH : g_HS d A s [] H locs := hH
  refine W.eq (g2 := (F0 m 8 ls [.int r_2])) rfl ?_
  obtain ⟨hb_3, hw⟩ := hw
  exact g_zret hF (g_b01 hb_3) hH ⟨r_2, rfl, rfl, hw⟩ dX10_isModule_8

def wp_X8_sign (ki : Nat) (Q : Int32 → Prop) : Prop := (Q 32)
set_option maxHeartbeats 4000000 in
set_option maxRecDepth 100000 in
theorem met_X8_sign (l : Launch) (hl0 : l.stackTraces = false) (d : g_D) (ki : Nat) (Q : Int32 → Prop) (hw : wp_X8_sign ki Q) : g_Met l d yX8_sign cX8_sign 1 (Option.some FieldType.char) ({ frames := 0, cells := 0, slots := 0, locals := 0 } : Room) [.ref (d.2.2 ki)] [] 0 0 (fun v w1 => ∃ (r : Int32), v = some (.int r) ∧ w1 = [] ∧ Q r) := by
  refine g_enter (by decide) (Nat.le_of_ble_eq_true rfl) ?_
  intro p e s m args below meth c A ls hF hH hl hin
  have hF : g_F p m c cX8_sign 1 s args RX8 meth (Option.some FieldType.char) := hF
  have hl : lv_has ls 1 [(0, .ref (d.2.2 ki))] := hl
  unfold wp_X8_sign at hw
  refine lv_bipush (v := 32) hF.1.1 hF.1.2.1 dX8_sign_0 (by decide) ?_
  exact g_cret hF rfl hH ⟨32, rfl, rfl, hw⟩ dX8_sign_2

def wp_X16_sign (Q : Int32 → Prop) : Prop := (Q 43)
set_option maxHeartbeats 4000000 in
set_option maxRecDepth 100000 in
theorem met_X16_sign (l : Launch) (hl0 : l.stackTraces = false) (d : g_D) (Q : Int32 → Prop) (hw : wp_X16_sign Q) : g_LMet l d yX16_sign cX16_sign 1 (Option.some FieldType.char) ({ frames := 0, cells := 0, slots := 0, locals := 0 } : Room) [.ref (d.2.2 1)] [] 0 0 (fun v w1 => ∃ (r : Int32), v = some (.int r) ∧ w1 = [] ∧ Q r) := by
  refine g_enterL (by decide) (Nat.le_of_ble_eq_true rfl) ?_
  intro p e s m args below meth c A ls hF hH hl hin
  have hF : g_F p m c cX16_sign 1 s args RX16 meth (Option.some FieldType.char) := hF
  have hl : lv_has ls 1 [(0, .ref (d.2.2 1))] := hl
  unfold wp_X16_sign at hw
  refine lv_bipush (v := 43) hF.1.1 hF.1.2.1 dX16_sign_0 (by decide) ?_
  exact g_cret hF rfl hH ⟨43, rfl, rfl, hw⟩ dX16_sign_2

def wp_X9_sign (Q : Int32 → Prop) : Prop := (Q 42)
set_option maxHeartbeats 4000000 in
set_option maxRecDepth 100000 in
theorem met_X9_sign (l : Launch) (hl0 : l.stackTraces = false) (d : g_D) (Q : Int32 → Prop) (hw : wp_X9_sign Q) : g_Met l d yX9_sign cX9_sign 1 (Option.some FieldType.char) ({ frames := 0, cells := 0, slots := 0, locals := 0 } : Room) [.ref (d.2.2 2)] [] 0 0 (fun v w1 => ∃ (r : Int32), v = some (.int r) ∧ w1 = [] ∧ Q r) := by
  refine g_enter (by decide) (Nat.le_of_ble_eq_true rfl) ?_
  intro p e s m args below meth c A ls hF hH hl hin
  have hF : g_F p m c cX9_sign 1 s args RX9 meth (Option.some FieldType.char) := hF
  have hl : lv_has ls 1 [(0, .ref (d.2.2 2))] := hl
  unfold wp_X9_sign at hw
  refine lv_bipush (v := 42) hF.1.1 hF.1.2.1 dX9_sign_0 (by decide) ?_
  exact g_cret hF rfl hH ⟨42, rfl, rfl, hw⟩ dX9_sign_2

def wp_J11_ordinal (ki : Nat) (Q : Int32 → Prop) : Prop := (ki < 4 ∧ (Q (nI ki)))
set_option maxHeartbeats 4000000 in
set_option maxRecDepth 100000 in
theorem met_J11_ordinal (l : Launch) (hl0 : l.stackTraces = false) (d : g_D) (ki : Nat) (Q : Int32 → Prop) (hw : wp_J11_ordinal ki Q) : g_Met l d yJ11_ordinal cJ11_ordinal 1 (Option.some FieldType.int) ({ frames := 0, cells := 0, slots := 0, locals := 0 } : Room) [.ref (d.2.2 ki)] [] 0 0 (fun v w1 => ∃ (r : Int32), v = some (.int r) ∧ w1 = [] ∧ Q r) := by
  refine g_enter (by decide) (Nat.le_of_ble_eq_true rfl) ?_
  intro p e s m args below meth c A ls hF hH hl hin
  have hF : g_F p m c cJ11_ordinal 1 s args RJ11 meth (Option.some FieldType.int) := hF
  have hl : lv_has ls 1 [(0, .ref (d.2.2 ki))] := hl
  unfold wp_J11_ordinal at hw
  refine lv_aload_n hF.1.1 hF.1.2.1 dJ11_ordinal_0 rfl (lv_at hl 0 rfl) ?_
  obtain ⟨hk_2, hw⟩ := hw
  refine g_kord hF hH hk_2 q1886 (fun _ h9 => h9) dJ11_ordinal_1 ?_
  exact g_iret hF hH ⟨(nI ki), rfl, rfl, hw⟩ dJ11_ordinal_4

def wp_X5_init_L (a1 : Int32) (Q : Prop) : Prop := Q
set_option maxHeartbeats 4000000 in
set_option maxRecDepth 100000 in
theorem met_X5_init_L (l : Launch) (hl0 : l.stackTraces = false) (d : g_D) (ob : Nat) (a1 : Int32) (Q : Prop) (hw : wp_X5_init_L a1 Q) : g_Met l d yX5_init cX5_init 2 none ({ frames := 1, cells := 0, slots := 0, locals := 12 } : Room) [.ref ob, .int a1] [[(ob, .inr (5, [.int 0, .null]))]] 0 0 (fun v w1 => v = none ∧ w1 = [[(ob, .inr (5, [.int a1, .null]))]] ∧ Q) := by
  refine g_enter (by decide) (Nat.le_of_ble_eq_true rfl) ?_
  intro p e s m args below meth c A ls hF hH hl hin
  have hF : g_F p m c cX5_init 2 s args RX5 meth none := hF
  have hl : lv_has ls 2 [(0, .ref ob), (1, .int a1)] := hl
  have hin : meth.name = "<init>" := hin rfl
  unfold wp_X5_init_L at hw
  refine lv_aload_n hF.1.1 hF.1.2.1 dX5_init_0 rfl (lv_at hl 0 rfl) ?_
  refine W.objInit hF.1.1 hF.1.2.1 hF.1.2.2.2.1 (hF.1.2.2.2.2 _ q459) (hF.1.2.2.2.2 _ q137) (hF.1.2.2.2.2 _ q138) rfl (by rw [hF.1.2.2.1]; exact hl.1) rfl dX5_init_1 (Nat.le_of_ble_eq_true rfl) (Nat.le_of_ble_eq_true rfl) ?_
  refine W.eq (g2 := (F0 m 4 ls [])) rfl ?_
  refine lv_aload_n hF.1.1 hF.1.2.1 dX5_init_4 rfl (lv_at hl 0 rfl) ?_
  refine lv_iload_n hF.1.1 hF.1.2.1 dX5_init_5 rfl (lv_at hl 1 rfl) ?_
  refine g_putF (cs' := [[(ob, .inr (5, [.int a1, .null]))]]) (ch' := [(ob, .inr (5, [.int a1, .null]))]) (ty := .int) hF hin hH in_X6 rfl tyX6 tyX6_ok nmX6 0 0 rfl rfl 0 (by decide) q460 (fun _ h9 => h9) rfl rfl (by decide +kernel) rfl rfl (Nat.le_of_ble_eq_true rfl) dX5_init_6 rfl rfl (fun H locs hH => ?_)
  exact g_vret hF hH ⟨rfl, rfl, hw⟩ dX5_init_9

def wp_X5_init_I (a1 : Int32) (Q : Prop) : Prop := Q
set_option maxHeartbeats 4000000 in
set_option maxRecDepth 100000 in
theorem met_X5_init_I (l : Launch) (hl0 : l.stackTraces = false) (d : g_D) (ob : Nat) (a1 : Int32) (Q : Prop) (hw : wp_X5_init_I a1 Q) : g_Met l d yX5_init cX5_init 2 none ({ frames := 1, cells := 0, slots := 0, locals := 12 } : Room) [.ref ob, .int a1] [[(ob, .inr (6, [.int 0, .null, .null, .null]))]] 0 0 (fun v w1 => v = none ∧ w1 = [[(ob, .inr (6, [.int a1, .null, .null, .null]))]] ∧ Q) := by
  refine g_enter (by decide) (Nat.le_of_ble_eq_true rfl) ?_
  intro p e s m args below meth c A ls hF hH hl hin
  have hF : g_F p m c cX5_init 2 s args RX5 meth none := hF
  have hl : lv_has ls 2 [(0, .ref ob), (1, .int a1)] := hl
  have hin : meth.name = "<init>" := hin rfl
  unfold wp_X5_init_I at hw
  refine lv_aload_n hF.1.1 hF.1.2.1 dX5_init_0 rfl (lv_at hl 0 rfl) ?_
  refine W.objInit hF.1.1 hF.1.2.1 hF.1.2.2.2.1 (hF.1.2.2.2.2 _ q459) (hF.1.2.2.2.2 _ q137) (hF.1.2.2.2.2 _ q138) rfl (by rw [hF.1.2.2.1]; exact hl.1) rfl dX5_init_1 (Nat.le_of_ble_eq_true rfl) (Nat.le_of_ble_eq_true rfl) ?_
  refine W.eq (g2 := (F0 m 4 ls [])) rfl ?_
  refine lv_aload_n hF.1.1 hF.1.2.1 dX5_init_4 rfl (lv_at hl 0 rfl) ?_
  refine lv_iload_n hF.1.1 hF.1.2.1 dX5_init_5 rfl (lv_at hl 1 rfl) ?_
  refine g_putF (cs' := [[(ob, .inr (6, [.int a1, .null, .null, .null]))]]) (ch' := [(ob, .inr (6, [.int a1, .null, .null, .null]))]) (ty := .int) hF hin hH in_X7 rfl tyX7 tyX7_ok nmX7 0 0 rfl rfl 0 (by decide) q460 (fun _ h9 => h9) rfl rfl (by decide +kernel) rfl rfl (Nat.le_of_ble_eq_true rfl) dX5_init_6 rfl rfl (fun H locs hH => ?_)
  exact g_vret hF hH ⟨rfl, rfl, hw⟩ dX5_init_9

def wp_X6_init (a1 : Int32) (Q : Prop) : Prop := (wp_X5_init_L a1 Q)
set_option maxHeartbeats 4000000 in
set_option maxRecDepth 100000 in
theorem met_X6_init (l : Launch) (hl0 : l.stackTraces = false) (d : g_D) (ob : Nat) (a1 : Int32) (Q : Prop) (hw : wp_X6_init a1 Q) : g_Met l d yX6_init cX6_init 2 none ({ frames := 2, cells := 0, slots := 0, locals := 33 } : Room) [.ref ob, .int a1] [[(ob, .inr (5, [.int 0, .null]))]] 0 0 (fun v w1 => v = none ∧ w1 = [[(ob, .inr (5, [.int a1, .null]))]] ∧ Q) := by
  refine g_enter (by decide) (Nat.le_of_ble_eq_true rfl) ?_
  intro p e s m args below meth c A ls hF hH hl hin
  have hF : g_F p m c cX6_init 2 s args RX6 meth none := hF
  have hl : lv_has ls 2 [(0, .ref ob), (1, .int a1)] := hl
  have hin : meth.name = "<init>" := hin rfl
  unfold wp_X6_init at hw
  refine lv_aload_n hF.1.1 hF.1.2.1 dX6_init_0 rfl (lv_at hl 0 rfl) ?_
  refine lv_iload_n hF.1.1 hF.1.2.1 dX6_init_1 rfl (lv_at hl 1 rfl) ?_
  refine g_cI [.int a1] 1 rfl hF (met_X5_init_L l hl0 d ob a1 _ hw) q456 q457 q108 q458 rfl rfl rfl (by decide +kernel) ⟨Nat.le_of_ble_eq_true rfl, Nat.le_of_ble_eq_true rfl⟩ hH [0] rfl rfl rfl hl.1 (Nat.le_of_ble_eq_true rfl) dX6_init_2 ⟨(by first | exact Nat.le_of_ble_eq_true rfl | omega | (dsimp only; omega)), (by first | exact Nat.le_of_ble_eq_true rfl | omega | (dsimp only; omega))⟩ (fun v w1 H locs hq hH => ?_)
  obtain ⟨rfl, rfl, hw⟩ := hq
  have hH : g_HS d A s [[(ob, .inr (5, [.int a1, .null]))]] H locs := hH
  refine W.eq (g2 := (F0 m 5 ls [])) rfl ?_
  exact g_vret hF hH ⟨rfl, rfl, hw⟩ dX6_init_5

def wp_X7_init (a1 : Int32) (Q : Prop) : Prop := (wp_X5_init_I a1 (wp_J10_init Q))
set_option maxHeartbeats 4000000 in
set_option maxRecDepth 100000 in
theorem met_X7_init (l : Launch) (hl0 : l.stackTraces = false) (d : g_D) (ob : Nat) (a1 : Int32) (ki : Nat) (Q : Prop) (hw : wp_X7_init a1 Q) : g_Met l d yX7_init cX7_init 3 none ({ frames := 4, cells := 1, slots := 3, locals := 72 } : Room) [.ref ob, .int a1, .ref (d.2.2 ki)] [[(ob, .inr (6, [.int 0, .null, .null, .null]))]] 1 3 (fun v w1 => ∃ (la : Nat), v = none ∧ w1 = [[(ob, .inr (6, [.int a1, .null, .ref (d.2.2 ki), .ref la]))], [(la, .inr (11, [.int 0, .ref (d.2.2 4), .int 0]))]] ∧ Q) := by
  refine g_enter (by decide) (Nat.le_of_ble_eq_true rfl) ?_
  intro p e s m args below meth c A ls hF hH hl hin
  have hF : g_F p m c cX7_init 3 s args RX7 meth none := hF
  have hl : lv_has ls 3 [(0, .ref ob), (1, .int a1), (2, .ref (d.2.2 ki))] := hl
  have hin : meth.name = "<init>" := hin rfl
  unfold wp_X7_init at hw
  refine lv_aload_n hF.1.1 hF.1.2.1 dX7_init_0 rfl (lv_at hl 0 rfl) ?_
  refine lv_iload_n hF.1.1 hF.1.2.1 dX7_init_1 rfl (lv_at hl 1 rfl) ?_
  refine g_cI [.int a1] 1 rfl hF (met_X5_init_I l hl0 d ob a1 _ hw) q497 q457 q108 q458 rfl rfl rfl (by decide +kernel) ⟨Nat.le_of_ble_eq_true rfl, Nat.le_of_ble_eq_true rfl⟩ hH [0] rfl rfl rfl hl.1 (Nat.le_of_ble_eq_true rfl) dX7_init_2 ⟨(by first | exact Nat.le_of_ble_eq_true rfl | omega | (dsimp only; omega)), (by first | exact Nat.le_of_ble_eq_true rfl | omega | (dsimp only; omega))⟩ (fun v w1 H locs hq hH => ?_)
  obtain ⟨rfl, rfl, hw⟩ := hq
  have hH : g_HS d A s [[(ob, .inr (6, [.int a1, .null, .null, .null]))]] H locs := hH
  refine W.eq (g2 := (F0 m 5 ls [])) rfl ?_
  refine lv_aload_n hF.1.1 hF.1.2.1 dX7_init_5 rfl (lv_at hl 0 rfl) ?_
  refine g_new (ci := 11) (fs := [.int 0, .null, .int 0]) (C := RJ10) (T := TJ10) (N := 3) hF hH in_J10 rfl tyJ10 tyJ10_ok q498 q413 q107 (fun j hj => by rcases (show j = 0 ∨ j = 1 ∨ j = 2 by omega) with rfl | rfl | rfl <;> rfl) (by first | exact Nat.le_of_ble_eq_true rfl | omega | (dsimp only; omega)) (by first | exact Nat.le_of_ble_eq_true rfl | omega | (dsimp only; omega)) dX7_init_6 (fun q_2 H hH => ?_)
  have hH : g_HS d A s [[(ob, .inr (6, [.int a1, .null, .null, .null]))], [(q_2, .inr (11, [.int 0, .null, .int 0]))]] H _ := hH
  refine W.widen (k := 1) (n := 3) (by first | exact Nat.le_of_ble_eq_true rfl | omega | (dsimp only; omega)) (by first | exact Nat.le_of_ble_eq_true rfl | omega | (dsimp only; omega)) ?_
  refine lv_dup hF.1.1 hF.1.2.1 dX7_init_9 rfl ?_
  refine g_cI [] 0 rfl hF (met_J10_init l hl0 d q_2 _ hw) q499 q415 q107 q416 rfl rfl rfl (by decide +kernel) ⟨Nat.le_of_ble_eq_true rfl, Nat.le_of_ble_eq_true rfl⟩ hH [1] rfl rfl rfl hl.1 (Nat.le_of_ble_eq_true rfl) dX7_init_10 ⟨(by first | exact Nat.le_of_ble_eq_true rfl | omega | (dsimp only; omega)), (by first | exact Nat.le_of_ble_eq_true rfl | omega | (dsimp only; omega))⟩ (fun v w1 H locs hq hH => ?_)
  obtain ⟨rfl, rfl, hw⟩ := hq
  have hH : g_HS d A s [[(ob, .inr (6, [.int a1, .null, .null, .null]))], [(q_2, .inr (11, [.int 0, .ref (d.2.2 4), .int 0]))]] H locs := hH
  refine W.eq (g2 := (F0 m 13 ls [.ref q_2, .ref ob])) rfl ?_
  refine g_putF (cs' := [[(ob, .inr (6, [.int a1, .null, .null, .ref q_2]))], [(q_2, .inr (11, [.int 0, .ref (d.2.2 4), .int 0]))]]) (ch' := [(ob, .inr (6, [.int a1, .null, .null, .ref q_2]))]) (ty := (.object "java/util/ArrayList")) hF hin hH in_X7 rfl tyX7 tyX7_ok nmX7 0 0 rfl rfl 3 (by decide) q503 (fun _ h9 => h9) rfl rfl (by decide +kernel) rfl rfl (Nat.le_of_ble_eq_true rfl) dX7_init_13 rfl rfl (fun H locs hH => ?_)
  refine lv_aload_n hF.1.1 hF.1.2.1 dX7_init_16 rfl (lv_at hl 0 rfl) ?_
  refine lv_aload_n hF.1.1 hF.1.2.1 dX7_init_17 rfl (lv_at hl 2 rfl) ?_
  refine g_putF (cs' := [[(ob, .inr (6, [.int a1, .null, .ref (d.2.2 ki), .ref q_2]))], [(q_2, .inr (11, [.int 0, .ref (d.2.2 4), .int 0]))]]) (ch' := [(ob, .inr (6, [.int a1, .null, .ref (d.2.2 ki), .ref q_2]))]) (ty := (.object "GraphModules$Kind")) hF hin hH in_X7 rfl tyX7 tyX7_ok nmX7 0 0 rfl rfl 2 (by decide) q500 (fun _ h9 => h9) rfl rfl (by decide +kernel) rfl rfl (Nat.le_of_ble_eq_true rfl) dX7_init_18 rfl rfl (fun H locs hH => ?_)
  exact g_vret hF hH ⟨q_2, rfl, rfl, hw⟩ dX7_init_21

def wp_X7_add_OL (x : Nat) (mc_ : Int32) (sz : Int32) (ef : Nat → Option Nat) (cap : Nat) (tw : va_W) (Q : Nat → (Nat → Option Nat) → Int32 → Int32 → Prop) : Prop := (wp_J10_add_OL x mc_ sz ef cap tw (fun r_7 q_9 n_10 n_11 n_12 => (Q q_9 n_10 n_11 n_12)))
set_option maxHeartbeats 4000000 in
set_option maxRecDepth 100000 in
theorem met_X7_add_OL (l : Launch) (hl0 : l.stackTraces = false) (d : g_D) (ob : Nat) (x : Nat) (ts : Int32) (tp : Option Nat) (tk : Nat) (la : Nat) (mc_ : Int32) (ed : Nat) (sz : Int32) (ef : Nat → Option Nat) (cap : Nat) (tw : va_W) (xs : Int32) (xp : Option Nat) (Q : Nat → (Nat → Option Nat) → Int32 → Int32 → Prop) (hw : wp_X7_add_OL x mc_ sz ef cap tw Q) : g_Met l d yX7_add cX7_add 2 none ({ frames := 7, cells := 1, slots := 22, locals := 163 } : Room) [.ref ob, .ref x] [[(ob, .inr (6, [.int ts, va_rf tp, .ref (d.2.2 tk), .ref la]))], [(la, .inr (11, [.int mc_, .ref ed, .int sz]))], [(ed, .inl (d.2.1 6, cap, .inr (.inr (.inr (.inr ef)))))], tw, [(x, .inr (5, [.int xs, va_rf xp]))]] 1 22 (fun v w1 => ∃ (ed2 : Nat) (cap2 : Nat) (ef2 : Nat → Option Nat) (sz2 : Int32) (mc2 : Int32), v = none ∧ w1 = [[(ob, .inr (6, [.int ts, va_rf tp, .ref (d.2.2 tk), .ref la]))], [(la, .inr (11, [.int mc2, .ref ed2, .int sz2]))], [(ed2, .inl (d.2.1 6, cap2, .inr (.inr (.inr (.inr ef2)))))], tw, [(x, .inr (5, [.int xs, .ref ob]))]] ∧ Q cap2 ef2 sz2 mc2) := by
  refine g_enter (by decide) (Nat.le_of_ble_eq_true rfl) ?_
  intro p e s m args below meth c A ls hF hH hl hin
  have hF : g_F p m c cX7_add 2 s args RX7 meth none := hF
  have hl : lv_has ls 2 [(0, .ref ob), (1, .ref x)] := hl
  unfold wp_X7_add_OL at hw
  refine lv_aload_n hF.1.1 hF.1.2.1 dX7_add_0 rfl (lv_at hl 1 rfl) ?_
  refine lv_aload_n hF.1.1 hF.1.2.1 dX7_add_1 rfl (lv_at hl 0 rfl) ?_
  refine g_put (cs' := [[(ob, .inr (6, [.int ts, va_rf tp, .ref (d.2.2 tk), .ref la]))], [(la, .inr (11, [.int mc_, .ref ed, .int sz]))], [(ed, .inl (d.2.1 6, cap, .inr (.inr (.inr (.inr ef)))))], tw, [(x, .inr (5, [.int xs, va_rf (some ob)]))]]) (ch' := [(x, .inr (5, [.int xs, va_rf (some ob)]))]) (ty := (.object "GraphModules$Inner")) hF hH in_X6 rfl tyX6 tyX6_ok nmX6 4 0 rfl rfl 1 (by decide) q464 (fun _ h9 => h9) rfl (by decide +kernel) rfl rfl (Nat.le_of_ble_eq_true rfl) dX7_add_2 rfl rfl (fun H locs hH => ?_)
  refine lv_aload_n hF.1.1 hF.1.2.1 dX7_add_5 rfl (lv_at hl 0 rfl) ?_
  refine g_get (v := .ref la) hF hH in_X7 rfl 0 0 rfl rfl 3 (by decide) q503 (fun _ h9 => h9) rfl dX7_add_6 ?_
  refine lv_aload_n hF.1.1 hF.1.2.1 dX7_add_9 rfl (lv_at hl 1 rfl) ?_
  refine g_cV [.ref x] 1 rfl hF (met_J10_add_OL l hl0 d la x mc_ ed sz ef cap tw xs (some ob) _ hw) q530 q531 q532 q107 q533 rfl rfl (by decide +kernel) ⟨Nat.le_of_ble_eq_true rfl, Nat.le_of_ble_eq_true rfl⟩ hH [1, 2, 3, 4] rfl rfl rfl 0 0 rfl rfl rfl hl.1 (Nat.le_of_ble_eq_true rfl) dX7_add_10 ⟨(by first | exact Nat.le_of_ble_eq_true rfl | omega | (dsimp only; omega)), (by first | exact Nat.le_of_ble_eq_true rfl | omega | (dsimp only; omega))⟩ (fun v w1 H locs hq hH => ?_)
  obtain ⟨r_7, q_8, q_9, n_10, n_11, n_12, rfl, rfl, hw⟩ := hq
  have hH : g_HS d A s [[(ob, .inr (6, [.int ts, va_rf tp, .ref (d.2.2 tk), .ref la]))], [(la, .inr (11, [.int n_12, .ref q_8, .int n_11]))], [(q_8, .inl (d.2.1 6, q_9, .inr (.inr (.inr (.inr n_10)))))], tw, [(x, .inr (5, [.int xs, va_rf (some ob)]))]] H locs := hH
  refine W.eq (g2 := (F0 m 13 ls [.int r_7])) rfl ?_
  refine W.widen (k := 1) (n := 22) (by first | exact Nat.le_of_ble_eq_true rfl | omega | (dsimp only; omega)) (by first | exact Nat.le_of_ble_eq_true rfl | omega | (dsimp only; omega)) ?_
  refine lv_pop hF.1.1 hF.1.2.1 dX7_add_13 rfl ?_
  exact g_vret hF hH ⟨q_8, q_9, n_10, n_11, n_12, rfl, rfl, hw⟩ dX7_add_14

def wp_X7_add_EL (x : Nat) (mc_ : Int32) (tw : va_W) (Q : Nat → (Nat → Option Nat) → Int32 → Int32 → Prop) : Prop := (wp_J10_add_EL x mc_ tw (fun r_7 q_9 n_10 n_11 n_12 => (Q q_9 n_10 n_11 n_12)))
set_option maxHeartbeats 4000000 in
set_option maxRecDepth 100000 in
theorem met_X7_add_EL (l : Launch) (hl0 : l.stackTraces = false) (d : g_D) (ob : Nat) (x : Nat) (ts : Int32) (tp : Option Nat) (tk : Nat) (la : Nat) (mc_ : Int32) (tw : va_W) (xs : Int32) (xp : Option Nat) (Q : Nat → (Nat → Option Nat) → Int32 → Int32 → Prop) (hw : wp_X7_add_EL x mc_ tw Q) : g_Met l d yX7_add cX7_add 2 none ({ frames := 7, cells := 1, slots := 22, locals := 163 } : Room) [.ref ob, .ref x] [[(ob, .inr (6, [.int ts, va_rf tp, .ref (d.2.2 tk), .ref la]))], [(la, .inr (11, [.int mc_, .ref (d.2.2 4), .int 0]))], tw, [(x, .inr (5, [.int xs, va_rf xp]))]] 1 22 (fun v w1 => ∃ (ed2 : Nat) (cap2 : Nat) (ef2 : Nat → Option Nat) (sz2 : Int32) (mc2 : Int32), v = none ∧ w1 = [[(ob, .inr (6, [.int ts, va_rf tp, .ref (d.2.2 tk), .ref la]))], [(la, .inr (11, [.int mc2, .ref ed2, .int sz2]))], [(ed2, .inl (d.2.1 6, cap2, .inr (.inr (.inr (.inr ef2)))))], tw, [(x, .inr (5, [.int xs, .ref ob]))]] ∧ Q cap2 ef2 sz2 mc2) := by
  refine g_enter (by decide) (Nat.le_of_ble_eq_true rfl) ?_
  intro p e s m args below meth c A ls hF hH hl hin
  have hF : g_F p m c cX7_add 2 s args RX7 meth none := hF
  have hl : lv_has ls 2 [(0, .ref ob), (1, .ref x)] := hl
  unfold wp_X7_add_EL at hw
  refine lv_aload_n hF.1.1 hF.1.2.1 dX7_add_0 rfl (lv_at hl 1 rfl) ?_
  refine lv_aload_n hF.1.1 hF.1.2.1 dX7_add_1 rfl (lv_at hl 0 rfl) ?_
  refine g_put (cs' := [[(ob, .inr (6, [.int ts, va_rf tp, .ref (d.2.2 tk), .ref la]))], [(la, .inr (11, [.int mc_, .ref (d.2.2 4), .int 0]))], tw, [(x, .inr (5, [.int xs, va_rf (some ob)]))]]) (ch' := [(x, .inr (5, [.int xs, va_rf (some ob)]))]) (ty := (.object "GraphModules$Inner")) hF hH in_X6 rfl tyX6 tyX6_ok nmX6 3 0 rfl rfl 1 (by decide) q464 (fun _ h9 => h9) rfl (by decide +kernel) rfl rfl (Nat.le_of_ble_eq_true rfl) dX7_add_2 rfl rfl (fun H locs hH => ?_)
  refine lv_aload_n hF.1.1 hF.1.2.1 dX7_add_5 rfl (lv_at hl 0 rfl) ?_
  refine g_get (v := .ref la) hF hH in_X7 rfl 0 0 rfl rfl 3 (by decide) q503 (fun _ h9 => h9) rfl dX7_add_6 ?_
  refine lv_aload_n hF.1.1 hF.1.2.1 dX7_add_9 rfl (lv_at hl 1 rfl) ?_
  refine g_cV [.ref x] 1 rfl hF (met_J10_add_EL l hl0 d la x mc_ tw xs (some ob) _ hw) q530 q531 q532 q107 q533 rfl rfl (by decide +kernel) ⟨Nat.le_of_ble_eq_true rfl, Nat.le_of_ble_eq_true rfl⟩ hH [1, 2, 3] rfl rfl rfl 0 0 rfl rfl rfl hl.1 (Nat.le_of_ble_eq_true rfl) dX7_add_10 ⟨(by first | exact Nat.le_of_ble_eq_true rfl | omega | (dsimp only; omega)), (by first | exact Nat.le_of_ble_eq_true rfl | omega | (dsimp only; omega))⟩ (fun v w1 H locs hq hH => ?_)
  obtain ⟨r_7, q_8, q_9, n_10, n_11, n_12, rfl, rfl, hw⟩ := hq
  have hH : g_HS d A s [[(ob, .inr (6, [.int ts, va_rf tp, .ref (d.2.2 tk), .ref la]))], [(la, .inr (11, [.int n_12, .ref q_8, .int n_11]))], [(q_8, .inl (d.2.1 6, q_9, .inr (.inr (.inr (.inr n_10)))))], tw, [(x, .inr (5, [.int xs, va_rf (some ob)]))]] H locs := hH
  refine W.eq (g2 := (F0 m 13 ls [.int r_7])) rfl ?_
  refine W.widen (k := 1) (n := 22) (by first | exact Nat.le_of_ble_eq_true rfl | omega | (dsimp only; omega)) (by first | exact Nat.le_of_ble_eq_true rfl | omega | (dsimp only; omega)) ?_
  refine lv_pop hF.1.1 hF.1.2.1 dX7_add_13 rfl ?_
  exact g_vret hF hH ⟨q_8, q_9, n_10, n_11, n_12, rfl, rfl, hw⟩ dX7_add_14

def wp_X7_add_OI (x : Nat) (mc_ : Int32) (sz : Int32) (ef : Nat → Option Nat) (cap : Nat) (tw : va_W) (Q : Nat → (Nat → Option Nat) → Int32 → Int32 → Prop) : Prop := (wp_J10_add_OI x mc_ sz ef cap tw (fun r_7 q_9 n_10 n_11 n_12 => (Q q_9 n_10 n_11 n_12)))
set_option maxHeartbeats 4000000 in
set_option maxRecDepth 100000 in
theorem met_X7_add_OI (l : Launch) (hl0 : l.stackTraces = false) (d : g_D) (ob : Nat) (x : Nat) (ts : Int32) (tp : Option Nat) (tk : Nat) (la : Nat) (mc_ : Int32) (ed : Nat) (sz : Int32) (ef : Nat → Option Nat) (cap : Nat) (tw : va_W) (xs : Int32) (xp : Option Nat) (xk : Nat) (xc : Nat) (Q : Nat → (Nat → Option Nat) → Int32 → Int32 → Prop) (hw : wp_X7_add_OI x mc_ sz ef cap tw Q) : g_Met l d yX7_add cX7_add 2 none ({ frames := 7, cells := 1, slots := 22, locals := 163 } : Room) [.ref ob, .ref x] [[(ob, .inr (6, [.int ts, va_rf tp, .ref (d.2.2 tk), .ref la]))], [(la, .inr (11, [.int mc_, .ref ed, .int sz]))], [(ed, .inl (d.2.1 6, cap, .inr (.inr (.inr (.inr ef)))))], tw, [(x, .inr (6, [.int xs, va_rf xp, .ref (d.2.2 xk), .ref xc]))]] 1 22 (fun v w1 => ∃ (ed2 : Nat) (cap2 : Nat) (ef2 : Nat → Option Nat) (sz2 : Int32) (mc2 : Int32), v = none ∧ w1 = [[(ob, .inr (6, [.int ts, va_rf tp, .ref (d.2.2 tk), .ref la]))], [(la, .inr (11, [.int mc2, .ref ed2, .int sz2]))], [(ed2, .inl (d.2.1 6, cap2, .inr (.inr (.inr (.inr ef2)))))], tw, [(x, .inr (6, [.int xs, .ref ob, .ref (d.2.2 xk), .ref xc]))]] ∧ Q cap2 ef2 sz2 mc2) := by
  refine g_enter (by decide) (Nat.le_of_ble_eq_true rfl) ?_
  intro p e s m args below meth c A ls hF hH hl hin
  have hF : g_F p m c cX7_add 2 s args RX7 meth none := hF
  have hl : lv_has ls 2 [(0, .ref ob), (1, .ref x)] := hl
  unfold wp_X7_add_OI at hw
  refine lv_aload_n hF.1.1 hF.1.2.1 dX7_add_0 rfl (lv_at hl 1 rfl) ?_
  refine lv_aload_n hF.1.1 hF.1.2.1 dX7_add_1 rfl (lv_at hl 0 rfl) ?_
  refine g_put (cs' := [[(ob, .inr (6, [.int ts, va_rf tp, .ref (d.2.2 tk), .ref la]))], [(la, .inr (11, [.int mc_, .ref ed, .int sz]))], [(ed, .inl (d.2.1 6, cap, .inr (.inr (.inr (.inr ef)))))], tw, [(x, .inr (6, [.int xs, va_rf (some ob), .ref (d.2.2 xk), .ref xc]))]]) (ch' := [(x, .inr (6, [.int xs, va_rf (some ob), .ref (d.2.2 xk), .ref xc]))]) (ty := (.object "GraphModules$Inner")) hF hH in_X7 rfl tyX7 tyX7_ok nmX7 4 0 rfl rfl 1 (by decide) q464 (fun _ h9 => h9) rfl (by decide +kernel) rfl rfl (Nat.le_of_ble_eq_true rfl) dX7_add_2 rfl rfl (fun H locs hH => ?_)
  refine lv_aload_n hF.1.1 hF.1.2.1 dX7_add_5 rfl (lv_at hl 0 rfl) ?_
  refine g_get (v := .ref la) hF hH in_X7 rfl 0 0 rfl rfl 3 (by decide) q503 (fun _ h9 => h9) rfl dX7_add_6 ?_
  refine lv_aload_n hF.1.1 hF.1.2.1 dX7_add_9 rfl (lv_at hl 1 rfl) ?_
  refine g_cV [.ref x] 1 rfl hF (met_J10_add_OI l hl0 d la x mc_ ed sz ef cap tw xs (some ob) xk xc _ hw) q530 q531 q532 q107 q533 rfl rfl (by decide +kernel) ⟨Nat.le_of_ble_eq_true rfl, Nat.le_of_ble_eq_true rfl⟩ hH [1, 2, 3, 4] rfl rfl rfl 0 0 rfl rfl rfl hl.1 (Nat.le_of_ble_eq_true rfl) dX7_add_10 ⟨(by first | exact Nat.le_of_ble_eq_true rfl | omega | (dsimp only; omega)), (by first | exact Nat.le_of_ble_eq_true rfl | omega | (dsimp only; omega))⟩ (fun v w1 H locs hq hH => ?_)
  obtain ⟨r_7, q_8, q_9, n_10, n_11, n_12, rfl, rfl, hw⟩ := hq
  have hH : g_HS d A s [[(ob, .inr (6, [.int ts, va_rf tp, .ref (d.2.2 tk), .ref la]))], [(la, .inr (11, [.int n_12, .ref q_8, .int n_11]))], [(q_8, .inl (d.2.1 6, q_9, .inr (.inr (.inr (.inr n_10)))))], tw, [(x, .inr (6, [.int xs, va_rf (some ob), .ref (d.2.2 xk), .ref xc]))]] H locs := hH
  refine W.eq (g2 := (F0 m 13 ls [.int r_7])) rfl ?_
  refine W.widen (k := 1) (n := 22) (by first | exact Nat.le_of_ble_eq_true rfl | omega | (dsimp only; omega)) (by first | exact Nat.le_of_ble_eq_true rfl | omega | (dsimp only; omega)) ?_
  refine lv_pop hF.1.1 hF.1.2.1 dX7_add_13 rfl ?_
  exact g_vret hF hH ⟨q_8, q_9, n_10, n_11, n_12, rfl, rfl, hw⟩ dX7_add_14

def wp_X7_add_EI (x : Nat) (mc_ : Int32) (tw : va_W) (Q : Nat → (Nat → Option Nat) → Int32 → Int32 → Prop) : Prop := (wp_J10_add_EI x mc_ tw (fun r_7 q_9 n_10 n_11 n_12 => (Q q_9 n_10 n_11 n_12)))
set_option maxHeartbeats 4000000 in
set_option maxRecDepth 100000 in
theorem met_X7_add_EI (l : Launch) (hl0 : l.stackTraces = false) (d : g_D) (ob : Nat) (x : Nat) (ts : Int32) (tp : Option Nat) (tk : Nat) (la : Nat) (mc_ : Int32) (tw : va_W) (xs : Int32) (xp : Option Nat) (xk : Nat) (xc : Nat) (Q : Nat → (Nat → Option Nat) → Int32 → Int32 → Prop) (hw : wp_X7_add_EI x mc_ tw Q) : g_Met l d yX7_add cX7_add 2 none ({ frames := 7, cells := 1, slots := 22, locals := 163 } : Room) [.ref ob, .ref x] [[(ob, .inr (6, [.int ts, va_rf tp, .ref (d.2.2 tk), .ref la]))], [(la, .inr (11, [.int mc_, .ref (d.2.2 4), .int 0]))], tw, [(x, .inr (6, [.int xs, va_rf xp, .ref (d.2.2 xk), .ref xc]))]] 1 22 (fun v w1 => ∃ (ed2 : Nat) (cap2 : Nat) (ef2 : Nat → Option Nat) (sz2 : Int32) (mc2 : Int32), v = none ∧ w1 = [[(ob, .inr (6, [.int ts, va_rf tp, .ref (d.2.2 tk), .ref la]))], [(la, .inr (11, [.int mc2, .ref ed2, .int sz2]))], [(ed2, .inl (d.2.1 6, cap2, .inr (.inr (.inr (.inr ef2)))))], tw, [(x, .inr (6, [.int xs, .ref ob, .ref (d.2.2 xk), .ref xc]))]] ∧ Q cap2 ef2 sz2 mc2) := by
  refine g_enter (by decide) (Nat.le_of_ble_eq_true rfl) ?_
  intro p e s m args below meth c A ls hF hH hl hin
  have hF : g_F p m c cX7_add 2 s args RX7 meth none := hF
  have hl : lv_has ls 2 [(0, .ref ob), (1, .ref x)] := hl
  unfold wp_X7_add_EI at hw
  refine lv_aload_n hF.1.1 hF.1.2.1 dX7_add_0 rfl (lv_at hl 1 rfl) ?_
  refine lv_aload_n hF.1.1 hF.1.2.1 dX7_add_1 rfl (lv_at hl 0 rfl) ?_
  refine g_put (cs' := [[(ob, .inr (6, [.int ts, va_rf tp, .ref (d.2.2 tk), .ref la]))], [(la, .inr (11, [.int mc_, .ref (d.2.2 4), .int 0]))], tw, [(x, .inr (6, [.int xs, va_rf (some ob), .ref (d.2.2 xk), .ref xc]))]]) (ch' := [(x, .inr (6, [.int xs, va_rf (some ob), .ref (d.2.2 xk), .ref xc]))]) (ty := (.object "GraphModules$Inner")) hF hH in_X7 rfl tyX7 tyX7_ok nmX7 3 0 rfl rfl 1 (by decide) q464 (fun _ h9 => h9) rfl (by decide +kernel) rfl rfl (Nat.le_of_ble_eq_true rfl) dX7_add_2 rfl rfl (fun H locs hH => ?_)
  refine lv_aload_n hF.1.1 hF.1.2.1 dX7_add_5 rfl (lv_at hl 0 rfl) ?_
  refine g_get (v := .ref la) hF hH in_X7 rfl 0 0 rfl rfl 3 (by decide) q503 (fun _ h9 => h9) rfl dX7_add_6 ?_
  refine lv_aload_n hF.1.1 hF.1.2.1 dX7_add_9 rfl (lv_at hl 1 rfl) ?_
  refine g_cV [.ref x] 1 rfl hF (met_J10_add_EI l hl0 d la x mc_ tw xs (some ob) xk xc _ hw) q530 q531 q532 q107 q533 rfl rfl (by decide +kernel) ⟨Nat.le_of_ble_eq_true rfl, Nat.le_of_ble_eq_true rfl⟩ hH [1, 2, 3] rfl rfl rfl 0 0 rfl rfl rfl hl.1 (Nat.le_of_ble_eq_true rfl) dX7_add_10 ⟨(by first | exact Nat.le_of_ble_eq_true rfl | omega | (dsimp only; omega)), (by first | exact Nat.le_of_ble_eq_true rfl | omega | (dsimp only; omega))⟩ (fun v w1 H locs hq hH => ?_)
  obtain ⟨r_7, q_8, q_9, n_10, n_11, n_12, rfl, rfl, hw⟩ := hq
  have hH : g_HS d A s [[(ob, .inr (6, [.int ts, va_rf tp, .ref (d.2.2 tk), .ref la]))], [(la, .inr (11, [.int n_12, .ref q_8, .int n_11]))], [(q_8, .inl (d.2.1 6, q_9, .inr (.inr (.inr (.inr n_10)))))], tw, [(x, .inr (6, [.int xs, va_rf (some ob), .ref (d.2.2 xk), .ref xc]))]] H locs := hH
  refine W.eq (g2 := (F0 m 13 ls [.int r_7])) rfl ?_
  refine W.widen (k := 1) (n := 22) (by first | exact Nat.le_of_ble_eq_true rfl | omega | (dsimp only; omega)) (by first | exact Nat.le_of_ble_eq_true rfl | omega | (dsimp only; omega)) ?_
  refine lv_pop hF.1.1 hF.1.2.1 dX7_add_13 rfl ?_
  exact g_vret hF hH ⟨q_8, q_9, n_10, n_11, n_12, rfl, rfl, hw⟩ dX7_add_14
def wp_K_isModule (i : Nat) (a b : Int32) (Q : Int32 → Prop) : Prop := (i = 0 → wp_X15_isModule a b Q) ∧ (i = 1 → wp_X16_isModule a b Q) ∧ (i = 2 → wp_X9_isModule a b Q) ∧ (i = 3 → wp_X10_isModule a b Q)
set_option maxRecDepth 100000 in
theorem g_cK_isModule {p : Program} {l : Launch} (hl0 : l.stackTraces = false) {e : Env} {R : Room} {s : State} {m : MethodId} {args : Array Value} {below : List Frame} {meth : Method} {c : Code} {H : Heap} {locs : List Loc} {cells slots : Nat} {Q : State → Prop} {cc : ByteArray} {pc nL : Nat} {ls : Array Slot} {rest : List Value} {d : g_D} {A : Nat → Prop} {cs : List va_W} {rt : Option FieldType}
    (hF : g_F p m c cc nL s args "GraphModules$Forest" meth rt) (hH : g_HS d A s cs H locs) {i : Nat} (hi : i < 4) {a b : Int32} {Qk : Int32 → Prop} (hw : wp_K_isModule i a b Qk) (hls : ls.size = nL) (hW : (rest.map fun v => v.category).sum ≤ 8) (hdg : decode cc pc = .ok (.invokevirtual 115, 3)) (hR1 : 2 ≤ R.frames) (hR2 : 82 ≤ R.locals) (hf1 : cells ≤ R.cells) (hf2 : slots ≤ R.slots)
    (kk : ∀ (r : Int32) (H1 : Heap) (locs1 : List Loc), Qk r → g_HS d A s cs H1 locs1 → W p l e R s m args below meth c H1 locs1 cells slots Q (F0 m (pc + 3) ls (.int r :: rest))) : W p l e R s m args below meth c H locs cells slots Q (F0 m pc ls (.int b :: .int a :: .ref (d.2.2 i) :: rest)) := by
  unfold wp_K_isModule at hw
  have hok : g_ok [] cs.length = true := by
    unfold g_ok g_rest
    rw [show ((List.range cs.length).filter (fun i => !([] : List Nat).contains i)) = List.range cs.length from List.filter_eq_self.mpr (fun _ _ => rfl)]
    exact List.isPerm_iff.mpr (List.Perm.refl _)
  rcases (show i = 0 ∨ i = 1 ∨ i = 2 ∨ i = 3 by omega) with rfl | rfl | rfl | rfl
  · refine g_cGL (x := ⟨"GraphModules$Kind", "isModule", "(II)Z"⟩) (owner := "GraphModules$Kind") [.int a, .int b] 2 rfl hF (met_X15_isModule l hl0 d a b _ (hw.1 rfl)) q701 q703 (va_Decl.abs (g_nw hH q702 rfl)) q705 q706 rfl rfl (by decide +kernel) ⟨Nat.le_trans (Nat.le_of_ble_eq_true rfl) hR1, Nat.le_trans (Nat.le_of_ble_eq_true rfl) hR2⟩ hH [] hok rfl rfl (g_recvK hH (i := 0) (by decide)) (hF.1.2.2.2.2 _ q704) hls hW hdg ⟨hf1, hf2⟩ (fun v w1 H1 locs1 hq hH1 => ?_)
    obtain ⟨r, rfl, rfl, hw⟩ := hq
    refine kk r H1 locs1 hw ?_
    have e9 : (List.filterMap (fun i => cs[i]?) (g_rest [] cs.length)) = cs := by
      show List.filterMap (fun i => cs[i]?) ((List.range cs.length).filter (fun i => ![].contains i)) = cs
      rw [show ((List.range cs.length).filter (fun i => !([] : List Nat).contains i)) = List.range cs.length from List.filter_eq_self.mpr (fun _ _ => rfl)]
      exact g_pick cs
    rw [e9, List.append_nil] at hH1
    exact hH1
  · refine g_cGL (x := ⟨"GraphModules$Kind", "isModule", "(II)Z"⟩) (owner := "GraphModules$Kind") [.int a, .int b] 2 rfl hF (met_X16_isModule l hl0 d a b _ (hw.2.1 rfl)) q701 q703 (va_Decl.abs (g_nw hH q702 rfl)) q708 q709 rfl rfl (by decide +kernel) ⟨Nat.le_trans (Nat.le_of_ble_eq_true rfl) hR1, Nat.le_trans (Nat.le_of_ble_eq_true rfl) hR2⟩ hH [] hok rfl rfl (g_recvK hH (i := 1) (by decide)) (hF.1.2.2.2.2 _ q707) hls hW hdg ⟨hf1, hf2⟩ (fun v w1 H1 locs1 hq hH1 => ?_)
    obtain ⟨r, rfl, rfl, hw⟩ := hq
    refine kk r H1 locs1 hw ?_
    have e9 : (List.filterMap (fun i => cs[i]?) (g_rest [] cs.length)) = cs := by
      show List.filterMap (fun i => cs[i]?) ((List.range cs.length).filter (fun i => ![].contains i)) = cs
      rw [show ((List.range cs.length).filter (fun i => !([] : List Nat).contains i)) = List.range cs.length from List.filter_eq_self.mpr (fun _ _ => rfl)]
      exact g_pick cs
    rw [e9, List.append_nil] at hH1
    exact hH1
  · refine g_cG (x := ⟨"GraphModules$Kind", "isModule", "(II)Z"⟩) (owner := "GraphModules$Kind") [.int a, .int b] 2 rfl hF (met_X9_isModule l hl0 d a b _ (hw.2.2.1 rfl)) q701 q703 (va_Decl.abs (g_nw hH q702 rfl)) q711 q119 q712 rfl rfl (by decide +kernel) ⟨Nat.le_trans (Nat.le_of_ble_eq_true rfl) hR1, Nat.le_trans (Nat.le_of_ble_eq_true rfl) hR2⟩ hH [] hok rfl rfl (g_recvK hH (i := 2) (by decide)) (hF.1.2.2.2.2 _ q710) hls hW hdg ⟨hf1, hf2⟩ (fun v w1 H1 locs1 hq hH1 => ?_)
    obtain ⟨r, rfl, rfl, hw⟩ := hq
    refine kk r H1 locs1 hw ?_
    have e9 : (List.filterMap (fun i => cs[i]?) (g_rest [] cs.length)) = cs := by
      show List.filterMap (fun i => cs[i]?) ((List.range cs.length).filter (fun i => ![].contains i)) = cs
      rw [show ((List.range cs.length).filter (fun i => !([] : List Nat).contains i)) = List.range cs.length from List.filter_eq_self.mpr (fun _ _ => rfl)]
      exact g_pick cs
    rw [e9, List.append_nil] at hH1
    exact hH1
  · refine g_cG (x := ⟨"GraphModules$Kind", "isModule", "(II)Z"⟩) (owner := "GraphModules$Kind") [.int a, .int b] 2 rfl hF (met_X10_isModule l hl0 d a b _ (hw.2.2.2 rfl)) q701 q703 (va_Decl.abs (g_nw hH q702 rfl)) q716 q120 q717 rfl rfl (by decide +kernel) ⟨Nat.le_trans (Nat.le_of_ble_eq_true rfl) hR1, Nat.le_trans (Nat.le_of_ble_eq_true rfl) hR2⟩ hH [] hok rfl rfl (g_recvK hH (i := 3) (by decide)) (hF.1.2.2.2.2 _ q722) hls hW hdg ⟨hf1, hf2⟩ (fun v w1 H1 locs1 hq hH1 => ?_)
    obtain ⟨r, rfl, rfl, hw⟩ := hq
    refine kk r H1 locs1 hw ?_
    have e9 : (List.filterMap (fun i => cs[i]?) (g_rest [] cs.length)) = cs := by
      show List.filterMap (fun i => cs[i]?) ((List.range cs.length).filter (fun i => ![].contains i)) = cs
      rw [show ((List.range cs.length).filter (fun i => !([] : List Nat).contains i)) = List.range cs.length from List.filter_eq_self.mpr (fun _ _ => rfl)]
      exact g_pick cs
    rw [e9, List.append_nil] at hH1
    exact hH1
def wp_K_sign (i : Nat) (Q : Int32 → Prop) : Prop := (i = 0 → wp_X8_sign 0 Q) ∧ (i = 1 → wp_X16_sign Q) ∧ (i = 2 → wp_X9_sign Q) ∧ (i = 3 → wp_X8_sign 3 Q)
set_option maxRecDepth 100000 in
theorem g_cK_sign {p : Program} {l : Launch} (hl0 : l.stackTraces = false) {e : Env} {R : Room} {s : State} {m : MethodId} {args : Array Value} {below : List Frame} {meth : Method} {c : Code} {H : Heap} {locs : List Loc} {cells slots : Nat} {Q : State → Prop} {cc : ByteArray} {pc nL : Nat} {ls : Array Slot} {rest : List Value} {d : g_D} {A : Nat → Prop} {cs : List va_W} {rt : Option FieldType}
    (hF : g_F p m c cc nL s args "GraphModules" meth rt) (hH : g_HS d A s cs H locs) {i : Nat} (hi : i < 4) {Qk : Int32 → Prop} (hw : wp_K_sign i Qk) (hls : ls.size = nL) (hW : (rest.map fun v => v.category).sum ≤ 8) (hdg : decode cc pc = .ok (.invokevirtual 399, 3)) (hR1 : 1 ≤ R.frames) (hR2 : 20 ≤ R.locals) (hf1 : cells ≤ R.cells) (hf2 : slots ≤ R.slots)
    (kk : ∀ (r : Int32) (H1 : Heap) (locs1 : List Loc), Qk r → g_HS d A s cs H1 locs1 → W p l e R s m args below meth c H1 locs1 cells slots Q (F0 m (pc + 3) ls (.int r :: rest))) : W p l e R s m args below meth c H locs cells slots Q (F0 m pc ls (.ref (d.2.2 i) :: rest)) := by
  unfold wp_K_sign at hw
  have hok : g_ok [] cs.length = true := by
    unfold g_ok g_rest
    rw [show ((List.range cs.length).filter (fun i => !([] : List Nat).contains i)) = List.range cs.length from List.filter_eq_self.mpr (fun _ _ => rfl)]
    exact List.isPerm_iff.mpr (List.Perm.refl _)
  rcases (show i = 0 ∨ i = 1 ∨ i = 2 ∨ i = 3 by omega) with rfl | rfl | rfl | rfl
  · refine g_cG (x := ⟨"GraphModules$Kind", "sign", "()C"⟩) (owner := "GraphModules$Kind") [] 0 rfl hF (met_X8_sign l hl0 d 0 _ (hw.1 rfl)) q1339 q1341 (va_Decl.of (hF.1.2.2.2.2 _ q1340) (hF.1.2.2.2.2 _ q1350)) q1340 q112 q1350 rfl rfl (by decide +kernel) ⟨Nat.le_trans (Nat.le_of_ble_eq_true rfl) hR1, Nat.le_trans (Nat.le_of_ble_eq_true rfl) hR2⟩ hH [] hok rfl rfl (g_recvK hH (i := 0) (by decide)) (hF.1.2.2.2.2 _ q1342) hls hW hdg ⟨hf1, hf2⟩ (fun v w1 H1 locs1 hq hH1 => ?_)
    obtain ⟨r, rfl, rfl, hw⟩ := hq
    refine kk r H1 locs1 hw ?_
    have e9 : (List.filterMap (fun i => cs[i]?) (g_rest [] cs.length)) = cs := by
      show List.filterMap (fun i => cs[i]?) ((List.range cs.length).filter (fun i => ![].contains i)) = cs
      rw [show ((List.range cs.length).filter (fun i => !([] : List Nat).contains i)) = List.range cs.length from List.filter_eq_self.mpr (fun _ _ => rfl)]
      exact g_pick cs
    rw [e9, List.append_nil] at hH1
    exact hH1
  · refine g_cGL (x := ⟨"GraphModules$Kind", "sign", "()C"⟩) (owner := "GraphModules$Kind") [] 0 rfl hF (met_X16_sign l hl0 d _ (hw.2.1 rfl)) q1339 q1341 (va_Decl.of (hF.1.2.2.2.2 _ q1340) (hF.1.2.2.2.2 _ q1350)) q1344 q1345 rfl rfl (by decide +kernel) ⟨Nat.le_trans (Nat.le_of_ble_eq_true rfl) hR1, Nat.le_trans (Nat.le_of_ble_eq_true rfl) hR2⟩ hH [] hok rfl rfl (g_recvK hH (i := 1) (by decide)) (hF.1.2.2.2.2 _ q1343) hls hW hdg ⟨hf1, hf2⟩ (fun v w1 H1 locs1 hq hH1 => ?_)
    obtain ⟨r, rfl, rfl, hw⟩ := hq
    refine kk r H1 locs1 hw ?_
    have e9 : (List.filterMap (fun i => cs[i]?) (g_rest [] cs.length)) = cs := by
      show List.filterMap (fun i => cs[i]?) ((List.range cs.length).filter (fun i => ![].contains i)) = cs
      rw [show ((List.range cs.length).filter (fun i => !([] : List Nat).contains i)) = List.range cs.length from List.filter_eq_self.mpr (fun _ _ => rfl)]
      exact g_pick cs
    rw [e9, List.append_nil] at hH1
    exact hH1
  · refine g_cG (x := ⟨"GraphModules$Kind", "sign", "()C"⟩) (owner := "GraphModules$Kind") [] 0 rfl hF (met_X9_sign l hl0 d _ (hw.2.2.1 rfl)) q1339 q1341 (va_Decl.of (hF.1.2.2.2.2 _ q1340) (hF.1.2.2.2.2 _ q1350)) q1347 q119 q1348 rfl rfl (by decide +kernel) ⟨Nat.le_trans (Nat.le_of_ble_eq_true rfl) hR1, Nat.le_trans (Nat.le_of_ble_eq_true rfl) hR2⟩ hH [] hok rfl rfl (g_recvK hH (i := 2) (by decide)) (hF.1.2.2.2.2 _ q1346) hls hW hdg ⟨hf1, hf2⟩ (fun v w1 H1 locs1 hq hH1 => ?_)
    obtain ⟨r, rfl, rfl, hw⟩ := hq
    refine kk r H1 locs1 hw ?_
    have e9 : (List.filterMap (fun i => cs[i]?) (g_rest [] cs.length)) = cs := by
      show List.filterMap (fun i => cs[i]?) ((List.range cs.length).filter (fun i => ![].contains i)) = cs
      rw [show ((List.range cs.length).filter (fun i => !([] : List Nat).contains i)) = List.range cs.length from List.filter_eq_self.mpr (fun _ _ => rfl)]
      exact g_pick cs
    rw [e9, List.append_nil] at hH1
    exact hH1
  · refine g_cG (x := ⟨"GraphModules$Kind", "sign", "()C"⟩) (owner := "GraphModules$Kind") [] 0 rfl hF (met_X8_sign l hl0 d 3 _ (hw.2.2.2 rfl)) q1339 q1341 (va_Decl.of (hF.1.2.2.2.2 _ q1340) (hF.1.2.2.2.2 _ q1350)) q1340 q112 q1350 rfl rfl (by decide +kernel) ⟨Nat.le_trans (Nat.le_of_ble_eq_true rfl) hR1, Nat.le_trans (Nat.le_of_ble_eq_true rfl) hR2⟩ hH [] hok rfl rfl (g_recvK hH (i := 3) (by decide)) (hF.1.2.2.2.2 _ q1349) hls hW hdg ⟨hf1, hf2⟩ (fun v w1 H1 locs1 hq hH1 => ?_)
    obtain ⟨r, rfl, rfl, hw⟩ := hq
    refine kk r H1 locs1 hw ?_
    have e9 : (List.filterMap (fun i => cs[i]?) (g_rest [] cs.length)) = cs := by
      show List.filterMap (fun i => cs[i]?) ((List.range cs.length).filter (fun i => ![].contains i)) = cs
      rw [show ((List.range cs.length).filter (fun i => !([] : List Nat).contains i)) = List.range cs.length from List.filter_eq_self.mpr (fun _ _ => rfl)]
      exact g_pick cs
    rw [e9, List.append_nil] at hH1
    exact hH1
def wp_K_ordinal (i : Nat) (Q : Int32 → Prop) : Prop := (i = 0 → wp_J11_ordinal 0 Q) ∧ (i = 1 → wp_J11_ordinal 1 Q) ∧ (i = 2 → wp_J11_ordinal 2 Q) ∧ (i = 3 → wp_J11_ordinal 3 Q)
set_option maxRecDepth 100000 in
theorem g_cK_ordinal {p : Program} {l : Launch} (hl0 : l.stackTraces = false) {e : Env} {R : Room} {s : State} {m : MethodId} {args : Array Value} {below : List Frame} {meth : Method} {c : Code} {H : Heap} {locs : List Loc} {cells slots : Nat} {Q : State → Prop} {cc : ByteArray} {pc nL : Nat} {ls : Array Slot} {rest : List Value} {d : g_D} {A : Nat → Prop} {cs : List va_W} {rt : Option FieldType}
    (hF : g_F p m c cc nL s args "GraphModules" meth rt) (hH : g_HS d A s cs H locs) {i : Nat} (hi : i < 4) {Qk : Int32 → Prop} (hw : wp_K_ordinal i Qk) (hls : ls.size = nL) (hW : (rest.map fun v => v.category).sum ≤ 8) (hdg : decode cc pc = .ok (.invokevirtual 266, 3)) (hR1 : 1 ≤ R.frames) (hR2 : 20 ≤ R.locals) (hf1 : cells ≤ R.cells) (hf2 : slots ≤ R.slots)
    (kk : ∀ (r : Int32) (H1 : Heap) (locs1 : List Loc), Qk r → g_HS d A s cs H1 locs1 → W p l e R s m args below meth c H1 locs1 cells slots Q (F0 m (pc + 3) ls (.int r :: rest))) : W p l e R s m args below meth c H locs cells slots Q (F0 m pc ls (.ref (d.2.2 i) :: rest)) := by
  unfold wp_K_ordinal at hw
  have hok : g_ok [] cs.length = true := by
    unfold g_ok g_rest
    rw [show ((List.range cs.length).filter (fun i => !([] : List Nat).contains i)) = List.range cs.length from List.filter_eq_self.mpr (fun _ _ => rfl)]
    exact List.isPerm_iff.mpr (List.Perm.refl _)
  rcases (show i = 0 ∨ i = 1 ∨ i = 2 ∨ i = 3 by omega) with rfl | rfl | rfl | rfl
  · refine g_cG (x := ⟨"GraphModules$Kind", "ordinal", "()I"⟩) (owner := "java/lang/Enum") [] 0 rfl hF (met_J11_ordinal l hl0 d 0 _ (hw.1 rfl)) q874 q875 (va_Decl.abs (g_nw hH q876 rfl)) q881 q111 q882 rfl rfl (by decide +kernel) ⟨Nat.le_trans (Nat.le_of_ble_eq_true rfl) hR1, Nat.le_trans (Nat.le_of_ble_eq_true rfl) hR2⟩ hH [] hok rfl rfl (g_recvK hH (i := 0) (by decide)) (hF.1.2.2.2.2 _ q877) hls hW hdg ⟨hf1, hf2⟩ (fun v w1 H1 locs1 hq hH1 => ?_)
    obtain ⟨r, rfl, rfl, hw⟩ := hq
    refine kk r H1 locs1 hw ?_
    have e9 : (List.filterMap (fun i => cs[i]?) (g_rest [] cs.length)) = cs := by
      show List.filterMap (fun i => cs[i]?) ((List.range cs.length).filter (fun i => ![].contains i)) = cs
      rw [show ((List.range cs.length).filter (fun i => !([] : List Nat).contains i)) = List.range cs.length from List.filter_eq_self.mpr (fun _ _ => rfl)]
      exact g_pick cs
    rw [e9, List.append_nil] at hH1
    exact hH1
  · refine g_cG (x := ⟨"GraphModules$Kind", "ordinal", "()I"⟩) (owner := "java/lang/Enum") [] 0 rfl hF (met_J11_ordinal l hl0 d 1 _ (hw.2.1 rfl)) q874 q875 (va_Decl.abs (g_nw hH q876 rfl)) q881 q111 q882 rfl rfl (by decide +kernel) ⟨Nat.le_trans (Nat.le_of_ble_eq_true rfl) hR1, Nat.le_trans (Nat.le_of_ble_eq_true rfl) hR2⟩ hH [] hok rfl rfl (g_recvK hH (i := 1) (by decide)) (hF.1.2.2.2.2 _ q878) hls hW hdg ⟨hf1, hf2⟩ (fun v w1 H1 locs1 hq hH1 => ?_)
    obtain ⟨r, rfl, rfl, hw⟩ := hq
    refine kk r H1 locs1 hw ?_
    have e9 : (List.filterMap (fun i => cs[i]?) (g_rest [] cs.length)) = cs := by
      show List.filterMap (fun i => cs[i]?) ((List.range cs.length).filter (fun i => ![].contains i)) = cs
      rw [show ((List.range cs.length).filter (fun i => !([] : List Nat).contains i)) = List.range cs.length from List.filter_eq_self.mpr (fun _ _ => rfl)]
      exact g_pick cs
    rw [e9, List.append_nil] at hH1
    exact hH1
  · refine g_cG (x := ⟨"GraphModules$Kind", "ordinal", "()I"⟩) (owner := "java/lang/Enum") [] 0 rfl hF (met_J11_ordinal l hl0 d 2 _ (hw.2.2.1 rfl)) q874 q875 (va_Decl.abs (g_nw hH q876 rfl)) q881 q111 q882 rfl rfl (by decide +kernel) ⟨Nat.le_trans (Nat.le_of_ble_eq_true rfl) hR1, Nat.le_trans (Nat.le_of_ble_eq_true rfl) hR2⟩ hH [] hok rfl rfl (g_recvK hH (i := 2) (by decide)) (hF.1.2.2.2.2 _ q879) hls hW hdg ⟨hf1, hf2⟩ (fun v w1 H1 locs1 hq hH1 => ?_)
    obtain ⟨r, rfl, rfl, hw⟩ := hq
    refine kk r H1 locs1 hw ?_
    have e9 : (List.filterMap (fun i => cs[i]?) (g_rest [] cs.length)) = cs := by
      show List.filterMap (fun i => cs[i]?) ((List.range cs.length).filter (fun i => ![].contains i)) = cs
      rw [show ((List.range cs.length).filter (fun i => !([] : List Nat).contains i)) = List.range cs.length from List.filter_eq_self.mpr (fun _ _ => rfl)]
      exact g_pick cs
    rw [e9, List.append_nil] at hH1
    exact hH1
  · refine g_cG (x := ⟨"GraphModules$Kind", "ordinal", "()I"⟩) (owner := "java/lang/Enum") [] 0 rfl hF (met_J11_ordinal l hl0 d 3 _ (hw.2.2.2 rfl)) q874 q875 (va_Decl.abs (g_nw hH q876 rfl)) q881 q111 q882 rfl rfl (by decide +kernel) ⟨Nat.le_trans (Nat.le_of_ble_eq_true rfl) hR1, Nat.le_trans (Nat.le_of_ble_eq_true rfl) hR2⟩ hH [] hok rfl rfl (g_recvK hH (i := 3) (by decide)) (hF.1.2.2.2.2 _ q880) hls hW hdg ⟨hf1, hf2⟩ (fun v w1 H1 locs1 hq hH1 => ?_)
    obtain ⟨r, rfl, rfl, hw⟩ := hq
    refine kk r H1 locs1 hw ?_
    have e9 : (List.filterMap (fun i => cs[i]?) (g_rest [] cs.length)) = cs := by
      show List.filterMap (fun i => cs[i]?) ((List.range cs.length).filter (fun i => ![].contains i)) = cs
      rw [show ((List.range cs.length).filter (fun i => !([] : List Nat).contains i)) = List.range cs.length from List.filter_eq_self.mpr (fun _ _ => rfl)]
      exact g_pick cs
    rw [e9, List.append_nil] at hH1
    exact hH1
