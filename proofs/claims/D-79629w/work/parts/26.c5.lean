def wp_J8_init (Q : Prop) : Prop := Q
set_option maxHeartbeats 4000000 in
set_option maxRecDepth 100000 in
theorem met_J8_init (l : Launch) (hl0 : l.stackTraces = false) (d : g_D) (ob : Nat) (Q : Prop) (hw : wp_J8_init Q) : g_Met l d yJ8_init cJ8_init 1 none ({ frames := 1, cells := 0, slots := 0, locals := 12 } : Room) [.ref ob] [[(ob, .inr (11, [.int 0, .null, .int 0]))]] 0 0 (fun v w1 => v = none ∧ w1 = [[(ob, .inr (11, [.int 0, .null, .int 0]))]] ∧ Q) := by
  refine g_enter (by decide) (Nat.le_of_ble_eq_true rfl) ?_
  intro p e s m args below meth c A ls hF hH hl hin
  have hF : g_F p m c cJ8_init 1 s args RJ8 meth none := hF
  have hl : lv_has ls 1 [(0, .ref ob)] := hl
  have hin : meth.name = "<init>" := hin rfl
  unfold wp_J8_init at hw
  refine lv_aload_n hF.1.1 hF.1.2.1 dJ8_init_0 rfl (lv_at hl 0 rfl) ?_
  refine W.objInit hF.1.1 hF.1.2.1 hF.1.2.2.2.1 (hF.1.2.2.2.2 _ q423) (hF.1.2.2.2.2 _ q137) (hF.1.2.2.2.2 _ q138) rfl (by rw [hF.1.2.2.1]; exact hl.1) rfl dJ8_init_1 (Nat.le_of_ble_eq_true rfl) (Nat.le_of_ble_eq_true rfl) ?_
  refine W.eq (g2 := (F0 m 4 ls [])) rfl ?_
  exact g_vret hF hH ⟨rfl, rfl, hw⟩ dJ8_init_4

def wp_J9_init (Q : Prop) : Prop := (wp_J8_init Q)
set_option maxHeartbeats 4000000 in
set_option maxRecDepth 100000 in
theorem met_J9_init (l : Launch) (hl0 : l.stackTraces = false) (d : g_D) (ob : Nat) (Q : Prop) (hw : wp_J9_init Q) : g_Met l d yJ9_init cJ9_init 1 none ({ frames := 2, cells := 0, slots := 0, locals := 32 } : Room) [.ref ob] [[(ob, .inr (11, [.int 0, .null, .int 0]))]] 0 0 (fun v w1 => v = none ∧ w1 = [[(ob, .inr (11, [.int 0, .null, .int 0]))]] ∧ Q) := by
  refine g_enter (by decide) (Nat.le_of_ble_eq_true rfl) ?_
  intro p e s m args below meth c A ls hF hH hl hin
  have hF : g_F p m c cJ9_init 1 s args RJ9 meth none := hF
  have hl : lv_has ls 1 [(0, .ref ob)] := hl
  have hin : meth.name = "<init>" := hin rfl
  unfold wp_J9_init at hw
  refine lv_aload_n hF.1.1 hF.1.2.1 dJ9_init_0 rfl (lv_at hl 0 rfl) ?_
  refine g_cI [] 0 rfl hF (met_J8_init l hl0 d ob _ hw) q420 q421 q105 q422 rfl rfl rfl (by decide +kernel) ⟨Nat.le_of_ble_eq_true rfl, Nat.le_of_ble_eq_true rfl⟩ hH [0] rfl rfl rfl hl.1 (Nat.le_of_ble_eq_true rfl) dJ9_init_1 ⟨(by first | exact Nat.le_of_ble_eq_true rfl | omega | (dsimp only; omega)), (by first | exact Nat.le_of_ble_eq_true rfl | omega | (dsimp only; omega))⟩ (fun v w1 H locs hq hH => ?_)
  obtain ⟨rfl, rfl, hw⟩ := hq
  have hH : g_HS d A s [[(ob, .inr (11, [.int 0, .null, .int 0]))]] H locs := hH
  refine W.eq (g2 := (F0 m 4 ls [])) rfl ?_
  refine lv_aload_n hF.1.1 hF.1.2.1 dJ9_init_4 rfl (lv_at hl 0 rfl) ?_
  refine lv_iconst (v := 0) hF.1.1 hF.1.2.1 dJ9_init_5 (by decide) ?_
  refine g_put (cs' := [[(ob, .inr (11, [.int 0, .null, .int 0]))]]) (ch' := [(ob, .inr (11, [.int 0, .null, .int 0]))]) (ty := .int) hF hH in_J10 rfl tyJ10 tyJ10_ok nmJ10 0 0 rfl rfl 0 (by decide) q430 (fun _ h9 => h9) rfl (by decide +kernel) rfl rfl (Nat.le_of_ble_eq_true rfl) dJ9_init_6 rfl rfl (fun H locs hH => ?_)
  exact g_vret hF hH ⟨rfl, rfl, hw⟩ dJ9_init_9

def wp_J10_init (Q : Prop) : Prop := (wp_J9_init Q)
set_option maxHeartbeats 4000000 in
set_option maxRecDepth 100000 in
theorem met_J10_init (l : Launch) (hl0 : l.stackTraces = false) (d : g_D) (ob : Nat) (Q : Prop) (hw : wp_J10_init Q) : g_Met l d yJ10_init cJ10_init 1 none ({ frames := 3, cells := 0, slots := 0, locals := 52 } : Room) [.ref ob] [[(ob, .inr (11, [.int 0, .null, .int 0]))]] 0 0 (fun v w1 => v = none ∧ w1 = [[(ob, .inr (11, [.int 0, .ref (d.2.2 4), .int 0]))]] ∧ Q) := by
  refine g_enter (by decide) (Nat.le_of_ble_eq_true rfl) ?_
  intro p e s m args below meth c A ls hF hH hl hin
  have hF : g_F p m c cJ10_init 1 s args RJ10 meth none := hF
  have hl : lv_has ls 1 [(0, .ref ob)] := hl
  have hin : meth.name = "<init>" := hin rfl
  unfold wp_J10_init at hw
  refine lv_aload_n hF.1.1 hF.1.2.1 dJ10_init_0 rfl (lv_at hl 0 rfl) ?_
  refine g_cI [] 0 rfl hF (met_J9_init l hl0 d ob _ hw) q417 q418 q106 q419 rfl rfl rfl (by decide +kernel) ⟨Nat.le_of_ble_eq_true rfl, Nat.le_of_ble_eq_true rfl⟩ hH [0] rfl rfl rfl hl.1 (Nat.le_of_ble_eq_true rfl) dJ10_init_1 ⟨(by first | exact Nat.le_of_ble_eq_true rfl | omega | (dsimp only; omega)), (by first | exact Nat.le_of_ble_eq_true rfl | omega | (dsimp only; omega))⟩ (fun v w1 H locs hq hH => ?_)
  obtain ⟨rfl, rfl, hw⟩ := hq
  have hH : g_HS d A s [[(ob, .inr (11, [.int 0, .null, .int 0]))]] H locs := hH
  refine W.eq (g2 := (F0 m 4 ls [])) rfl ?_
  refine lv_aload_n hF.1.1 hF.1.2.1 dJ10_init_4 rfl (lv_at hl 0 rfl) ?_
  refine g_gets (v := .ref (d.2.2 4)) hF hH (g_z2 hH).1 q424 (fun _ h9 => h9) dJ10_init_5 ?_
  refine g_put (cs' := [[(ob, .inr (11, [.int 0, .ref (d.2.2 4), .int 0]))]]) (ch' := [(ob, .inr (11, [.int 0, .ref (d.2.2 4), .int 0]))]) (ty := (.array (.object "java/lang/Object"))) hF hH in_J10 rfl tyJ10 tyJ10_ok nmJ10 0 0 rfl rfl 1 (by decide) q426 (fun _ h9 => h9) rfl (by decide +kernel) rfl rfl (Nat.le_of_ble_eq_true rfl) dJ10_init_8 rfl rfl (fun H locs hH => ?_)
  exact g_vret hF hH ⟨rfl, rfl, hw⟩ dJ10_init_11

def wp_J10_size (mc_ : Int32) (sz : Int32) (Q : Int32 → Prop) : Prop := (Q sz)
set_option maxHeartbeats 4000000 in
set_option maxRecDepth 100000 in
theorem met_J10_size (l : Launch) (hl0 : l.stackTraces = false) (d : g_D) (ob : Nat) (mc_ : Int32) (ed : Nat) (sz : Int32) (Q : Int32 → Prop) (hw : wp_J10_size mc_ sz Q) : g_Met l d yJ10_size cJ10_size 1 (Option.some FieldType.int) ({ frames := 0, cells := 0, slots := 0, locals := 0 } : Room) [.ref ob] [[(ob, .inr (11, [.int mc_, .ref ed, .int sz]))]] 0 0 (fun v w1 => ∃ (r : Int32), v = some (.int r) ∧ w1 = [[(ob, .inr (11, [.int mc_, .ref ed, .int sz]))]] ∧ Q r) := by
  refine g_enter (by decide) (Nat.le_of_ble_eq_true rfl) ?_
  intro p e s m args below meth c A ls hF hH hl hin
  have hF : g_F p m c cJ10_size 1 s args RJ10 meth (Option.some FieldType.int) := hF
  have hl : lv_has ls 1 [(0, .ref ob)] := hl
  unfold wp_J10_size at hw
  refine lv_aload_n hF.1.1 hF.1.2.1 dJ10_size_0 rfl (lv_at hl 0 rfl) ?_
  refine g_get (v := .int sz) hF hH in_J10 rfl 0 0 rfl rfl 2 (by decide) q429 (fun _ h9 => h9) rfl dJ10_size_1 ?_
  exact g_iret hF hH ⟨sz, rfl, rfl, hw⟩ dJ10_size_4

def wb_J15_checkIndex_9 (a1 : Int32) (a2 : Int32) (Q : Int32 → Prop) : Prop := False
def wp_J15_checkIndex (a1 : Int32) (a2 : Int32) (Q : Int32 → Prop) : Prop := ((a1 < 0 → (wb_J15_checkIndex_9 a1 a2 Q)) ∧ (¬ a1 < 0 → ((a1 < a2 → (Q a1)) ∧ (¬ a1 < a2 → (wb_J15_checkIndex_9 a1 a2 Q)))))
set_option maxHeartbeats 4000000 in
set_option maxRecDepth 100000 in
theorem met_J15_checkIndex (l : Launch) (hl0 : l.stackTraces = false) (d : g_D) (a1 : Int32) (a2 : Int32) (Q : Int32 → Prop) (hw : wp_J15_checkIndex a1 a2 Q) : g_Met l d yJ15_checkIndex cJ15_checkIndex 3 (Option.some FieldType.int) ({ frames := 0, cells := 0, slots := 0, locals := 0 } : Room) [.int a1, .int a2, .null] [] 0 0 (fun v w1 => ∃ (r : Int32), v = some (.int r) ∧ w1 = [] ∧ Q r) := by
  refine g_enter (by decide) (Nat.le_of_ble_eq_true rfl) ?_
  intro p e s m args below meth c A ls hF hH hl hin
  have hF : g_F p m c cJ15_checkIndex 3 s args RJ15 meth (Option.some FieldType.int) := hF
  have hl : lv_has ls 3 [(0, .int a1), (1, .int a2), (2, .null)] := hl
  have bk_9 : ∀ (H : Heap) (locs : List Loc) (ls : Array Slot), g_HS d A s [] H locs → lv_has ls 3 [(0, .int a1), (1, .int a2), (2, .null)] → wb_J15_checkIndex_9 a1 a2 Q → W p l e ({ frames := 0, cells := 0, slots := 0, locals := 0 } : Room) s m args below meth c H locs 0 0 (g_E d (fun v w1 => ∃ (r : Int32), v = some (.int r) ∧ w1 = [] ∧ Q r) A below args s 0 0) (F0 m 9 ls []) := by
    intro  H locs ls hH hl hw
    unfold wb_J15_checkIndex_9 at hw
    refine lv_aload_nN hF.1.1 hF.1.2.1 dJ15_checkIndex_9 rfl (lv_at hl 2 rfl) ?_
    refine lv_iload_n hF.1.1 hF.1.2.1 dJ15_checkIndex_10 rfl (lv_at hl 0 rfl) ?_
    refine lv_iload_n hF.1.1 hF.1.2.1 dJ15_checkIndex_11 rfl (lv_at hl 1 rfl) ?_
    exact hw.elim
  unfold wp_J15_checkIndex at hw
  refine lv_iload_n hF.1.1 hF.1.2.1 dJ15_checkIndex_0 rfl (lv_at hl 0 rfl) ?_
  refine lv_if_lt (tgt := 9) hF.1.1 hF.1.2.1 dJ15_checkIndex_1 (by decide) (fun c_3 => ?_) (fun c_3 => ?_)
  · have hw := hw.1 c_3
    exact bk_9 _ _ _ hH hl hw
  · have hw := hw.2 c_3
    refine lv_iload_n hF.1.1 hF.1.2.1 dJ15_checkIndex_4 rfl (lv_at hl 0 rfl) ?_
    refine lv_iload_n hF.1.1 hF.1.2.1 dJ15_checkIndex_5 rfl (lv_at hl 1 rfl) ?_
    refine lv_icmp_lt (tgt := 16) hF.1.1 hF.1.2.1 dJ15_checkIndex_6 (by decide) (fun c_4 => ?_) (fun c_4 => ?_)
    · have hw := hw.1 c_4
      refine lv_iload_n hF.1.1 hF.1.2.1 dJ15_checkIndex_16 rfl (lv_at hl 0 rfl) ?_
      exact g_iret hF hH ⟨a1, rfl, rfl, hw⟩ dJ15_checkIndex_17
    · have hw := hw.2 c_4
      exact bk_9 _ _ _ hH hl hw

def wp_J14_checkIndex (a1 : Int32) (a2 : Int32) (Q : Int32 → Prop) : Prop := (wp_J15_checkIndex a1 a2 (fun r_2 => (Q r_2)))
set_option maxHeartbeats 4000000 in
set_option maxRecDepth 100000 in
theorem met_J14_checkIndex (l : Launch) (hl0 : l.stackTraces = false) (d : g_D) (a1 : Int32) (a2 : Int32) (Q : Int32 → Prop) (hw : wp_J14_checkIndex a1 a2 Q) : g_Met l d yJ14_checkIndex cJ14_checkIndex 2 (Option.some FieldType.int) ({ frames := 1, cells := 0, slots := 0, locals := 22 } : Room) [.int a1, .int a2] [] 0 0 (fun v w1 => ∃ (r : Int32), v = some (.int r) ∧ w1 = [] ∧ Q r) := by
  refine g_enter (by decide) (Nat.le_of_ble_eq_true rfl) ?_
  intro p e s m args below meth c A ls hF hH hl hin
  have hF : g_F p m c cJ14_checkIndex 2 s args RJ14 meth (Option.some FieldType.int) := hF
  have hl : lv_has ls 2 [(0, .int a1), (1, .int a2)] := hl
  unfold wp_J14_checkIndex at hw
  refine lv_iload_n hF.1.1 hF.1.2.1 dJ14_checkIndex_0 rfl (lv_at hl 0 rfl) ?_
  refine lv_iload_n hF.1.1 hF.1.2.1 dJ14_checkIndex_1 rfl (lv_at hl 1 rfl) ?_
  refine lv_null hF.1.1 hF.1.2.1 dJ14_checkIndex_2 ?_
  refine g_cS [.int a1, .int a2, .null] 3 rfl hF (met_J15_checkIndex l hl0 d a1 a2 _ hw) q611 q612 q117 q613 rfl rfl (by decide +kernel) ⟨Nat.le_of_ble_eq_true rfl, Nat.le_of_ble_eq_true rfl⟩ hH [] rfl rfl rfl hl.1 (Nat.le_of_ble_eq_true rfl) dJ14_checkIndex_3 ⟨(by first | exact Nat.le_of_ble_eq_true rfl | omega | (dsimp only; omega)), (by first | exact Nat.le_of_ble_eq_true rfl | omega | (dsimp only; omega))⟩ (fun v w1 H locs hq hH => ?_)
  obtain ⟨r_2, rfl, rfl, hw⟩ := hq
  have hH : g_HS d A s [] H locs := hH
  refine W.eq (g2 := (F0 m 6 ls [.int r_2])) rfl ?_
  exact g_iret hF hH ⟨r_2, rfl, rfl, hw⟩ dJ14_checkIndex_6

def wp_J10_elementData (a1 : Int32) (mc_ : Int32) (sz : Int32) (ef : Nat → Option Nat) (cap : Nat) (Q : (Option Nat) → Prop) : Prop := (vp_in a1 cap ∧ (Q (ef a1.toNatClampNeg)))
set_option maxHeartbeats 4000000 in
set_option maxRecDepth 100000 in
theorem met_J10_elementData (l : Launch) (hl0 : l.stackTraces = false) (d : g_D) (ob : Nat) (a1 : Int32) (mc_ : Int32) (ed : Nat) (sz : Int32) (ef : Nat → Option Nat) (cap : Nat) (Q : (Option Nat) → Prop) (hw : wp_J10_elementData a1 mc_ sz ef cap Q) : g_Met l d yJ10_elementData cJ10_elementData 2 (Option.some (FieldType.object "java/lang/Object")) ({ frames := 0, cells := 0, slots := 0, locals := 0 } : Room) [.ref ob, .int a1] [[(ob, .inr (11, [.int mc_, .ref ed, .int sz]))], [(ed, .inl (d.2.1 6, cap, .inr (.inr (.inr (.inr ef)))))]] 0 0 (fun v w1 => ∃ (rq : Option Nat), v = some (va_rf rq) ∧ w1 = [[(ob, .inr (11, [.int mc_, .ref ed, .int sz]))], [(ed, .inl (d.2.1 6, cap, .inr (.inr (.inr (.inr ef)))))]] ∧ Q rq) := by
  refine g_enter (by decide) (Nat.le_of_ble_eq_true rfl) ?_
  intro p e s m args below meth c A ls hF hH hl hin
  have hF : g_F p m c cJ10_elementData 2 s args RJ10 meth (Option.some (FieldType.object "java/lang/Object")) := hF
  have hl : lv_has ls 2 [(0, .ref ob), (1, .int a1)] := hl
  unfold wp_J10_elementData at hw
  refine lv_aload_n hF.1.1 hF.1.2.1 dJ10_elementData_0 rfl (lv_at hl 0 rfl) ?_
  refine g_get (v := .ref ed) hF hH in_J10 rfl 0 0 rfl rfl 1 (by decide) q426 (fun _ h9 => h9) rfl dJ10_elementData_1 ?_
  refine lv_iload_n hF.1.1 hF.1.2.1 dJ10_elementData_4 rfl (lv_at hl 1 rfl) ?_
  obtain ⟨hi_2, hw⟩ := hw
  refine g_aald hF hH 1 0 rfl rfl hi_2 dJ10_elementData_5 ?_
  exact g_aret hF (Or.inl ⟨_, rfl⟩) (va_rf_or _) hH ⟨(ef a1.toNatClampNeg), rfl, rfl, hw⟩ dJ10_elementData_6

def wp_J10_get (a1 : Int32) (mc_ : Int32) (sz : Int32) (ef : Nat → Option Nat) (cap : Nat) (Q : (Option Nat) → Prop) : Prop := (wp_J14_checkIndex a1 sz (fun r_3 => (wp_J10_elementData a1 mc_ sz ef cap (fun n_4 => (Q n_4)))))
set_option maxHeartbeats 4000000 in
set_option maxRecDepth 100000 in
theorem met_J10_get (l : Launch) (hl0 : l.stackTraces = false) (d : g_D) (ob : Nat) (a1 : Int32) (mc_ : Int32) (ed : Nat) (sz : Int32) (ef : Nat → Option Nat) (cap : Nat) (Q : (Option Nat) → Prop) (hw : wp_J10_get a1 mc_ sz ef cap Q) : g_Met l d yJ10_get cJ10_get 2 (Option.some (FieldType.object "java/lang/Object")) ({ frames := 2, cells := 0, slots := 0, locals := 43 } : Room) [.ref ob, .int a1] [[(ob, .inr (11, [.int mc_, .ref ed, .int sz]))], [(ed, .inl (d.2.1 6, cap, .inr (.inr (.inr (.inr ef)))))]] 0 0 (fun v w1 => ∃ (rq : Option Nat), v = some (va_rf rq) ∧ w1 = [[(ob, .inr (11, [.int mc_, .ref ed, .int sz]))], [(ed, .inl (d.2.1 6, cap, .inr (.inr (.inr (.inr ef)))))]] ∧ Q rq) := by
  refine g_enter (by decide) (Nat.le_of_ble_eq_true rfl) ?_
  intro p e s m args below meth c A ls hF hH hl hin
  have hF : g_F p m c cJ10_get 2 s args RJ10 meth (Option.some (FieldType.object "java/lang/Object")) := hF
  have hl : lv_has ls 2 [(0, .ref ob), (1, .int a1)] := hl
  unfold wp_J10_get at hw
  refine lv_iload_n hF.1.1 hF.1.2.1 dJ10_get_0 rfl (lv_at hl 1 rfl) ?_
  refine lv_aload_n hF.1.1 hF.1.2.1 dJ10_get_1 rfl (lv_at hl 0 rfl) ?_
  refine g_get (v := .int sz) hF hH in_J10 rfl 0 0 rfl rfl 2 (by decide) q429 (fun _ h9 => h9) rfl dJ10_get_2 ?_
  refine g_cS [.int a1, .int sz] 2 rfl hF (met_J14_checkIndex l hl0 d a1 sz _ hw) q608 q609 q116 q610 rfl rfl (by decide +kernel) ⟨Nat.le_of_ble_eq_true rfl, Nat.le_of_ble_eq_true rfl⟩ hH [] rfl rfl rfl hl.1 (Nat.le_of_ble_eq_true rfl) dJ10_get_5 ⟨(by first | exact Nat.le_of_ble_eq_true rfl | omega | (dsimp only; omega)), (by first | exact Nat.le_of_ble_eq_true rfl | omega | (dsimp only; omega))⟩ (fun v w1 H locs hq hH => ?_)
  obtain ⟨r_3, rfl, rfl, hw⟩ := hq
  have hH : g_HS d A s [[(ob, .inr (11, [.int mc_, .ref ed, .int sz]))], [(ed, .inl (d.2.1 6, cap, .inr (.inr (.inr (.inr ef)))))]] H locs := hH
  refine W.eq (g2 := (F0 m 8 ls [.int r_3])) rfl ?_
  refine lv_pop hF.1.1 hF.1.2.1 dJ10_get_8 rfl ?_
  refine lv_aload_n hF.1.1 hF.1.2.1 dJ10_get_9 rfl (lv_at hl 0 rfl) ?_
  refine lv_iload_n hF.1.1 hF.1.2.1 dJ10_get_10 rfl (lv_at hl 1 rfl) ?_
  refine g_cV [.int a1] 1 rfl hF (met_J10_elementData l hl0 d ob a1 mc_ ed sz ef cap _ hw) q614 q615 q616 q107 q617 rfl rfl (by decide +kernel) ⟨Nat.le_of_ble_eq_true rfl, Nat.le_of_ble_eq_true rfl⟩ hH [0, 1] rfl rfl rfl 0 0 rfl rfl rfl hl.1 (Nat.le_of_ble_eq_true rfl) dJ10_get_11 ⟨(by first | exact Nat.le_of_ble_eq_true rfl | omega | (dsimp only; omega)), (by first | exact Nat.le_of_ble_eq_true rfl | omega | (dsimp only; omega))⟩ (fun v w1 H locs hq hH => ?_)
  obtain ⟨n_4, rfl, rfl, hw⟩ := hq
  have hH : g_HS d A s [[(ob, .inr (11, [.int mc_, .ref ed, .int sz]))], [(ed, .inl (d.2.1 6, cap, .inr (.inr (.inr (.inr ef)))))]] H locs := hH
  refine W.eq (g2 := (F0 m 14 ls [va_rf n_4])) rfl ?_
  exact g_aret hF (Or.inl ⟨_, rfl⟩) (va_rf_or _) hH ⟨n_4, rfl, rfl, hw⟩ dJ10_get_14

def wp_J16_init (mc_ : Int32) (sz : Int32) (Q : Prop) : Prop := Q
set_option maxHeartbeats 4000000 in
set_option maxRecDepth 100000 in
theorem met_J16_init (l : Launch) (hl0 : l.stackTraces = false) (d : g_D) (ob : Nat) (la : Nat) (mc_ : Int32) (ed : Nat) (sz : Int32) (Q : Prop) (hw : wp_J16_init mc_ sz Q) : g_Met l d yJ16_init cJ16_init 2 none ({ frames := 1, cells := 0, slots := 0, locals := 12 } : Room) [.ref ob, .ref la] [[(ob, .inr (12, [.int 0, .int 0, .int 0, .null]))], [(la, .inr (11, [.int mc_, .ref ed, .int sz]))]] 0 0 (fun v w1 => v = none ∧ w1 = [[(ob, .inr (12, [.int 0, .int (-1), .int mc_, .ref la]))], [(la, .inr (11, [.int mc_, .ref ed, .int sz]))]] ∧ Q) := by
  refine g_enter (by decide) (Nat.le_of_ble_eq_true rfl) ?_
  intro p e s m args below meth c A ls hF hH hl hin
  have hF : g_F p m c cJ16_init 2 s args RJ16 meth none := hF
  have hl : lv_has ls 2 [(0, .ref ob), (1, .ref la)] := hl
  have hin : meth.name = "<init>" := hin rfl
  unfold wp_J16_init at hw
  refine lv_aload_n hF.1.1 hF.1.2.1 dJ16_init_0 rfl (lv_at hl 0 rfl) ?_
  refine lv_aload_n hF.1.1 hF.1.2.1 dJ16_init_1 rfl (lv_at hl 1 rfl) ?_
  refine g_putF (cs' := [[(ob, .inr (12, [.int 0, .int 0, .int 0, .ref la]))], [(la, .inr (11, [.int mc_, .ref ed, .int sz]))]]) (ch' := [(ob, .inr (12, [.int 0, .int 0, .int 0, .ref la]))]) (ty := (.object "java/util/ArrayList")) hF hin hH in_J16 rfl tyJ16 tyJ16_ok nmJ16 0 0 rfl rfl 3 (by decide) q642 (fun _ h9 => h9) rfl rfl (by decide +kernel) rfl rfl (Nat.le_of_ble_eq_true rfl) dJ16_init_2 rfl rfl (fun H locs hH => ?_)
  refine lv_aload_n hF.1.1 hF.1.2.1 dJ16_init_5 rfl (lv_at hl 0 rfl) ?_
  refine W.objInit hF.1.1 hF.1.2.1 hF.1.2.2.2.1 (hF.1.2.2.2.2 _ q638) (hF.1.2.2.2.2 _ q137) (hF.1.2.2.2.2 _ q138) rfl (by rw [hF.1.2.2.1]; exact hl.1) rfl dJ16_init_6 (Nat.le_of_ble_eq_true rfl) (Nat.le_of_ble_eq_true rfl) ?_
  refine W.eq (g2 := (F0 m 9 ls [])) rfl ?_
  refine lv_aload_n hF.1.1 hF.1.2.1 dJ16_init_9 rfl (lv_at hl 0 rfl) ?_
  refine lv_iconst (v := (-1)) hF.1.1 hF.1.2.1 dJ16_init_10 (by decide) ?_
  refine g_put (cs' := [[(ob, .inr (12, [.int 0, .int (-1), .int 0, .ref la]))], [(la, .inr (11, [.int mc_, .ref ed, .int sz]))]]) (ch' := [(ob, .inr (12, [.int 0, .int (-1), .int 0, .ref la]))]) (ty := .int) hF hH in_J16 rfl tyJ16 tyJ16_ok nmJ16 0 0 rfl rfl 1 (by decide) q640 (fun _ h9 => h9) rfl (by decide +kernel) rfl rfl (Nat.le_of_ble_eq_true rfl) dJ16_init_11 rfl rfl (fun H locs hH => ?_)
  refine lv_aload_n hF.1.1 hF.1.2.1 dJ16_init_14 rfl (lv_at hl 0 rfl) ?_
  refine lv_aload_n hF.1.1 hF.1.2.1 dJ16_init_15 rfl (lv_at hl 0 rfl) ?_
  refine g_get (v := .ref la) hF hH in_J16 rfl 0 0 rfl rfl 3 (by decide) q642 (fun _ h9 => h9) rfl dJ16_init_16 ?_
  refine g_get (v := .int mc_) hF hH in_J10 rfl 1 0 rfl rfl 0 (by decide) q431 (u_same (hF.1.2.2.2.2 _ q432)) rfl dJ16_init_19 ?_
  refine g_put (cs' := [[(ob, .inr (12, [.int 0, .int (-1), .int mc_, .ref la]))], [(la, .inr (11, [.int mc_, .ref ed, .int sz]))]]) (ch' := [(ob, .inr (12, [.int 0, .int (-1), .int mc_, .ref la]))]) (ty := .int) hF hH in_J16 rfl tyJ16 tyJ16_ok nmJ16 0 0 rfl rfl 2 (by decide) q641 (fun _ h9 => h9) rfl (by decide +kernel) rfl rfl (Nat.le_of_ble_eq_true rfl) dJ16_init_22 rfl rfl (fun H locs hH => ?_)
  exact g_vret hF hH ⟨rfl, rfl, hw⟩ dJ16_init_25

def wp_J10_iterator (mc_ : Int32) (sz : Int32) (Q : Prop) : Prop := (wp_J16_init mc_ sz Q)
set_option maxHeartbeats 4000000 in
set_option maxRecDepth 100000 in
theorem met_J10_iterator (l : Launch) (hl0 : l.stackTraces = false) (d : g_D) (ob : Nat) (mc_ : Int32) (ed : Nat) (sz : Int32) (Q : Prop) (hw : wp_J10_iterator mc_ sz Q) : g_Met l d yJ10_iterator cJ10_iterator 1 (Option.some (FieldType.object "java/util/Iterator")) ({ frames := 2, cells := 1, slots := 4, locals := 33 } : Room) [.ref ob] [[(ob, .inr (11, [.int mc_, .ref ed, .int sz]))]] 1 4 (fun v w1 => ∃ (ia : Nat), v = some (.ref ia) ∧ w1 = [[(ob, .inr (11, [.int mc_, .ref ed, .int sz]))], [(ia, .inr (12, [.int 0, .int (-1), .int mc_, .ref ob]))]] ∧ Q) := by
  refine g_enter (by decide) (Nat.le_of_ble_eq_true rfl) ?_
  intro p e s m args below meth c A ls hF hH hl hin
  have hF : g_F p m c cJ10_iterator 1 s args RJ10 meth (Option.some (FieldType.object "java/util/Iterator")) := hF
  have hl : lv_has ls 1 [(0, .ref ob)] := hl
  unfold wp_J10_iterator at hw
  refine g_new (ci := 12) (fs := [.int 0, .int 0, .int 0, .null]) (C := RJ16) (T := TJ16) (N := 4) hF hH in_J16 rfl tyJ16 tyJ16_ok q633 q634 q118 (fun j hj => by rcases (show j = 0 ∨ j = 1 ∨ j = 2 ∨ j = 3 by omega) with rfl | rfl | rfl | rfl <;> rfl) (by first | exact Nat.le_of_ble_eq_true rfl | omega | (dsimp only; omega)) (by first | exact Nat.le_of_ble_eq_true rfl | omega | (dsimp only; omega)) dJ10_iterator_0 (fun q_2 H hH => ?_)
  have hH : g_HS d A s [[(ob, .inr (11, [.int mc_, .ref ed, .int sz]))], [(q_2, .inr (12, [.int 0, .int 0, .int 0, .null]))]] H _ := hH
  refine W.widen (k := 1) (n := 4) (by first | exact Nat.le_of_ble_eq_true rfl | omega | (dsimp only; omega)) (by first | exact Nat.le_of_ble_eq_true rfl | omega | (dsimp only; omega)) ?_
  refine lv_dup hF.1.1 hF.1.2.1 dJ10_iterator_3 rfl ?_
  refine lv_aload_n hF.1.1 hF.1.2.1 dJ10_iterator_4 rfl (lv_at hl 0 rfl) ?_
  refine g_cI [.ref ob] 1 rfl hF (met_J16_init l hl0 d q_2 ob mc_ ed sz _ hw) q635 q636 q118 q637 rfl rfl rfl (by decide +kernel) ⟨Nat.le_of_ble_eq_true rfl, Nat.le_of_ble_eq_true rfl⟩ hH [1, 0] rfl rfl rfl hl.1 (Nat.le_of_ble_eq_true rfl) dJ10_iterator_5 ⟨(by first | exact Nat.le_of_ble_eq_true rfl | omega | (dsimp only; omega)), (by first | exact Nat.le_of_ble_eq_true rfl | omega | (dsimp only; omega))⟩ (fun v w1 H locs hq hH => ?_)
  obtain ⟨rfl, rfl, hw⟩ := hq
  have hH : g_HS d A s [[(q_2, .inr (12, [.int 0, .int (-1), .int mc_, .ref ob]))], [(ob, .inr (11, [.int mc_, .ref ed, .int sz]))]] H locs := hH
  refine W.eq (g2 := (F0 m 8 ls [.ref q_2])) rfl ?_
  have hH := hH.sub (cs' := [[(ob, .inr (11, [.int mc_, .ref ed, .int sz]))], [(q_2, .inr (12, [.int 0, .int (-1), .int mc_, .ref ob]))]]) [1, 0] rfl rfl
  exact g_aret hF (Or.inl ⟨_, rfl⟩) (Or.inr ⟨_, rfl⟩) hH ⟨q_2, rfl, rfl, hw⟩ dJ10_iterator_8

def wp_J16_hasNext (cu : Int32) (lr : Int32) (ex : Int32) (mc_ : Int32) (sz : Int32) (Q : Int32 → Prop) : Prop := ((cu = sz → (Q 0)) ∧ (¬ cu = sz → (Q 1)))
set_option maxHeartbeats 4000000 in
set_option maxRecDepth 100000 in
theorem met_J16_hasNext (l : Launch) (hl0 : l.stackTraces = false) (d : g_D) (ob : Nat) (cu : Int32) (lr : Int32) (ex : Int32) (la : Nat) (mc_ : Int32) (ed : Nat) (sz : Int32) (Q : Int32 → Prop) (hw : wp_J16_hasNext cu lr ex mc_ sz Q) : g_Met l d yJ16_hasNext cJ16_hasNext 1 (Option.some FieldType.boolean) ({ frames := 0, cells := 0, slots := 0, locals := 0 } : Room) [.ref ob] [[(ob, .inr (12, [.int cu, .int lr, .int ex, .ref la]))], [(la, .inr (11, [.int mc_, .ref ed, .int sz]))]] 0 0 (fun v w1 => ∃ (r : Int32), v = some (.int r) ∧ w1 = [[(ob, .inr (12, [.int cu, .int lr, .int ex, .ref la]))], [(la, .inr (11, [.int mc_, .ref ed, .int sz]))]] ∧ Q r) := by
  refine g_enter (by decide) (Nat.le_of_ble_eq_true rfl) ?_
  intro p e s m args below meth c A ls hF hH hl hin
  have hF : g_F p m c cJ16_hasNext 1 s args RJ16 meth (Option.some FieldType.boolean) := hF
  have hl : lv_has ls 1 [(0, .ref ob)] := hl
  unfold wp_J16_hasNext at hw
  refine lv_aload_n hF.1.1 hF.1.2.1 dJ16_hasNext_0 rfl (lv_at hl 0 rfl) ?_
  refine g_get (v := .int cu) hF hH in_J16 rfl 0 0 rfl rfl 0 (by decide) q639 (fun _ h9 => h9) rfl dJ16_hasNext_1 ?_
  refine lv_aload_n hF.1.1 hF.1.2.1 dJ16_hasNext_4 rfl (lv_at hl 0 rfl) ?_
  refine g_get (v := .ref la) hF hH in_J16 rfl 0 0 rfl rfl 3 (by decide) q642 (fun _ h9 => h9) rfl dJ16_hasNext_5 ?_
  refine g_getN (v := .int sz) hF hH in_J10 rfl 1 0 rfl rfl 2 (by decide) q428 (fun _ h9 => h9) rfl dJ16_hasNext_8 ?_
  refine lv_icmp_eq (tgt := 18) hF.1.1 hF.1.2.1 dJ16_hasNext_11 (by decide) (fun c_2 => ?_) (fun c_2 => ?_)
  · have hw := hw.1 c_2
    refine lv_iconst (v := 0) hF.1.1 hF.1.2.1 dJ16_hasNext_18 (by decide) ?_
    exact g_zret hF rfl hH ⟨0, rfl, rfl, hw⟩ dJ16_hasNext_19
  · have hw := hw.2 c_2
    refine lv_iconst (v := 1) hF.1.1 hF.1.2.1 dJ16_hasNext_14 (by decide) ?_
    refine lv_goto (tgt := 19) hF.1.1 hF.1.2.1 dJ16_hasNext_15 (by decide) ?_
    exact g_zret hF rfl hH ⟨1, rfl, rfl, hw⟩ dJ16_hasNext_19

def wp_J16_checkForComodification (cu : Int32) (lr : Int32) (ex : Int32) (mc_ : Int32) (sz : Int32) (Q : Prop) : Prop := ((mc_ = ex → Q) ∧ (¬ mc_ = ex → False))
set_option maxHeartbeats 4000000 in
set_option maxRecDepth 100000 in
theorem met_J16_checkForComodification (l : Launch) (hl0 : l.stackTraces = false) (d : g_D) (ob : Nat) (cu : Int32) (lr : Int32) (ex : Int32) (la : Nat) (mc_ : Int32) (ed : Nat) (sz : Int32) (Q : Prop) (hw : wp_J16_checkForComodification cu lr ex mc_ sz Q) : g_Met l d yJ16_checkForComodification cJ16_checkForComodification 1 none ({ frames := 0, cells := 0, slots := 0, locals := 0 } : Room) [.ref ob] [[(ob, .inr (12, [.int cu, .int lr, .int ex, .ref la]))], [(la, .inr (11, [.int mc_, .ref ed, .int sz]))]] 0 0 (fun v w1 => v = none ∧ w1 = [[(ob, .inr (12, [.int cu, .int lr, .int ex, .ref la]))], [(la, .inr (11, [.int mc_, .ref ed, .int sz]))]] ∧ Q) := by
  refine g_enter (by decide) (Nat.le_of_ble_eq_true rfl) ?_
  intro p e s m args below meth c A ls hF hH hl hin
  have hF : g_F p m c cJ16_checkForComodification 1 s args RJ16 meth none := hF
  have hl : lv_has ls 1 [(0, .ref ob)] := hl
  unfold wp_J16_checkForComodification at hw
  refine lv_aload_n hF.1.1 hF.1.2.1 dJ16_checkForComodification_0 rfl (lv_at hl 0 rfl) ?_
  refine g_get (v := .ref la) hF hH in_J16 rfl 0 0 rfl rfl 3 (by decide) q642 (fun _ h9 => h9) rfl dJ16_checkForComodification_1 ?_
  refine g_get (v := .int mc_) hF hH in_J10 rfl 1 0 rfl rfl 0 (by decide) q431 (u_same (hF.1.2.2.2.2 _ q432)) rfl dJ16_checkForComodification_4 ?_
  refine lv_aload_n hF.1.1 hF.1.2.1 dJ16_checkForComodification_7 rfl (lv_at hl 0 rfl) ?_
  refine g_get (v := .int ex) hF hH in_J16 rfl 0 0 rfl rfl 2 (by decide) q641 (fun _ h9 => h9) rfl dJ16_checkForComodification_8 ?_
  refine lv_icmp_eq (tgt := 22) hF.1.1 hF.1.2.1 dJ16_checkForComodification_11 (by decide) (fun c_2 => ?_) (fun c_2 => ?_)
  · have hw := hw.1 c_2
    exact g_vret hF hH ⟨rfl, rfl, hw⟩ dJ16_checkForComodification_22
  · have hw := hw.2 c_2
    exact hw.elim

def wp_J16_next (cu : Int32) (lr : Int32) (ex : Int32) (mc_ : Int32) (sz : Int32) (ef : Nat → Option Nat) (cap : Nat) (Q : (Option Nat) → Int32 → Int32 → Prop) : Prop := (wp_J16_checkForComodification cu lr ex mc_ sz ((cu < sz → ((cu < (nI cap) → (vp_in cu cap ∧ (Q (ef cu.toNatClampNeg) (cu + 1) cu))) ∧ (¬ cu < (nI cap) → False))) ∧ (¬ cu < sz → False)))
set_option maxHeartbeats 4000000 in
set_option maxRecDepth 100000 in
theorem met_J16_next (l : Launch) (hl0 : l.stackTraces = false) (d : g_D) (ob : Nat) (cu : Int32) (lr : Int32) (ex : Int32) (la : Nat) (mc_ : Int32) (ed : Nat) (sz : Int32) (ef : Nat → Option Nat) (cap : Nat) (Q : (Option Nat) → Int32 → Int32 → Prop) (hw : wp_J16_next cu lr ex mc_ sz ef cap Q) : g_Met l d yJ16_next cJ16_next 3 (Option.some (FieldType.object "java/lang/Object")) ({ frames := 1, cells := 0, slots := 0, locals := 20 } : Room) [.ref ob] [[(ob, .inr (12, [.int cu, .int lr, .int ex, .ref la]))], [(la, .inr (11, [.int mc_, .ref ed, .int sz]))], [(ed, .inl (d.2.1 6, cap, .inr (.inr (.inr (.inr ef)))))]] 0 0 (fun v w1 => ∃ (rq : Option Nat) (cu2 : Int32) (lr2 : Int32), v = some (va_rf rq) ∧ w1 = [[(ob, .inr (12, [.int cu2, .int lr2, .int ex, .ref la]))], [(la, .inr (11, [.int mc_, .ref ed, .int sz]))], [(ed, .inl (d.2.1 6, cap, .inr (.inr (.inr (.inr ef)))))]] ∧ Q rq cu2 lr2) := by
  refine g_enter (by decide) (Nat.le_of_ble_eq_true rfl) ?_
  intro p e s m args below meth c A ls hF hH hl hin
  have hF : g_F p m c cJ16_next 3 s args RJ16 meth (Option.some (FieldType.object "java/lang/Object")) := hF
  have hl : lv_has ls 3 [(0, .ref ob)] := hl
  unfold wp_J16_next at hw
  refine lv_aload_n hF.1.1 hF.1.2.1 dJ16_next_0 rfl (lv_at hl 0 rfl) ?_
  refine g_cV [] 0 rfl hF (met_J16_checkForComodification l hl0 d ob cu lr ex la mc_ ed sz _ hw) q671 q672 q673 q118 q674 rfl rfl (by decide +kernel) ⟨Nat.le_of_ble_eq_true rfl, Nat.le_of_ble_eq_true rfl⟩ hH [0, 1] rfl rfl rfl 0 0 rfl rfl rfl hl.1 (Nat.le_of_ble_eq_true rfl) dJ16_next_1 ⟨(by first | exact Nat.le_of_ble_eq_true rfl | omega | (dsimp only; omega)), (by first | exact Nat.le_of_ble_eq_true rfl | omega | (dsimp only; omega))⟩ (fun v w1 H locs hq hH => ?_)
  obtain ⟨rfl, rfl, hw⟩ := hq
  have hH : g_HS d A s [[(ed, .inl (d.2.1 6, cap, .inr (.inr (.inr (.inr ef)))))], [(ob, .inr (12, [.int cu, .int lr, .int ex, .ref la]))], [(la, .inr (11, [.int mc_, .ref ed, .int sz]))]] H locs := hH
  refine W.eq (g2 := (F0 m 4 ls [])) rfl ?_
  refine lv_aload_n hF.1.1 hF.1.2.1 dJ16_next_4 rfl (lv_at hl 0 rfl) ?_
  refine g_get (v := .int cu) hF hH in_J16 rfl 1 0 rfl rfl 0 (by decide) q639 (fun _ h9 => h9) rfl dJ16_next_5 ?_
  refine lv_istore_n (lv' := [(1, .int cu), (0, .ref ob)]) hF.1.1 hF.1.2.1 dJ16_next_8 rfl hl (by decide) rfl (fun ls hl => ?_)
  refine lv_iload_n hF.1.1 hF.1.2.1 dJ16_next_9 rfl (lv_at hl 0 rfl) ?_
  refine lv_aload_n hF.1.1 hF.1.2.1 dJ16_next_10 rfl (lv_at hl 1 rfl) ?_
  refine g_get (v := .ref la) hF hH in_J16 rfl 1 0 rfl rfl 3 (by decide) q642 (fun _ h9 => h9) rfl dJ16_next_11 ?_
  refine g_getN (v := .int sz) hF hH in_J10 rfl 2 0 rfl rfl 2 (by decide) q428 (fun _ h9 => h9) rfl dJ16_next_14 ?_
  refine lv_icmp_lt (tgt := 28) hF.1.1 hF.1.2.1 dJ16_next_17 (by decide) (fun c_4 => ?_) (fun c_4 => ?_)
  · have hw := hw.1 c_4
    refine lv_aload_n hF.1.1 hF.1.2.1 dJ16_next_28 rfl (lv_at hl 1 rfl) ?_
    refine g_get (v := .ref la) hF hH in_J16 rfl 1 0 rfl rfl 3 (by decide) q642 (fun _ h9 => h9) rfl dJ16_next_29 ?_
    refine g_get (v := .ref ed) hF hH in_J10 rfl 2 0 rfl rfl 1 (by decide) q427 (fun _ h9 => h9) rfl dJ16_next_32 ?_
    refine lv_astore_n (lv' := [(2, .ref ed), (1, .int cu), (0, .ref ob)]) hF.1.1 hF.1.2.1 dJ16_next_35 rfl hl (by decide) rfl (fun ls hl => ?_)
    refine lv_iload_n hF.1.1 hF.1.2.1 dJ16_next_36 rfl (lv_at hl 1 rfl) ?_
    refine lv_aload_n hF.1.1 hF.1.2.1 dJ16_next_37 rfl (lv_at hl 0 rfl) ?_
    refine g_alen (v := (nI cap)) (ty := .object "java/lang/Object") hF hH 0 0 6 rfl rfl rfl rfl dJ16_next_38 ?_
    refine lv_icmp_lt (tgt := 50) hF.1.1 hF.1.2.1 dJ16_next_39 (by decide) (fun c_5 => ?_) (fun c_5 => ?_)
    · have hw := hw.1 c_5
      refine lv_aload_n hF.1.1 hF.1.2.1 dJ16_next_50 rfl (lv_at hl 2 rfl) ?_
      refine lv_iload_n hF.1.1 hF.1.2.1 dJ16_next_51 rfl (lv_at hl 1 rfl) ?_
      refine lv_iconst (v := 1) hF.1.1 hF.1.2.1 dJ16_next_52 (by decide) ?_
      refine lv_iadd hF.1.1 hF.1.2.1 dJ16_next_53 ?_
      refine g_put (cs' := [[(ed, .inl (d.2.1 6, cap, .inr (.inr (.inr (.inr ef)))))], [(ob, .inr (12, [.int (cu + 1), .int lr, .int ex, .ref la]))], [(la, .inr (11, [.int mc_, .ref ed, .int sz]))]]) (ch' := [(ob, .inr (12, [.int (cu + 1), .int lr, .int ex, .ref la]))]) (ty := .int) hF hH in_J16 rfl tyJ16 tyJ16_ok nmJ16 1 0 rfl rfl 0 (by decide) q639 (fun _ h9 => h9) rfl (by decide +kernel) rfl rfl (Nat.le_of_ble_eq_true rfl) dJ16_next_54 rfl rfl (fun H locs hH => ?_)
      refine lv_aload_n hF.1.1 hF.1.2.1 dJ16_next_57 rfl (lv_at hl 0 rfl) ?_
      refine lv_aload_n hF.1.1 hF.1.2.1 dJ16_next_58 rfl (lv_at hl 2 rfl) ?_
      refine lv_iload_n hF.1.1 hF.1.2.1 dJ16_next_59 rfl (lv_at hl 1 rfl) ?_
      refine lv_dup_x1 hF.1.1 hF.1.2.1 dJ16_next_60 rfl rfl ?_
      refine g_put (cs' := [[(ed, .inl (d.2.1 6, cap, .inr (.inr (.inr (.inr ef)))))], [(ob, .inr (12, [.int (cu + 1), .int cu, .int ex, .ref la]))], [(la, .inr (11, [.int mc_, .ref ed, .int sz]))]]) (ch' := [(ob, .inr (12, [.int (cu + 1), .int cu, .int ex, .ref la]))]) (ty := .int) hF hH in_J16 rfl tyJ16 tyJ16_ok nmJ16 1 0 rfl rfl 1 (by decide) q640 (fun _ h9 => h9) rfl (by decide +kernel) rfl rfl (Nat.le_of_ble_eq_true rfl) dJ16_next_61 rfl rfl (fun H locs hH => ?_)
      obtain ⟨hi_6, hw⟩ := hw
      refine g_aald hF hH 0 0 rfl rfl hi_6 dJ16_next_64 ?_
      have hH := hH.sub (cs' := [[(ob, .inr (12, [.int (cu + 1), .int cu, .int ex, .ref la]))], [(la, .inr (11, [.int mc_, .ref ed, .int sz]))], [(ed, .inl (d.2.1 6, cap, .inr (.inr (.inr (.inr ef)))))]]) [1, 2, 0] rfl rfl
      exact g_aret hF (Or.inl ⟨_, rfl⟩) (va_rf_or _) hH ⟨(ef cu.toNatClampNeg), (cu + 1), cu, rfl, rfl, hw⟩ dJ16_next_65
    · have hw := hw.2 c_5
      exact hw.elim
  · have hw := hw.2 c_4
    exact hw.elim

def wb_J12_newLength_21 (a1 : Int32) (a2 : Int32) (Q : Int32 → Prop) : Prop := False
def wp_J12_newLength (a1 : Int32) (a2 : Int32) (a3 : Int32) (Q : Int32 → Prop) : Prop := (((a1 + (if a2 < a3 then a3 else a2)) ≤ (0 : Int32) → (wb_J12_newLength_21 a1 a2 Q)) ∧ (¬ (a1 + (if a2 < a3 then a3 else a2)) ≤ (0 : Int32) → ((2147483639 < (a1 + (if a2 < a3 then a3 else a2)) → (wb_J12_newLength_21 a1 a2 Q)) ∧ (¬ 2147483639 < (a1 + (if a2 < a3 then a3 else a2)) → (Q (a1 + (if a2 < a3 then a3 else a2)))))))
set_option maxHeartbeats 4000000 in
set_option maxRecDepth 100000 in
theorem met_J12_newLength (l : Launch) (hl0 : l.stackTraces = false) (d : g_D) (a1 : Int32) (a2 : Int32) (a3 : Int32) (Q : Int32 → Prop) (hw : wp_J12_newLength a1 a2 a3 Q) : g_Met l d yJ12_newLength cJ12_newLength 4 (Option.some FieldType.int) ({ frames := 1, cells := 0, slots := 0, locals := 32 } : Room) [.int a1, .int a2, .int a3] [] 0 0 (fun v w1 => ∃ (r : Int32), v = some (.int r) ∧ w1 = [] ∧ Q r) := by
  refine g_enter (by decide) (Nat.le_of_ble_eq_true rfl) ?_
  intro p e s m args below meth c A ls hF hH hl hin
  have hF : g_F p m c cJ12_newLength 4 s args RJ12 meth (Option.some FieldType.int) := hF
  have hl : lv_has ls 4 [(0, .int a1), (1, .int a2), (2, .int a3)] := hl
  have bk_21 : ∀ (H : Heap) (locs : List Loc) (ls : Array Slot), g_HS d A s [] H locs → lv_has ls 4 [(0, .int a1), (1, .int a2)] → wb_J12_newLength_21 a1 a2 Q → W p l e ({ frames := 1, cells := 0, slots := 0, locals := 32 } : Room) s m args below meth c H locs 0 0 (g_E d (fun v w1 => ∃ (r : Int32), v = some (.int r) ∧ w1 = [] ∧ Q r) A below args s 0 0) (F0 m 21 ls []) := by
    intro  H locs ls hH hl hw
    unfold wb_J12_newLength_21 at hw
    refine lv_iload_n hF.1.1 hF.1.2.1 dJ12_newLength_21 rfl (lv_at hl 0 rfl) ?_
    refine lv_iload_n hF.1.1 hF.1.2.1 dJ12_newLength_22 rfl (lv_at hl 1 rfl) ?_
    exact hw.elim
  unfold wp_J12_newLength at hw
  refine lv_iload_n hF.1.1 hF.1.2.1 dJ12_newLength_0 rfl (lv_at hl 0 rfl) ?_
  refine lv_iload_n hF.1.1 hF.1.2.1 dJ12_newLength_1 rfl (lv_at hl 1 rfl) ?_
  refine lv_iload_n hF.1.1 hF.1.2.1 dJ12_newLength_2 rfl (lv_at hl 2 rfl) ?_
  refine va_mmax hF.1.1 hF.1.2.1 (hF.1.2.2.1.trans hl.1.symm) hF.1.2.2.2.1 (hF.1.2.2.2.2 _ q549) (hF.1.2.2.2.2 _ q550) (hF.1.2.2.2.2 _ q102) (hF.1.2.2.2.2 _ q551) (Nat.le_of_ble_eq_true rfl) (Nat.le_of_ble_eq_true rfl) (by first | exact Nat.le_of_ble_eq_true rfl | omega | (dsimp only; omega)) (by first | exact Nat.le_of_ble_eq_true rfl | omega | (dsimp only; omega)) dJ12_newLength_3 ?_
  refine lv_iadd hF.1.1 hF.1.2.1 dJ12_newLength_6 ?_
  refine lv_istore_n (lv' := [(3, .int (a1 + (if a2 < a3 then a3 else a2))), (0, .int a1), (1, .int a2), (2, .int a3)]) hF.1.1 hF.1.2.1 dJ12_newLength_7 rfl hl (by decide) rfl (fun ls hl => ?_)
  refine lv_iconst (v := 0) hF.1.1 hF.1.2.1 dJ12_newLength_8 (by decide) ?_
  refine lv_iload_n hF.1.1 hF.1.2.1 dJ12_newLength_9 rfl (lv_at hl 0 rfl) ?_
  refine lv_icmp_ge (tgt := 21) hF.1.1 hF.1.2.1 dJ12_newLength_10 (by decide) (fun c_3 => ?_) (fun c_3 => ?_)
  · have hw := hw.1 c_3
    have hl := lv_sub hl (l' := [(0, .int a1), (1, .int a2)]) [1, 2] rfl
    exact bk_21 _ _ _ hH hl hw
  · have hw := hw.2 c_3
    refine lv_iload_n hF.1.1 hF.1.2.1 dJ12_newLength_13 rfl (lv_at hl 0 rfl) ?_
    refine lv_ldc hF.1.1 hF.1.2.1 hF.1.2.2.2.1 (hF.1.2.2.2.2 _ q552) dJ12_newLength_14 ?_
    refine lv_icmp_gt (tgt := 21) hF.1.1 hF.1.2.1 dJ12_newLength_16 (by decide) (fun c_4 => ?_) (fun c_4 => ?_)
    · have hw := hw.1 c_4
      have hl := lv_sub hl (l' := [(0, .int a1), (1, .int a2)]) [1, 2] rfl
      exact bk_21 _ _ _ hH hl hw
    · have hw := hw.2 c_4
      refine lv_iload_n hF.1.1 hF.1.2.1 dJ12_newLength_19 rfl (lv_at hl 0 rfl) ?_
      exact g_iret hF hH ⟨(a1 + (if a2 < a3 then a3 else a2)), rfl, rfl, hw⟩ dJ12_newLength_20

def wp_J13_copyOf_2 (a1 : Int32) (ef : Nat → Option Nat) (cap : Nat) (tw : va_W) (Q : Nat → (Nat → Option Nat) → Prop) : Prop := (¬ a1 < 0 ∧ a1.toNatClampNeg ≤ 22 ∧ (¬ (0 : Int32) < 0 ∧ ¬ (0 : Int32) < 0 ∧ ¬ (if a1 < (nI cap) then a1 else (nI cap)) < 0 ∧ (0 : Int32).toNatClampNeg + (if a1 < (nI cap) then a1 else (nI cap)).toNatClampNeg ≤ cap ∧ (0 : Int32).toNatClampNeg + (if a1 < (nI cap) then a1 else (nI cap)).toNatClampNeg ≤ a1.toNatClampNeg ∧ g_el tw ef ∧ (Q a1.toNatClampNeg (va_cpy ef (fun _ => none) (0 : Int32).toNatClampNeg (0 : Int32).toNatClampNeg (if a1 < (nI cap) then a1 else (nI cap)).toNatClampNeg))))
set_option maxHeartbeats 4000000 in
set_option maxRecDepth 100000 in
theorem met_J13_copyOf_2 (l : Launch) (hl0 : l.stackTraces = false) (d : g_D) (ed : Nat) (a1 : Int32) (ef : Nat → Option Nat) (cap : Nat) (tw : va_W) (Q : Nat → (Nat → Option Nat) → Prop) (hw : wp_J13_copyOf_2 a1 ef cap tw Q) : g_Met l d yJ13_copyOf_2 cJ13_copyOf_2 4 (Option.some (FieldType.array (FieldType.object "java/lang/Object"))) ({ frames := 1, cells := 1, slots := 22, locals := 32 } : Room) [.ref ed, .int a1, .ref (d.2.2 5)] [[(ed, .inl (d.2.1 6, cap, .inr (.inr (.inr (.inr ef)))))], tw] 1 22 (fun v w1 => ∃ (ed2 : Nat) (cap2 : Nat) (ef2 : Nat → Option Nat), v = some (.ref ed2) ∧ w1 = [[(ed, .inl (d.2.1 6, cap, .inr (.inr (.inr (.inr ef)))))], tw, [(ed2, .inl (d.2.1 6, cap2, .inr (.inr (.inr (.inr ef2)))))]] ∧ Q cap2 ef2) := by
  refine g_enter (by decide) (Nat.le_of_ble_eq_true rfl) ?_
  intro p e s m args below meth c A ls hF hH hl hin
  have hF : g_F p m c cJ13_copyOf_2 4 s args RJ13 meth (Option.some (FieldType.array (FieldType.object "java/lang/Object"))) := hF
  have hl : lv_has ls 4 [(0, .ref ed), (1, .int a1), (2, .ref (d.2.2 5))] := hl
  unfold wp_J13_copyOf_2 at hw
  refine lv_aload_n hF.1.1 hF.1.2.1 dJ13_copyOf_2_0 rfl (lv_at hl 2 rfl) ?_
  refine g_ldcM hF hH q587 dJ13_copyOf_2_1 ?_
  refine lv_acmp_ne (rx := (some (d.2.2 5))) (ry := (some (d.2.2 5))) (tgt := 13) hF.1.1 hF.1.2.1 dJ13_copyOf_2_3 (by decide) (fun z => absurd rfl z) (fun _ => ?_)
  refine lv_iload_n hF.1.1 hF.1.2.1 dJ13_copyOf_2_6 rfl (lv_at hl 1 rfl) ?_
  obtain ⟨hc_12, hb_11, hw⟩ := hw
  refine g_newQ (N' := a1.toNatClampNeg) hF hH q589 hc_12 rfl (by omega) (by first | exact Nat.le_of_ble_eq_true rfl | omega | (dsimp only; omega)) (by first | exact Nat.le_of_ble_eq_true rfl | omega | (dsimp only; omega)) dJ13_copyOf_2_7 (fun q_10 H hH => ?_)
  have hH : g_HS d A s [[(ed, .inl (d.2.1 6, cap, .inr (.inr (.inr (.inr ef)))))], tw, [(q_10, .inl (d.2.1 6, a1.toNatClampNeg, .inr (.inr (.inr (.inr (fun _ => none))))))]] H _ := hH
  refine W.widen (k := 1) (n := 22) (by first | exact Nat.le_of_ble_eq_true rfl | omega | (dsimp only; omega)) (by first | exact Nat.le_of_ble_eq_true rfl | omega | (dsimp only; omega)) ?_
  refine lv_goto (tgt := 24) hF.1.1 hF.1.2.1 dJ13_copyOf_2_10 (by decide) ?_
  refine lv_astore_n (lv' := [(3, .ref q_10), (0, .ref ed), (1, .int a1), (2, .ref (d.2.2 5))]) hF.1.1 hF.1.2.1 dJ13_copyOf_2_24 rfl hl (by decide) rfl (fun ls hl => ?_)
  refine lv_aload_n hF.1.1 hF.1.2.1 dJ13_copyOf_2_25 rfl (lv_at hl 1 rfl) ?_
  refine lv_iconst (v := 0) hF.1.1 hF.1.2.1 dJ13_copyOf_2_26 (by decide) ?_
  refine lv_aload_n hF.1.1 hF.1.2.1 dJ13_copyOf_2_27 rfl (lv_at hl 0 rfl) ?_
  refine lv_iconst (v := 0) hF.1.1 hF.1.2.1 dJ13_copyOf_2_28 (by decide) ?_
  refine lv_aload_n hF.1.1 hF.1.2.1 dJ13_copyOf_2_29 rfl (lv_at hl 1 rfl) ?_
  refine g_alen (v := (nI cap)) (ty := .object "java/lang/Object") hF hH 0 0 6 rfl rfl rfl rfl dJ13_copyOf_2_30 ?_
  refine lv_iload_n hF.1.1 hF.1.2.1 dJ13_copyOf_2_31 rfl (lv_at hl 2 rfl) ?_
  refine va_mmin hF.1.1 hF.1.2.1 (hF.1.2.2.1.trans hl.1.symm) hF.1.2.2.2.1 (hF.1.2.2.2.2 _ q590) (hF.1.2.2.2.2 _ q362) (hF.1.2.2.2.2 _ q102) (hF.1.2.2.2.2 _ q363) (Nat.le_of_ble_eq_true rfl) (Nat.le_of_ble_eq_true rfl) (by first | exact Nat.le_of_ble_eq_true rfl | omega | (dsimp only; omega)) (by first | exact Nat.le_of_ble_eq_true rfl | omega | (dsimp only; omega)) dJ13_copyOf_2_32 ?_
  have hH := hH.sub (cs' := [[(ed, .inl (d.2.1 6, cap, .inr (.inr (.inr (.inr ef)))))], [(q_10, .inl (d.2.1 6, a1.toNatClampNeg, .inr (.inr (.inr (.inr (fun _ => none))))))], tw]) [0, 2, 1] rfl rfl
  obtain ⟨ha_13, ha_14, ha_15, ha_16, ha_17, he_18, hw⟩ := hw
  refine g_copyQ hF hH q591 hl.1 ha_13 ha_14 ha_15 ha_16 ha_17 (fun i9 hi9 y9 hy9 => g_anytw hH 2 rfl (he_18 _ _ hy9)) (Nat.le_of_ble_eq_true rfl) (Nat.le_of_ble_eq_true rfl) dJ13_copyOf_2_35 (fun H locs hH => ?_)
  have hH : g_HS d A s [[(ed, .inl (d.2.1 6, cap, .inr (.inr (.inr (.inr ef)))))], [(q_10, .inl (d.2.1 6, a1.toNatClampNeg, .inr (.inr (.inr (.inr (va_cpy ef (fun _ => none) (0 : Int32).toNatClampNeg (0 : Int32).toNatClampNeg (if a1 < (nI cap) then a1 else (nI cap)).toNatClampNeg))))))], tw] H _ := hH
  refine lv_aload_n hF.1.1 hF.1.2.1 dJ13_copyOf_2_38 rfl (lv_at hl 0 rfl) ?_
  have hH := hH.sub (cs' := [[(ed, .inl (d.2.1 6, cap, .inr (.inr (.inr (.inr ef)))))], tw, [(q_10, .inl (d.2.1 6, a1.toNatClampNeg, .inr (.inr (.inr (.inr (va_cpy ef (fun _ => none) (0 : Int32).toNatClampNeg (0 : Int32).toNatClampNeg (if a1 < (nI cap) then a1 else (nI cap)).toNatClampNeg))))))]]) [0, 2, 1] rfl rfl
  exact g_aret hF (Or.inr ⟨_, rfl⟩) (Or.inr ⟨_, rfl⟩) hH ⟨q_10, a1.toNatClampNeg, (va_cpy ef (fun _ => none) (0 : Int32).toNatClampNeg (0 : Int32).toNatClampNeg (if a1 < (nI cap) then a1 else (nI cap)).toNatClampNeg), rfl, rfl, hw⟩ dJ13_copyOf_2_39

def wp_J13_copyOf (a1 : Int32) (ef : Nat → Option Nat) (cap : Nat) (tw : va_W) (Q : Nat → (Nat → Option Nat) → Prop) : Prop := (wp_J13_copyOf_2 a1 ef cap tw (fun q_5 n_6 => (Q q_5 n_6)))
set_option maxHeartbeats 4000000 in
set_option maxRecDepth 100000 in
theorem met_J13_copyOf (l : Launch) (hl0 : l.stackTraces = false) (d : g_D) (ed : Nat) (a1 : Int32) (ef : Nat → Option Nat) (cap : Nat) (tw : va_W) (Q : Nat → (Nat → Option Nat) → Prop) (hw : wp_J13_copyOf a1 ef cap tw Q) : g_Met l d yJ13_copyOf cJ13_copyOf 2 (Option.some (FieldType.array (FieldType.object "java/lang/Object"))) ({ frames := 2, cells := 1, slots := 22, locals := 55 } : Room) [.ref ed, .int a1] [[(ed, .inl (d.2.1 6, cap, .inr (.inr (.inr (.inr ef)))))], tw] 1 22 (fun v w1 => ∃ (ed2 : Nat) (cap2 : Nat) (ef2 : Nat → Option Nat), v = some (.ref ed2) ∧ w1 = [[(ed, .inl (d.2.1 6, cap, .inr (.inr (.inr (.inr ef)))))], tw, [(ed2, .inl (d.2.1 6, cap2, .inr (.inr (.inr (.inr ef2)))))]] ∧ Q cap2 ef2) := by
  refine g_enter (by decide) (Nat.le_of_ble_eq_true rfl) ?_
  intro p e s m args below meth c A ls hF hH hl hin
  have hF : g_F p m c cJ13_copyOf 2 s args RJ13 meth (Option.some (FieldType.array (FieldType.object "java/lang/Object"))) := hF
  have hl : lv_has ls 2 [(0, .ref ed), (1, .int a1)] := hl
  unfold wp_J13_copyOf at hw
  refine lv_aload_n hF.1.1 hF.1.2.1 dJ13_copyOf_0 rfl (lv_at hl 0 rfl) ?_
  refine lv_iload_n hF.1.1 hF.1.2.1 dJ13_copyOf_1 rfl (lv_at hl 1 rfl) ?_
  refine lv_aload_n hF.1.1 hF.1.2.1 dJ13_copyOf_2 rfl (lv_at hl 0 rfl) ?_
  refine g_getCl hF hH q559 q1876 q560 q583 0 0 rfl rfl hl.1 (Nat.le_of_ble_eq_true rfl) (Nat.le_of_ble_eq_true rfl) dJ13_copyOf_3 ?_
  refine g_cS [.ref ed, .int a1, .ref (d.2.2 5)] 3 rfl hF (met_J13_copyOf_2 l hl0 d ed a1 ef cap tw _ hw) q584 q585 q114 q586 rfl rfl (by decide +kernel) ⟨Nat.le_of_ble_eq_true rfl, Nat.le_of_ble_eq_true rfl⟩ hH [0, 1] rfl rfl rfl hl.1 (Nat.le_of_ble_eq_true rfl) dJ13_copyOf_6 ⟨(by first | exact Nat.le_of_ble_eq_true rfl | omega | (dsimp only; omega)), (by first | exact Nat.le_of_ble_eq_true rfl | omega | (dsimp only; omega))⟩ (fun v w1 H locs hq hH => ?_)
  obtain ⟨q_4, q_5, n_6, rfl, rfl, hw⟩ := hq
  have hH : g_HS d A s [[(ed, .inl (d.2.1 6, cap, .inr (.inr (.inr (.inr ef)))))], tw, [(q_4, .inl (d.2.1 6, q_5, .inr (.inr (.inr (.inr n_6)))))]] H locs := hH
  refine W.eq (g2 := (F0 m 9 ls [.ref q_4])) rfl ?_
  refine W.widen (k := 1) (n := 22) (by first | exact Nat.le_of_ble_eq_true rfl | omega | (dsimp only; omega)) (by first | exact Nat.le_of_ble_eq_true rfl | omega | (dsimp only; omega)) ?_
  exact g_aret hF (Or.inr ⟨_, rfl⟩) (Or.inr ⟨_, rfl⟩) hH ⟨q_4, q_5, n_6, rfl, rfl, hw⟩ dJ13_copyOf_9

def wp_J10_grow_2_O (a1 : Int32) (mc_ : Int32) (sz : Int32) (ef : Nat → Option Nat) (cap : Nat) (tw : va_W) (Q : Nat → (Nat → Option Nat) → Prop) : Prop := ((0 < (nI cap) → (wp_J12_newLength (nI cap) (a1 - (nI cap)) ((nI cap) >>> (1 &&& 31)) (fun r_11 => (wp_J13_copyOf r_11 ef cap tw (fun q_13 n_14 => (Q q_13 n_14)))))) ∧ (¬ 0 < (nI cap) → (wp_J12_newLength (nI cap) (a1 - (nI cap)) ((nI cap) >>> (1 &&& 31)) (fun r_15 => (wp_J13_copyOf r_15 ef cap tw (fun q_17 n_18 => (Q q_17 n_18)))))))
set_option maxHeartbeats 4000000 in
set_option maxRecDepth 100000 in
theorem met_J10_grow_2_O (l : Launch) (hl0 : l.stackTraces = false) (d : g_D) (ob : Nat) (a1 : Int32) (mc_ : Int32) (ed : Nat) (sz : Int32) (ef : Nat → Option Nat) (cap : Nat) (tw : va_W) (Q : Nat → (Nat → Option Nat) → Prop) (hw : wp_J10_grow_2_O a1 mc_ sz ef cap tw Q) : g_Met l d yJ10_grow_2 cJ10_grow_2 4 (Option.some (FieldType.array (FieldType.object "java/lang/Object"))) ({ frames := 3, cells := 1, slots := 22, locals := 76 } : Room) [.ref ob, .int a1] [[(ob, .inr (11, [.int mc_, .ref ed, .int sz]))], [(ed, .inl (d.2.1 6, cap, .inr (.inr (.inr (.inr ef)))))], tw] 1 22 (fun v w1 => ∃ (ed2 : Nat) (cap2 : Nat) (ef2 : Nat → Option Nat), v = some (.ref ed2) ∧ w1 = [[(ob, .inr (11, [.int mc_, .ref ed2, .int sz]))], tw, [(ed2, .inl (d.2.1 6, cap2, .inr (.inr (.inr (.inr ef2)))))]] ∧ Q cap2 ef2) := by
  refine g_enter (by decide) (Nat.le_of_ble_eq_true rfl) ?_
  intro p e s m args below meth c A ls hF hH hl hin
  have hF : g_F p m c cJ10_grow_2 4 s args RJ10 meth (Option.some (FieldType.array (FieldType.object "java/lang/Object"))) := hF
  have hl : lv_has ls 4 [(0, .ref ob), (1, .int a1)] := hl
  unfold wp_J10_grow_2_O at hw
  refine lv_aload_n hF.1.1 hF.1.2.1 dJ10_grow_2_0 rfl (lv_at hl 0 rfl) ?_
  refine g_get (v := .ref ed) hF hH in_J10 rfl 0 0 rfl rfl 1 (by decide) q426 (fun _ h9 => h9) rfl dJ10_grow_2_1 ?_
  refine g_alen (v := (nI cap)) (ty := .object "java/lang/Object") hF hH 1 0 6 rfl rfl rfl rfl dJ10_grow_2_4 ?_
  refine lv_istore_n (lv' := [(2, .int (nI cap)), (0, .ref ob), (1, .int a1)]) hF.1.1 hF.1.2.1 dJ10_grow_2_5 rfl hl (by decide) rfl (fun ls hl => ?_)
  refine lv_iload_n hF.1.1 hF.1.2.1 dJ10_grow_2_6 rfl (lv_at hl 0 rfl) ?_
  refine lv_if_gt (tgt := 20) hF.1.1 hF.1.2.1 dJ10_grow_2_7 (by decide) (fun c_10 => ?_) (fun c_10 => ?_)
  · have hw := hw.1 c_10
    refine lv_iload_n hF.1.1 hF.1.2.1 dJ10_grow_2_20 rfl (lv_at hl 0 rfl) ?_
    refine lv_iload_n hF.1.1 hF.1.2.1 dJ10_grow_2_21 rfl (lv_at hl 2 rfl) ?_
    refine lv_iload_n hF.1.1 hF.1.2.1 dJ10_grow_2_22 rfl (lv_at hl 0 rfl) ?_
    refine lv_isub hF.1.1 hF.1.2.1 dJ10_grow_2_23 ?_
    refine lv_iload_n hF.1.1 hF.1.2.1 dJ10_grow_2_24 rfl (lv_at hl 0 rfl) ?_
    refine lv_iconst (v := 1) hF.1.1 hF.1.2.1 dJ10_grow_2_25 (by decide) ?_
    refine lv_ishr hF.1.1 hF.1.2.1 dJ10_grow_2_26 ?_
    refine g_cS [.int (nI cap), .int (a1 - (nI cap)), .int ((nI cap) >>> (1 &&& 31))] 3 rfl hF (met_J12_newLength l hl0 d (nI cap) (a1 - (nI cap)) ((nI cap) >>> (1 &&& 31)) _ hw) q546 q547 q113 q548 rfl rfl (by decide +kernel) ⟨Nat.le_of_ble_eq_true rfl, Nat.le_of_ble_eq_true rfl⟩ hH [] rfl rfl rfl hl.1 (Nat.le_of_ble_eq_true rfl) dJ10_grow_2_27 ⟨(by first | exact Nat.le_of_ble_eq_true rfl | omega | (dsimp only; omega)), (by first | exact Nat.le_of_ble_eq_true rfl | omega | (dsimp only; omega))⟩ (fun v w1 H locs hq hH => ?_)
    obtain ⟨r_11, rfl, rfl, hw⟩ := hq
    have hH : g_HS d A s [[(ob, .inr (11, [.int mc_, .ref ed, .int sz]))], [(ed, .inl (d.2.1 6, cap, .inr (.inr (.inr (.inr ef)))))], tw] H locs := hH
    refine W.eq (g2 := (F0 m 30 ls [.int r_11])) rfl ?_
    refine lv_istore_n (lv' := [(3, .int r_11), (2, .int (nI cap)), (0, .ref ob), (1, .int a1)]) hF.1.1 hF.1.2.1 dJ10_grow_2_30 rfl hl (by decide) rfl (fun ls hl => ?_)
    refine lv_aload_n hF.1.1 hF.1.2.1 dJ10_grow_2_31 rfl (lv_at hl 2 rfl) ?_
    refine lv_aload_n hF.1.1 hF.1.2.1 dJ10_grow_2_32 rfl (lv_at hl 2 rfl) ?_
    refine g_get (v := .ref ed) hF hH in_J10 rfl 0 0 rfl rfl 1 (by decide) q426 (fun _ h9 => h9) rfl dJ10_grow_2_33 ?_
    refine lv_iload_n hF.1.1 hF.1.2.1 dJ10_grow_2_36 rfl (lv_at hl 0 rfl) ?_
    refine g_cS [.ref ed, .int r_11] 2 rfl hF (met_J13_copyOf l hl0 d ed r_11 ef cap tw _ hw) q556 q557 q114 q558 rfl rfl (by decide +kernel) ⟨Nat.le_of_ble_eq_true rfl, Nat.le_of_ble_eq_true rfl⟩ hH [1, 2] rfl rfl rfl hl.1 (Nat.le_of_ble_eq_true rfl) dJ10_grow_2_37 ⟨(by first | exact Nat.le_of_ble_eq_true rfl | omega | (dsimp only; omega)), (by first | exact Nat.le_of_ble_eq_true rfl | omega | (dsimp only; omega))⟩ (fun v w1 H locs hq hH => ?_)
    obtain ⟨q_12, q_13, n_14, rfl, rfl, hw⟩ := hq
    have hH : g_HS d A s [[(ob, .inr (11, [.int mc_, .ref ed, .int sz]))], [(ed, .inl (d.2.1 6, cap, .inr (.inr (.inr (.inr ef)))))], tw, [(q_12, .inl (d.2.1 6, q_13, .inr (.inr (.inr (.inr n_14)))))]] H locs := hH
    refine W.eq (g2 := (F0 m 40 ls [.ref q_12, .ref ob])) rfl ?_
    refine W.widen (k := 1) (n := 22) (by first | exact Nat.le_of_ble_eq_true rfl | omega | (dsimp only; omega)) (by first | exact Nat.le_of_ble_eq_true rfl | omega | (dsimp only; omega)) ?_
    refine lv_dup_x1 hF.1.1 hF.1.2.1 dJ10_grow_2_40 rfl rfl ?_
    refine g_put (cs' := [[(ob, .inr (11, [.int mc_, .ref q_12, .int sz]))], [(ed, .inl (d.2.1 6, cap, .inr (.inr (.inr (.inr ef)))))], tw, [(q_12, .inl (d.2.1 6, q_13, .inr (.inr (.inr (.inr n_14)))))]]) (ch' := [(ob, .inr (11, [.int mc_, .ref q_12, .int sz]))]) (ty := (.array (.object "java/lang/Object"))) hF hH in_J10 rfl tyJ10 tyJ10_ok nmJ10 0 0 rfl rfl 1 (by decide) q426 (fun _ h9 => h9) rfl (by decide +kernel) rfl rfl (Nat.le_of_ble_eq_true rfl) dJ10_grow_2_41 rfl rfl (fun H locs hH => ?_)
    have hH := hH.sub (cs' := [[(ob, .inr (11, [.int mc_, .ref q_12, .int sz]))], tw, [(q_12, .inl (d.2.1 6, q_13, .inr (.inr (.inr (.inr n_14)))))]]) [0, 2, 3] rfl rfl
    exact g_aret hF (Or.inr ⟨_, rfl⟩) (Or.inr ⟨_, rfl⟩) hH ⟨q_12, q_13, n_14, rfl, rfl, hw⟩ dJ10_grow_2_44
  · have hw := hw.2 c_10
    refine lv_aload_n hF.1.1 hF.1.2.1 dJ10_grow_2_10 rfl (lv_at hl 1 rfl) ?_
    refine g_get (v := .ref ed) hF hH in_J10 rfl 0 0 rfl rfl 1 (by decide) q426 (fun _ h9 => h9) rfl dJ10_grow_2_11 ?_
    refine g_gets (v := .ref (d.2.2 4)) hF hH (g_z2 hH).1 q424 (fun _ h9 => h9) dJ10_grow_2_14 ?_
    refine lv_acmp_eq (rx := (some ed)) (ry := (some (d.2.2 4))) (tgt := 45) hF.1.1 hF.1.2.1 dJ10_grow_2_17 (by decide) (fun z => absurd z (fun z => g_ne4 hH 1 rfl 0 rfl (Option.some.inj z))) (fun _ => ?_)
    refine lv_iload_n hF.1.1 hF.1.2.1 dJ10_grow_2_20 rfl (lv_at hl 0 rfl) ?_
    refine lv_iload_n hF.1.1 hF.1.2.1 dJ10_grow_2_21 rfl (lv_at hl 2 rfl) ?_
    refine lv_iload_n hF.1.1 hF.1.2.1 dJ10_grow_2_22 rfl (lv_at hl 0 rfl) ?_
    refine lv_isub hF.1.1 hF.1.2.1 dJ10_grow_2_23 ?_
    refine lv_iload_n hF.1.1 hF.1.2.1 dJ10_grow_2_24 rfl (lv_at hl 0 rfl) ?_
    refine lv_iconst (v := 1) hF.1.1 hF.1.2.1 dJ10_grow_2_25 (by decide) ?_
    refine lv_ishr hF.1.1 hF.1.2.1 dJ10_grow_2_26 ?_
    refine g_cS [.int (nI cap), .int (a1 - (nI cap)), .int ((nI cap) >>> (1 &&& 31))] 3 rfl hF (met_J12_newLength l hl0 d (nI cap) (a1 - (nI cap)) ((nI cap) >>> (1 &&& 31)) _ hw) q546 q547 q113 q548 rfl rfl (by decide +kernel) ⟨Nat.le_of_ble_eq_true rfl, Nat.le_of_ble_eq_true rfl⟩ hH [] rfl rfl rfl hl.1 (Nat.le_of_ble_eq_true rfl) dJ10_grow_2_27 ⟨(by first | exact Nat.le_of_ble_eq_true rfl | omega | (dsimp only; omega)), (by first | exact Nat.le_of_ble_eq_true rfl | omega | (dsimp only; omega))⟩ (fun v w1 H locs hq hH => ?_)
    obtain ⟨r_15, rfl, rfl, hw⟩ := hq
    have hH : g_HS d A s [[(ob, .inr (11, [.int mc_, .ref ed, .int sz]))], [(ed, .inl (d.2.1 6, cap, .inr (.inr (.inr (.inr ef)))))], tw] H locs := hH
    refine W.eq (g2 := (F0 m 30 ls [.int r_15])) rfl ?_
    refine lv_istore_n (lv' := [(3, .int r_15), (2, .int (nI cap)), (0, .ref ob), (1, .int a1)]) hF.1.1 hF.1.2.1 dJ10_grow_2_30 rfl hl (by decide) rfl (fun ls hl => ?_)
    refine lv_aload_n hF.1.1 hF.1.2.1 dJ10_grow_2_31 rfl (lv_at hl 2 rfl) ?_
    refine lv_aload_n hF.1.1 hF.1.2.1 dJ10_grow_2_32 rfl (lv_at hl 2 rfl) ?_
    refine g_get (v := .ref ed) hF hH in_J10 rfl 0 0 rfl rfl 1 (by decide) q426 (fun _ h9 => h9) rfl dJ10_grow_2_33 ?_
    refine lv_iload_n hF.1.1 hF.1.2.1 dJ10_grow_2_36 rfl (lv_at hl 0 rfl) ?_
    refine g_cS [.ref ed, .int r_15] 2 rfl hF (met_J13_copyOf l hl0 d ed r_15 ef cap tw _ hw) q556 q557 q114 q558 rfl rfl (by decide +kernel) ⟨Nat.le_of_ble_eq_true rfl, Nat.le_of_ble_eq_true rfl⟩ hH [1, 2] rfl rfl rfl hl.1 (Nat.le_of_ble_eq_true rfl) dJ10_grow_2_37 ⟨(by first | exact Nat.le_of_ble_eq_true rfl | omega | (dsimp only; omega)), (by first | exact Nat.le_of_ble_eq_true rfl | omega | (dsimp only; omega))⟩ (fun v w1 H locs hq hH => ?_)
    obtain ⟨q_16, q_17, n_18, rfl, rfl, hw⟩ := hq
    have hH : g_HS d A s [[(ob, .inr (11, [.int mc_, .ref ed, .int sz]))], [(ed, .inl (d.2.1 6, cap, .inr (.inr (.inr (.inr ef)))))], tw, [(q_16, .inl (d.2.1 6, q_17, .inr (.inr (.inr (.inr n_18)))))]] H locs := hH
    refine W.eq (g2 := (F0 m 40 ls [.ref q_16, .ref ob])) rfl ?_
    refine W.widen (k := 1) (n := 22) (by first | exact Nat.le_of_ble_eq_true rfl | omega | (dsimp only; omega)) (by first | exact Nat.le_of_ble_eq_true rfl | omega | (dsimp only; omega)) ?_
    refine lv_dup_x1 hF.1.1 hF.1.2.1 dJ10_grow_2_40 rfl rfl ?_
    refine g_put (cs' := [[(ob, .inr (11, [.int mc_, .ref q_16, .int sz]))], [(ed, .inl (d.2.1 6, cap, .inr (.inr (.inr (.inr ef)))))], tw, [(q_16, .inl (d.2.1 6, q_17, .inr (.inr (.inr (.inr n_18)))))]]) (ch' := [(ob, .inr (11, [.int mc_, .ref q_16, .int sz]))]) (ty := (.array (.object "java/lang/Object"))) hF hH in_J10 rfl tyJ10 tyJ10_ok nmJ10 0 0 rfl rfl 1 (by decide) q426 (fun _ h9 => h9) rfl (by decide +kernel) rfl rfl (Nat.le_of_ble_eq_true rfl) dJ10_grow_2_41 rfl rfl (fun H locs hH => ?_)
    have hH := hH.sub (cs' := [[(ob, .inr (11, [.int mc_, .ref q_16, .int sz]))], tw, [(q_16, .inl (d.2.1 6, q_17, .inr (.inr (.inr (.inr n_18)))))]]) [0, 2, 3] rfl rfl
    exact g_aret hF (Or.inr ⟨_, rfl⟩) (Or.inr ⟨_, rfl⟩) hH ⟨q_16, q_17, n_18, rfl, rfl, hw⟩ dJ10_grow_2_44

def wp_J10_grow_O (mc_ : Int32) (sz : Int32) (ef : Nat → Option Nat) (cap : Nat) (tw : va_W) (Q : Nat → (Nat → Option Nat) → Prop) : Prop := (wp_J10_grow_2_O (sz + 1) mc_ sz ef cap tw (fun q_5 n_6 => (Q q_5 n_6)))
set_option maxHeartbeats 4000000 in
set_option maxRecDepth 100000 in
theorem met_J10_grow_O (l : Launch) (hl0 : l.stackTraces = false) (d : g_D) (ob : Nat) (mc_ : Int32) (ed : Nat) (sz : Int32) (ef : Nat → Option Nat) (cap : Nat) (tw : va_W) (Q : Nat → (Nat → Option Nat) → Prop) (hw : wp_J10_grow_O mc_ sz ef cap tw Q) : g_Met l d yJ10_grow cJ10_grow 1 (Option.some (FieldType.array (FieldType.object "java/lang/Object"))) ({ frames := 4, cells := 1, slots := 22, locals := 99 } : Room) [.ref ob] [[(ob, .inr (11, [.int mc_, .ref ed, .int sz]))], [(ed, .inl (d.2.1 6, cap, .inr (.inr (.inr (.inr ef)))))], tw] 1 22 (fun v w1 => ∃ (ed2 : Nat) (cap2 : Nat) (ef2 : Nat → Option Nat), v = some (.ref ed2) ∧ w1 = [[(ob, .inr (11, [.int mc_, .ref ed2, .int sz]))], tw, [(ed2, .inl (d.2.1 6, cap2, .inr (.inr (.inr (.inr ef2)))))]] ∧ Q cap2 ef2) := by
  refine g_enter (by decide) (Nat.le_of_ble_eq_true rfl) ?_
  intro p e s m args below meth c A ls hF hH hl hin
  have hF : g_F p m c cJ10_grow 1 s args RJ10 meth (Option.some (FieldType.array (FieldType.object "java/lang/Object"))) := hF
  have hl : lv_has ls 1 [(0, .ref ob)] := hl
  unfold wp_J10_grow_O at hw
  refine lv_aload_n hF.1.1 hF.1.2.1 dJ10_grow_0 rfl (lv_at hl 0 rfl) ?_
  refine lv_aload_n hF.1.1 hF.1.2.1 dJ10_grow_1 rfl (lv_at hl 0 rfl) ?_
  refine g_get (v := .int sz) hF hH in_J10 rfl 0 0 rfl rfl 2 (by decide) q429 (fun _ h9 => h9) rfl dJ10_grow_2 ?_
  refine lv_iconst (v := 1) hF.1.1 hF.1.2.1 dJ10_grow_5 (by decide) ?_
  refine lv_iadd hF.1.1 hF.1.2.1 dJ10_grow_6 ?_
  refine g_cV [.int (sz + 1)] 1 rfl hF (met_J10_grow_2_O l hl0 d ob (sz + 1) mc_ ed sz ef cap tw _ hw) q542 q544 qs11 q107 q545 rfl rfl (by decide +kernel) ⟨Nat.le_of_ble_eq_true rfl, Nat.le_of_ble_eq_true rfl⟩ hH [0, 1, 2] rfl rfl rfl 0 0 rfl rfl rfl hl.1 (Nat.le_of_ble_eq_true rfl) dJ10_grow_7 ⟨(by first | exact Nat.le_of_ble_eq_true rfl | omega | (dsimp only; omega)), (by first | exact Nat.le_of_ble_eq_true rfl | omega | (dsimp only; omega))⟩ (fun v w1 H locs hq hH => ?_)
  obtain ⟨q_4, q_5, n_6, rfl, rfl, hw⟩ := hq
  have hH : g_HS d A s [[(ob, .inr (11, [.int mc_, .ref q_4, .int sz]))], tw, [(q_4, .inl (d.2.1 6, q_5, .inr (.inr (.inr (.inr n_6)))))]] H locs := hH
  refine W.eq (g2 := (F0 m 10 ls [.ref q_4])) rfl ?_
  refine W.widen (k := 1) (n := 22) (by first | exact Nat.le_of_ble_eq_true rfl | omega | (dsimp only; omega)) (by first | exact Nat.le_of_ble_eq_true rfl | omega | (dsimp only; omega)) ?_
  exact g_aret hF (Or.inr ⟨_, rfl⟩) (Or.inr ⟨_, rfl⟩) hH ⟨q_4, q_5, n_6, rfl, rfl, hw⟩ dJ10_grow_10

def wp_J10_grow_2_E (a1 : Int32) (mc_ : Int32) (Q : Nat → (Nat → Option Nat) → Prop) : Prop := (¬ (if (10 : Int32) < a1 then a1 else (10 : Int32)) < 0 ∧ (if (10 : Int32) < a1 then a1 else (10 : Int32)).toNatClampNeg ≤ 22 ∧ (Q ((if (10 : Int32) < a1 then a1 else (10 : Int32)).toNatClampNeg) (fun _ => none)))
set_option maxHeartbeats 4000000 in
set_option maxRecDepth 100000 in
theorem met_J10_grow_2_E (l : Launch) (hl0 : l.stackTraces = false) (d : g_D) (ob : Nat) (a1 : Int32) (mc_ : Int32) (Q : Nat → (Nat → Option Nat) → Prop) (hw : wp_J10_grow_2_E a1 mc_ Q) : g_Met l d yJ10_grow_2 cJ10_grow_2 4 (Option.some (FieldType.array (FieldType.object "java/lang/Object"))) ({ frames := 3, cells := 1, slots := 22, locals := 76 } : Room) [.ref ob, .int a1] [[(ob, .inr (11, [.int mc_, .ref (d.2.2 4), .int 0]))]] 1 22 (fun v w1 => ∃ (ed2 : Nat) (cap2 : Nat) (ef2 : Nat → Option Nat), v = some (.ref ed2) ∧ w1 = [[(ob, .inr (11, [.int mc_, .ref ed2, .int 0]))], [(ed2, .inl (d.2.1 6, cap2, .inr (.inr (.inr (.inr ef2)))))]] ∧ Q cap2 ef2) := by
  refine g_enter (by decide) (Nat.le_of_ble_eq_true rfl) ?_
  intro p e s m args below meth c A ls hF hH hl hin
  have hF : g_F p m c cJ10_grow_2 4 s args RJ10 meth (Option.some (FieldType.array (FieldType.object "java/lang/Object"))) := hF
  have hl : lv_has ls 4 [(0, .ref ob), (1, .int a1)] := hl
  unfold wp_J10_grow_2_E at hw
  refine lv_aload_n hF.1.1 hF.1.2.1 dJ10_grow_2_0 rfl (lv_at hl 0 rfl) ?_
  refine g_get (v := .ref (d.2.2 4)) hF hH in_J10 rfl 0 0 rfl rfl 1 (by decide) q426 (fun _ h9 => h9) rfl dJ10_grow_2_1 ?_
  refine g_tlen hF hH dJ10_grow_2_4 ?_
  refine lv_istore_n (lv' := [(2, .int 0), (0, .ref ob), (1, .int a1)]) hF.1.1 hF.1.2.1 dJ10_grow_2_5 rfl hl (by decide) rfl (fun ls hl => ?_)
  refine lv_iload_n hF.1.1 hF.1.2.1 dJ10_grow_2_6 rfl (lv_at hl 0 rfl) ?_
  refine lv_if_gt (tgt := 20) hF.1.1 hF.1.2.1 dJ10_grow_2_7 (by decide) (fun z => absurd z (by decide)) (fun _ => ?_)
  refine lv_aload_n hF.1.1 hF.1.2.1 dJ10_grow_2_10 rfl (lv_at hl 1 rfl) ?_
  refine g_get (v := .ref (d.2.2 4)) hF hH in_J10 rfl 0 0 rfl rfl 1 (by decide) q426 (fun _ h9 => h9) rfl dJ10_grow_2_11 ?_
  refine g_gets (v := .ref (d.2.2 4)) hF hH (g_z2 hH).1 q424 (fun _ h9 => h9) dJ10_grow_2_14 ?_
  refine lv_acmp_eq (rx := (some (d.2.2 4))) (ry := (some (d.2.2 4))) (tgt := 45) hF.1.1 hF.1.2.1 dJ10_grow_2_17 (by decide) (fun _ => ?_) (fun z => absurd rfl z)
  refine lv_aload_n hF.1.1 hF.1.2.1 dJ10_grow_2_45 rfl (lv_at hl 1 rfl) ?_
  refine lv_bipush (v := 10) hF.1.1 hF.1.2.1 dJ10_grow_2_46 (by decide) ?_
  refine lv_iload_n hF.1.1 hF.1.2.1 dJ10_grow_2_48 rfl (lv_at hl 2 rfl) ?_
  refine va_mmax hF.1.1 hF.1.2.1 (hF.1.2.2.1.trans hl.1.symm) hF.1.2.2.2.1 (hF.1.2.2.2.2 _ q594) (hF.1.2.2.2.2 _ q550) (hF.1.2.2.2.2 _ q102) (hF.1.2.2.2.2 _ q551) (Nat.le_of_ble_eq_true rfl) (Nat.le_of_ble_eq_true rfl) (by first | exact Nat.le_of_ble_eq_true rfl | omega | (dsimp only; omega)) (by first | exact Nat.le_of_ble_eq_true rfl | omega | (dsimp only; omega)) dJ10_grow_2_49 ?_
  obtain ⟨hc_6, hb_5, hw⟩ := hw
  refine g_newQ (N' := (if (10 : Int32) < a1 then a1 else (10 : Int32)).toNatClampNeg) hF hH q595 hc_6 rfl (by omega) (by first | exact Nat.le_of_ble_eq_true rfl | omega | (dsimp only; omega)) (by first | exact Nat.le_of_ble_eq_true rfl | omega | (dsimp only; omega)) dJ10_grow_2_52 (fun q_4 H hH => ?_)
  have hH : g_HS d A s [[(ob, .inr (11, [.int mc_, .ref (d.2.2 4), .int 0]))], [(q_4, .inl (d.2.1 6, ((if (10 : Int32) < a1 then a1 else (10 : Int32)).toNatClampNeg), .inr (.inr (.inr (.inr (fun _ => none))))))]] H _ := hH
  refine W.widen (k := 1) (n := 22) (by first | exact Nat.le_of_ble_eq_true rfl | omega | (dsimp only; omega)) (by first | exact Nat.le_of_ble_eq_true rfl | omega | (dsimp only; omega)) ?_
  refine lv_dup_x1 hF.1.1 hF.1.2.1 dJ10_grow_2_55 rfl rfl ?_
  refine g_put (cs' := [[(ob, .inr (11, [.int mc_, .ref q_4, .int 0]))], [(q_4, .inl (d.2.1 6, ((if (10 : Int32) < a1 then a1 else (10 : Int32)).toNatClampNeg), .inr (.inr (.inr (.inr (fun _ => none))))))]]) (ch' := [(ob, .inr (11, [.int mc_, .ref q_4, .int 0]))]) (ty := (.array (.object "java/lang/Object"))) hF hH in_J10 rfl tyJ10 tyJ10_ok nmJ10 0 0 rfl rfl 1 (by decide) q426 (fun _ h9 => h9) rfl (by decide +kernel) rfl rfl (Nat.le_of_ble_eq_true rfl) dJ10_grow_2_56 rfl rfl (fun H locs hH => ?_)
  exact g_aret hF (Or.inr ⟨_, rfl⟩) (Or.inr ⟨_, rfl⟩) hH ⟨q_4, ((if (10 : Int32) < a1 then a1 else (10 : Int32)).toNatClampNeg), (fun _ => none), rfl, rfl, hw⟩ dJ10_grow_2_59

def wp_J10_grow_E (mc_ : Int32) (Q : Nat → (Nat → Option Nat) → Prop) : Prop := (wp_J10_grow_2_E ((0 : Int32) + 1) mc_ (fun q_5 n_6 => (Q q_5 n_6)))
set_option maxHeartbeats 4000000 in
set_option maxRecDepth 100000 in
theorem met_J10_grow_E (l : Launch) (hl0 : l.stackTraces = false) (d : g_D) (ob : Nat) (mc_ : Int32) (Q : Nat → (Nat → Option Nat) → Prop) (hw : wp_J10_grow_E mc_ Q) : g_Met l d yJ10_grow cJ10_grow 1 (Option.some (FieldType.array (FieldType.object "java/lang/Object"))) ({ frames := 4, cells := 1, slots := 22, locals := 99 } : Room) [.ref ob] [[(ob, .inr (11, [.int mc_, .ref (d.2.2 4), .int 0]))]] 1 22 (fun v w1 => ∃ (ed2 : Nat) (cap2 : Nat) (ef2 : Nat → Option Nat), v = some (.ref ed2) ∧ w1 = [[(ob, .inr (11, [.int mc_, .ref ed2, .int 0]))], [(ed2, .inl (d.2.1 6, cap2, .inr (.inr (.inr (.inr ef2)))))]] ∧ Q cap2 ef2) := by
  refine g_enter (by decide) (Nat.le_of_ble_eq_true rfl) ?_
  intro p e s m args below meth c A ls hF hH hl hin
  have hF : g_F p m c cJ10_grow 1 s args RJ10 meth (Option.some (FieldType.array (FieldType.object "java/lang/Object"))) := hF
  have hl : lv_has ls 1 [(0, .ref ob)] := hl
  unfold wp_J10_grow_E at hw
  refine lv_aload_n hF.1.1 hF.1.2.1 dJ10_grow_0 rfl (lv_at hl 0 rfl) ?_
  refine lv_aload_n hF.1.1 hF.1.2.1 dJ10_grow_1 rfl (lv_at hl 0 rfl) ?_
  refine g_get (v := .int 0) hF hH in_J10 rfl 0 0 rfl rfl 2 (by decide) q429 (fun _ h9 => h9) rfl dJ10_grow_2 ?_
  refine lv_iconst (v := 1) hF.1.1 hF.1.2.1 dJ10_grow_5 (by decide) ?_
  refine lv_iadd hF.1.1 hF.1.2.1 dJ10_grow_6 ?_
  refine g_cV [.int ((0 : Int32) + 1)] 1 rfl hF (met_J10_grow_2_E l hl0 d ob ((0 : Int32) + 1) mc_ _ hw) q542 q544 qs11 q107 q545 rfl rfl (by decide +kernel) ⟨Nat.le_of_ble_eq_true rfl, Nat.le_of_ble_eq_true rfl⟩ hH [0] rfl rfl rfl 0 0 rfl rfl rfl hl.1 (Nat.le_of_ble_eq_true rfl) dJ10_grow_7 ⟨(by first | exact Nat.le_of_ble_eq_true rfl | omega | (dsimp only; omega)), (by first | exact Nat.le_of_ble_eq_true rfl | omega | (dsimp only; omega))⟩ (fun v w1 H locs hq hH => ?_)
  obtain ⟨q_4, q_5, n_6, rfl, rfl, hw⟩ := hq
  have hH : g_HS d A s [[(ob, .inr (11, [.int mc_, .ref q_4, .int 0]))], [(q_4, .inl (d.2.1 6, q_5, .inr (.inr (.inr (.inr n_6)))))]] H locs := hH
  refine W.eq (g2 := (F0 m 10 ls [.ref q_4])) rfl ?_
  refine W.widen (k := 1) (n := 22) (by first | exact Nat.le_of_ble_eq_true rfl | omega | (dsimp only; omega)) (by first | exact Nat.le_of_ble_eq_true rfl | omega | (dsimp only; omega)) ?_
  exact g_aret hF (Or.inr ⟨_, rfl⟩) (Or.inr ⟨_, rfl⟩) hH ⟨q_4, q_5, n_6, rfl, rfl, hw⟩ dJ10_grow_10

def wp_J10_add_2_OL (x : Nat) (sz : Int32) (mc_ : Int32) (ef : Nat → Option Nat) (cap : Nat) (tw : va_W) (Q : Nat → (Nat → Option Nat) → Int32 → Prop) : Prop := ((¬ sz = (nI cap) → (vp_in sz cap ∧ (Q cap (va_up ef sz.toNatClampNeg (some x)) (sz + 1)))) ∧ (sz = (nI cap) → (wp_J10_grow_O mc_ sz ef cap tw (fun q_10 n_11 => (vp_in sz q_10 ∧ (Q q_10 (va_up n_11 sz.toNatClampNeg (some x)) (sz + 1)))))))
set_option maxHeartbeats 4000000 in
set_option maxRecDepth 100000 in
theorem met_J10_add_2_OL (l : Launch) (hl0 : l.stackTraces = false) (d : g_D) (ob : Nat) (x : Nat) (ed : Nat) (sz : Int32) (mc_ : Int32) (ef : Nat → Option Nat) (cap : Nat) (tw : va_W) (xs : Int32) (xp : Option Nat) (Q : Nat → (Nat → Option Nat) → Int32 → Prop) (hw : wp_J10_add_2_OL x sz mc_ ef cap tw Q) : g_Met l d yJ10_add_2 cJ10_add_2 4 none ({ frames := 5, cells := 1, slots := 22, locals := 119 } : Room) [.ref ob, .ref x, .ref ed, .int sz] [[(ob, .inr (11, [.int mc_, .ref ed, .int sz]))], [(ed, .inl (d.2.1 6, cap, .inr (.inr (.inr (.inr ef)))))], tw, [(x, .inr (5, [.int xs, va_rf xp]))]] 1 22 (fun v w1 => ∃ (ed2 : Nat) (cap2 : Nat) (ef2 : Nat → Option Nat) (sz2 : Int32), v = none ∧ w1 = [[(ob, .inr (11, [.int mc_, .ref ed2, .int sz2]))], [(ed2, .inl (d.2.1 6, cap2, .inr (.inr (.inr (.inr ef2)))))], tw, [(x, .inr (5, [.int xs, va_rf xp]))]] ∧ Q cap2 ef2 sz2) := by
  refine g_enter (by decide) (Nat.le_of_ble_eq_true rfl) ?_
  intro p e s m args below meth c A ls hF hH hl hin
  have hF : g_F p m c cJ10_add_2 4 s args RJ10 meth none := hF
  have hl : lv_has ls 4 [(0, .ref ob), (1, .ref x), (2, .ref ed), (3, .int sz)] := hl
  unfold wp_J10_add_2_OL at hw
  refine lv_iload_n hF.1.1 hF.1.2.1 dJ10_add_2_0 rfl (lv_at hl 3 rfl) ?_
  refine lv_aload_n hF.1.1 hF.1.2.1 dJ10_add_2_1 rfl (lv_at hl 2 rfl) ?_
  refine g_alen (v := (nI cap)) (ty := .object "java/lang/Object") hF hH 1 0 6 rfl rfl rfl rfl dJ10_add_2_2 ?_
  refine lv_icmp_ne (tgt := 11) hF.1.1 hF.1.2.1 dJ10_add_2_3 (by decide) (fun c_7 => ?_) (fun c_7 => ?_)
  · have hw := hw.1 c_7
    refine lv_aload_n hF.1.1 hF.1.2.1 dJ10_add_2_11 rfl (lv_at hl 2 rfl) ?_
    refine lv_iload_n hF.1.1 hF.1.2.1 dJ10_add_2_12 rfl (lv_at hl 3 rfl) ?_
    refine lv_aload_n hF.1.1 hF.1.2.1 dJ10_add_2_13 rfl (lv_at hl 1 rfl) ?_
    obtain ⟨hi_8, hw⟩ := hw
    refine g_aast (cs' := [[(ob, .inr (11, [.int mc_, .ref ed, .int sz]))], [(ed, .inl (d.2.1 6, cap, .inr (.inr (.inr (.inr (va_up ef sz.toNatClampNeg (some x)))))))], tw, [(x, .inr (5, [.int xs, va_rf xp]))]]) (ch' := [(ed, .inl (d.2.1 6, cap, .inr (.inr (.inr (.inr (va_up ef sz.toNatClampNeg (some x)))))))]) hF hH 1 0 rfl rfl (g_anyc hH 3 0 rfl rfl rfl q1859) hi_8 dJ10_add_2_14 rfl rfl (fun H locs hH => ?_)
    refine lv_aload_n hF.1.1 hF.1.2.1 dJ10_add_2_15 rfl (lv_at hl 0 rfl) ?_
    refine lv_iload_n hF.1.1 hF.1.2.1 dJ10_add_2_16 rfl (lv_at hl 3 rfl) ?_
    refine lv_iconst (v := 1) hF.1.1 hF.1.2.1 dJ10_add_2_17 (by decide) ?_
    refine lv_iadd hF.1.1 hF.1.2.1 dJ10_add_2_18 ?_
    refine g_put (cs' := [[(ob, .inr (11, [.int mc_, .ref ed, .int (sz + 1)]))], [(ed, .inl (d.2.1 6, cap, .inr (.inr (.inr (.inr (va_up ef sz.toNatClampNeg (some x)))))))], tw, [(x, .inr (5, [.int xs, va_rf xp]))]]) (ch' := [(ob, .inr (11, [.int mc_, .ref ed, .int (sz + 1)]))]) (ty := .int) hF hH in_J10 rfl tyJ10 tyJ10_ok nmJ10 0 0 rfl rfl 2 (by decide) q429 (fun _ h9 => h9) rfl (by decide +kernel) rfl rfl (Nat.le_of_ble_eq_true rfl) dJ10_add_2_19 rfl rfl (fun H locs hH => ?_)
    refine W.widen (k := 1) (n := 22) (by first | exact Nat.le_of_ble_eq_true rfl | omega | (dsimp only; omega)) (by first | exact Nat.le_of_ble_eq_true rfl | omega | (dsimp only; omega)) ?_
    exact g_vret hF hH ⟨ed, cap, (va_up ef sz.toNatClampNeg (some x)), (sz + 1), rfl, rfl, hw⟩ dJ10_add_2_22
  · have hw := hw.2 c_7
    refine lv_aload_n hF.1.1 hF.1.2.1 dJ10_add_2_6 rfl (lv_at hl 0 rfl) ?_
    refine g_cV [] 0 rfl hF (met_J10_grow_O l hl0 d ob mc_ ed sz ef cap tw _ hw) q538 q540 qs10 q107 q541 rfl rfl (by decide +kernel) ⟨Nat.le_of_ble_eq_true rfl, Nat.le_of_ble_eq_true rfl⟩ hH [0, 1, 2] rfl rfl rfl 0 0 rfl rfl rfl hl.1 (Nat.le_of_ble_eq_true rfl) dJ10_add_2_7 ⟨(by first | exact Nat.le_of_ble_eq_true rfl | omega | (dsimp only; omega)), (by first | exact Nat.le_of_ble_eq_true rfl | omega | (dsimp only; omega))⟩ (fun v w1 H locs hq hH => ?_)
    obtain ⟨q_9, q_10, n_11, rfl, rfl, hw⟩ := hq
    have hH : g_HS d A s [[(x, .inr (5, [.int xs, va_rf xp]))], [(ob, .inr (11, [.int mc_, .ref q_9, .int sz]))], tw, [(q_9, .inl (d.2.1 6, q_10, .inr (.inr (.inr (.inr n_11)))))]] H locs := hH
    refine W.eq (g2 := (F0 m 10 ls [.ref q_9])) rfl ?_
    refine W.widen (k := 1) (n := 22) (by first | exact Nat.le_of_ble_eq_true rfl | omega | (dsimp only; omega)) (by first | exact Nat.le_of_ble_eq_true rfl | omega | (dsimp only; omega)) ?_
    refine lv_astore_n (lv' := [(2, .ref q_9), (0, .ref ob), (1, .ref x), (3, .int sz)]) hF.1.1 hF.1.2.1 dJ10_add_2_10 rfl hl (by decide) rfl (fun ls hl => ?_)
    refine lv_aload_n hF.1.1 hF.1.2.1 dJ10_add_2_11 rfl (lv_at hl 0 rfl) ?_
    refine lv_iload_n hF.1.1 hF.1.2.1 dJ10_add_2_12 rfl (lv_at hl 3 rfl) ?_
    refine lv_aload_n hF.1.1 hF.1.2.1 dJ10_add_2_13 rfl (lv_at hl 2 rfl) ?_
    obtain ⟨hi_12, hw⟩ := hw
    refine g_aast (cs' := [[(x, .inr (5, [.int xs, va_rf xp]))], [(ob, .inr (11, [.int mc_, .ref q_9, .int sz]))], tw, [(q_9, .inl (d.2.1 6, q_10, .inr (.inr (.inr (.inr (va_up n_11 sz.toNatClampNeg (some x)))))))]]) (ch' := [(q_9, .inl (d.2.1 6, q_10, .inr (.inr (.inr (.inr (va_up n_11 sz.toNatClampNeg (some x)))))))]) hF hH 3 0 rfl rfl (g_anyc hH 0 0 rfl rfl rfl q1859) hi_12 dJ10_add_2_14 rfl rfl (fun H locs hH => ?_)
    refine lv_aload_n hF.1.1 hF.1.2.1 dJ10_add_2_15 rfl (lv_at hl 1 rfl) ?_
    refine lv_iload_n hF.1.1 hF.1.2.1 dJ10_add_2_16 rfl (lv_at hl 3 rfl) ?_
    refine lv_iconst (v := 1) hF.1.1 hF.1.2.1 dJ10_add_2_17 (by decide) ?_
    refine lv_iadd hF.1.1 hF.1.2.1 dJ10_add_2_18 ?_
    refine g_put (cs' := [[(x, .inr (5, [.int xs, va_rf xp]))], [(ob, .inr (11, [.int mc_, .ref q_9, .int (sz + 1)]))], tw, [(q_9, .inl (d.2.1 6, q_10, .inr (.inr (.inr (.inr (va_up n_11 sz.toNatClampNeg (some x)))))))]]) (ch' := [(ob, .inr (11, [.int mc_, .ref q_9, .int (sz + 1)]))]) (ty := .int) hF hH in_J10 rfl tyJ10 tyJ10_ok nmJ10 1 0 rfl rfl 2 (by decide) q429 (fun _ h9 => h9) rfl (by decide +kernel) rfl rfl (Nat.le_of_ble_eq_true rfl) dJ10_add_2_19 rfl rfl (fun H locs hH => ?_)
    have hH := hH.sub (cs' := [[(ob, .inr (11, [.int mc_, .ref q_9, .int (sz + 1)]))], [(q_9, .inl (d.2.1 6, q_10, .inr (.inr (.inr (.inr (va_up n_11 sz.toNatClampNeg (some x)))))))], tw, [(x, .inr (5, [.int xs, va_rf xp]))]]) [1, 3, 2, 0] rfl rfl
    exact g_vret hF hH ⟨q_9, q_10, (va_up n_11 sz.toNatClampNeg (some x)), (sz + 1), rfl, rfl, hw⟩ dJ10_add_2_22

def wp_J10_add_2_EL (x : Nat) (mc_ : Int32) (tw : va_W) (Q : Nat → (Nat → Option Nat) → Int32 → Prop) : Prop := (wp_J10_grow_E mc_ (fun q_6 n_7 => (vp_in (0 : Int32) q_6 ∧ (Q q_6 (va_up n_7 (0 : Int32).toNatClampNeg (some x)) ((0 : Int32) + 1)))))
set_option maxHeartbeats 4000000 in
set_option maxRecDepth 100000 in
theorem met_J10_add_2_EL (l : Launch) (hl0 : l.stackTraces = false) (d : g_D) (ob : Nat) (x : Nat) (mc_ : Int32) (tw : va_W) (xs : Int32) (xp : Option Nat) (Q : Nat → (Nat → Option Nat) → Int32 → Prop) (hw : wp_J10_add_2_EL x mc_ tw Q) : g_Met l d yJ10_add_2 cJ10_add_2 4 none ({ frames := 5, cells := 1, slots := 22, locals := 119 } : Room) [.ref ob, .ref x, .ref (d.2.2 4), .int 0] [[(ob, .inr (11, [.int mc_, .ref (d.2.2 4), .int 0]))], tw, [(x, .inr (5, [.int xs, va_rf xp]))]] 1 22 (fun v w1 => ∃ (ed2 : Nat) (cap2 : Nat) (ef2 : Nat → Option Nat) (sz2 : Int32), v = none ∧ w1 = [[(ob, .inr (11, [.int mc_, .ref ed2, .int sz2]))], [(ed2, .inl (d.2.1 6, cap2, .inr (.inr (.inr (.inr ef2)))))], tw, [(x, .inr (5, [.int xs, va_rf xp]))]] ∧ Q cap2 ef2 sz2) := by
  refine g_enter (by decide) (Nat.le_of_ble_eq_true rfl) ?_
  intro p e s m args below meth c A ls hF hH hl hin
  have hF : g_F p m c cJ10_add_2 4 s args RJ10 meth none := hF
  have hl : lv_has ls 4 [(0, .ref ob), (1, .ref x), (2, .ref (d.2.2 4)), (3, .int 0)] := hl
  unfold wp_J10_add_2_EL at hw
  refine lv_iload_n hF.1.1 hF.1.2.1 dJ10_add_2_0 rfl (lv_at hl 3 rfl) ?_
  refine lv_aload_n hF.1.1 hF.1.2.1 dJ10_add_2_1 rfl (lv_at hl 2 rfl) ?_
  refine g_tlen hF hH dJ10_add_2_2 ?_
  refine lv_icmp_ne (tgt := 11) hF.1.1 hF.1.2.1 dJ10_add_2_3 (by decide) (fun z => absurd z (by decide)) (fun _ => ?_)
  refine lv_aload_n hF.1.1 hF.1.2.1 dJ10_add_2_6 rfl (lv_at hl 0 rfl) ?_
  refine g_cV [] 0 rfl hF (met_J10_grow_E l hl0 d ob mc_ _ hw) q538 q540 qs10 q107 q541 rfl rfl (by decide +kernel) ⟨Nat.le_of_ble_eq_true rfl, Nat.le_of_ble_eq_true rfl⟩ hH [0] rfl rfl rfl 0 0 rfl rfl rfl hl.1 (Nat.le_of_ble_eq_true rfl) dJ10_add_2_7 ⟨(by first | exact Nat.le_of_ble_eq_true rfl | omega | (dsimp only; omega)), (by first | exact Nat.le_of_ble_eq_true rfl | omega | (dsimp only; omega))⟩ (fun v w1 H locs hq hH => ?_)
  obtain ⟨q_5, q_6, n_7, rfl, rfl, hw⟩ := hq
  have hH : g_HS d A s [tw, [(x, .inr (5, [.int xs, va_rf xp]))], [(ob, .inr (11, [.int mc_, .ref q_5, .int 0]))], [(q_5, .inl (d.2.1 6, q_6, .inr (.inr (.inr (.inr n_7)))))]] H locs := hH
  refine W.eq (g2 := (F0 m 10 ls [.ref q_5])) rfl ?_
  refine W.widen (k := 1) (n := 22) (by first | exact Nat.le_of_ble_eq_true rfl | omega | (dsimp only; omega)) (by first | exact Nat.le_of_ble_eq_true rfl | omega | (dsimp only; omega)) ?_
  refine lv_astore_n (lv' := [(2, .ref q_5), (0, .ref ob), (1, .ref x), (3, .int 0)]) hF.1.1 hF.1.2.1 dJ10_add_2_10 rfl hl (by decide) rfl (fun ls hl => ?_)
  refine lv_aload_n hF.1.1 hF.1.2.1 dJ10_add_2_11 rfl (lv_at hl 0 rfl) ?_
  refine lv_iload_n hF.1.1 hF.1.2.1 dJ10_add_2_12 rfl (lv_at hl 3 rfl) ?_
  refine lv_aload_n hF.1.1 hF.1.2.1 dJ10_add_2_13 rfl (lv_at hl 2 rfl) ?_
  obtain ⟨hi_8, hw⟩ := hw
  refine g_aast (cs' := [tw, [(x, .inr (5, [.int xs, va_rf xp]))], [(ob, .inr (11, [.int mc_, .ref q_5, .int 0]))], [(q_5, .inl (d.2.1 6, q_6, .inr (.inr (.inr (.inr (va_up n_7 (0 : Int32).toNatClampNeg (some x)))))))]]) (ch' := [(q_5, .inl (d.2.1 6, q_6, .inr (.inr (.inr (.inr (va_up n_7 (0 : Int32).toNatClampNeg (some x)))))))]) hF hH 3 0 rfl rfl (g_anyc hH 1 0 rfl rfl rfl q1859) hi_8 dJ10_add_2_14 rfl rfl (fun H locs hH => ?_)
  refine lv_aload_n hF.1.1 hF.1.2.1 dJ10_add_2_15 rfl (lv_at hl 1 rfl) ?_
  refine lv_iload_n hF.1.1 hF.1.2.1 dJ10_add_2_16 rfl (lv_at hl 3 rfl) ?_
  refine lv_iconst (v := 1) hF.1.1 hF.1.2.1 dJ10_add_2_17 (by decide) ?_
  refine lv_iadd hF.1.1 hF.1.2.1 dJ10_add_2_18 ?_
  refine g_put (cs' := [tw, [(x, .inr (5, [.int xs, va_rf xp]))], [(ob, .inr (11, [.int mc_, .ref q_5, .int ((0 : Int32) + 1)]))], [(q_5, .inl (d.2.1 6, q_6, .inr (.inr (.inr (.inr (va_up n_7 (0 : Int32).toNatClampNeg (some x)))))))]]) (ch' := [(ob, .inr (11, [.int mc_, .ref q_5, .int ((0 : Int32) + 1)]))]) (ty := .int) hF hH in_J10 rfl tyJ10 tyJ10_ok nmJ10 2 0 rfl rfl 2 (by decide) q429 (fun _ h9 => h9) rfl (by decide +kernel) rfl rfl (Nat.le_of_ble_eq_true rfl) dJ10_add_2_19 rfl rfl (fun H locs hH => ?_)
  have hH := hH.sub (cs' := [[(ob, .inr (11, [.int mc_, .ref q_5, .int ((0 : Int32) + 1)]))], [(q_5, .inl (d.2.1 6, q_6, .inr (.inr (.inr (.inr (va_up n_7 (0 : Int32).toNatClampNeg (some x)))))))], tw, [(x, .inr (5, [.int xs, va_rf xp]))]]) [2, 3, 0, 1] rfl rfl
  exact g_vret hF hH ⟨q_5, q_6, (va_up n_7 (0 : Int32).toNatClampNeg (some x)), ((0 : Int32) + 1), rfl, rfl, hw⟩ dJ10_add_2_22

def wp_J10_add_OL (x : Nat) (mc_ : Int32) (sz : Int32) (ef : Nat → Option Nat) (cap : Nat) (tw : va_W) (Q : Int32 → Nat → (Nat → Option Nat) → Int32 → Int32 → Prop) : Prop := (wp_J10_add_2_OL x sz (mc_ + 1) ef cap tw (fun q_6 n_7 n_8 => (Q 1 q_6 n_7 n_8 (mc_ + 1))))
set_option maxHeartbeats 4000000 in
set_option maxRecDepth 100000 in
theorem met_J10_add_OL (l : Launch) (hl0 : l.stackTraces = false) (d : g_D) (ob : Nat) (x : Nat) (mc_ : Int32) (ed : Nat) (sz : Int32) (ef : Nat → Option Nat) (cap : Nat) (tw : va_W) (xs : Int32) (xp : Option Nat) (Q : Int32 → Nat → (Nat → Option Nat) → Int32 → Int32 → Prop) (hw : wp_J10_add_OL x mc_ sz ef cap tw Q) : g_Met l d yJ10_add cJ10_add 2 (Option.some FieldType.boolean) ({ frames := 6, cells := 1, slots := 22, locals := 142 } : Room) [.ref ob, .ref x] [[(ob, .inr (11, [.int mc_, .ref ed, .int sz]))], [(ed, .inl (d.2.1 6, cap, .inr (.inr (.inr (.inr ef)))))], tw, [(x, .inr (5, [.int xs, va_rf xp]))]] 1 22 (fun v w1 => ∃ (r : Int32) (ed2 : Nat) (cap2 : Nat) (ef2 : Nat → Option Nat) (sz2 : Int32) (mc2 : Int32), v = some (.int r) ∧ w1 = [[(ob, .inr (11, [.int mc2, .ref ed2, .int sz2]))], [(ed2, .inl (d.2.1 6, cap2, .inr (.inr (.inr (.inr ef2)))))], tw, [(x, .inr (5, [.int xs, va_rf xp]))]] ∧ Q r cap2 ef2 sz2 mc2) := by
  refine g_enter (by decide) (Nat.le_of_ble_eq_true rfl) ?_
  intro p e s m args below meth c A ls hF hH hl hin
  have hF : g_F p m c cJ10_add 2 s args RJ10 meth (Option.some FieldType.boolean) := hF
  have hl : lv_has ls 2 [(0, .ref ob), (1, .ref x)] := hl
  unfold wp_J10_add_OL at hw
  refine lv_aload_n hF.1.1 hF.1.2.1 dJ10_add_0 rfl (lv_at hl 0 rfl) ?_
  refine lv_dup hF.1.1 hF.1.2.1 dJ10_add_1 rfl ?_
  refine g_get (v := .int mc_) hF hH in_J10 rfl 0 0 rfl rfl 0 (by decide) q433 (u_same (hF.1.2.2.2.2 _ q432)) rfl dJ10_add_2 ?_
  refine lv_iconst (v := 1) hF.1.1 hF.1.2.1 dJ10_add_5 (by decide) ?_
  refine lv_iadd hF.1.1 hF.1.2.1 dJ10_add_6 ?_
  refine g_put (cs' := [[(ob, .inr (11, [.int (mc_ + 1), .ref ed, .int sz]))], [(ed, .inl (d.2.1 6, cap, .inr (.inr (.inr (.inr ef)))))], tw, [(x, .inr (5, [.int xs, va_rf xp]))]]) (ch' := [(ob, .inr (11, [.int (mc_ + 1), .ref ed, .int sz]))]) (ty := .int) hF hH in_J10 rfl tyJ10 tyJ10_ok nmJ10 0 0 rfl rfl 0 (by decide) q433 (u_same (hF.1.2.2.2.2 _ q432)) rfl (by decide +kernel) rfl rfl (Nat.le_of_ble_eq_true rfl) dJ10_add_7 rfl rfl (fun H locs hH => ?_)
  refine lv_aload_n hF.1.1 hF.1.2.1 dJ10_add_10 rfl (lv_at hl 0 rfl) ?_
  refine lv_aload_n hF.1.1 hF.1.2.1 dJ10_add_11 rfl (lv_at hl 1 rfl) ?_
  refine lv_aload_n hF.1.1 hF.1.2.1 dJ10_add_12 rfl (lv_at hl 0 rfl) ?_
  refine g_get (v := .ref ed) hF hH in_J10 rfl 0 0 rfl rfl 1 (by decide) q426 (fun _ h9 => h9) rfl dJ10_add_13 ?_
  refine lv_aload_n hF.1.1 hF.1.2.1 dJ10_add_16 rfl (lv_at hl 0 rfl) ?_
  refine g_get (v := .int sz) hF hH in_J10 rfl 0 0 rfl rfl 2 (by decide) q429 (fun _ h9 => h9) rfl dJ10_add_17 ?_
  refine g_cV [.ref x, .ref ed, .int sz] 3 rfl hF (met_J10_add_2_OL l hl0 d ob x ed sz (mc_ + 1) ef cap tw xs xp _ hw) q534 q536 qs9 q107 q537 rfl rfl (by decide +kernel) ⟨Nat.le_of_ble_eq_true rfl, Nat.le_of_ble_eq_true rfl⟩ hH [0, 1, 2, 3] rfl rfl rfl 0 0 rfl rfl rfl hl.1 (Nat.le_of_ble_eq_true rfl) dJ10_add_20 ⟨(by first | exact Nat.le_of_ble_eq_true rfl | omega | (dsimp only; omega)), (by first | exact Nat.le_of_ble_eq_true rfl | omega | (dsimp only; omega))⟩ (fun v w1 H locs hq hH => ?_)
  obtain ⟨q_5, q_6, n_7, n_8, rfl, rfl, hw⟩ := hq
  have hH : g_HS d A s [[(ob, .inr (11, [.int (mc_ + 1), .ref q_5, .int n_8]))], [(q_5, .inl (d.2.1 6, q_6, .inr (.inr (.inr (.inr n_7)))))], tw, [(x, .inr (5, [.int xs, va_rf xp]))]] H locs := hH
  refine W.eq (g2 := (F0 m 23 ls [])) rfl ?_
  refine W.widen (k := 1) (n := 22) (by first | exact Nat.le_of_ble_eq_true rfl | omega | (dsimp only; omega)) (by first | exact Nat.le_of_ble_eq_true rfl | omega | (dsimp only; omega)) ?_
  refine lv_iconst (v := 1) hF.1.1 hF.1.2.1 dJ10_add_23 (by decide) ?_
  exact g_zret hF rfl hH ⟨1, q_5, q_6, n_7, n_8, (mc_ + 1), rfl, rfl, hw⟩ dJ10_add_24

def wp_J10_add_EL (x : Nat) (mc_ : Int32) (tw : va_W) (Q : Int32 → Nat → (Nat → Option Nat) → Int32 → Int32 → Prop) : Prop := (wp_J10_add_2_EL x (mc_ + 1) tw (fun q_6 n_7 n_8 => (Q 1 q_6 n_7 n_8 (mc_ + 1))))
set_option maxHeartbeats 4000000 in
set_option maxRecDepth 100000 in
theorem met_J10_add_EL (l : Launch) (hl0 : l.stackTraces = false) (d : g_D) (ob : Nat) (x : Nat) (mc_ : Int32) (tw : va_W) (xs : Int32) (xp : Option Nat) (Q : Int32 → Nat → (Nat → Option Nat) → Int32 → Int32 → Prop) (hw : wp_J10_add_EL x mc_ tw Q) : g_Met l d yJ10_add cJ10_add 2 (Option.some FieldType.boolean) ({ frames := 6, cells := 1, slots := 22, locals := 142 } : Room) [.ref ob, .ref x] [[(ob, .inr (11, [.int mc_, .ref (d.2.2 4), .int 0]))], tw, [(x, .inr (5, [.int xs, va_rf xp]))]] 1 22 (fun v w1 => ∃ (r : Int32) (ed2 : Nat) (cap2 : Nat) (ef2 : Nat → Option Nat) (sz2 : Int32) (mc2 : Int32), v = some (.int r) ∧ w1 = [[(ob, .inr (11, [.int mc2, .ref ed2, .int sz2]))], [(ed2, .inl (d.2.1 6, cap2, .inr (.inr (.inr (.inr ef2)))))], tw, [(x, .inr (5, [.int xs, va_rf xp]))]] ∧ Q r cap2 ef2 sz2 mc2) := by
  refine g_enter (by decide) (Nat.le_of_ble_eq_true rfl) ?_
  intro p e s m args below meth c A ls hF hH hl hin
  have hF : g_F p m c cJ10_add 2 s args RJ10 meth (Option.some FieldType.boolean) := hF
  have hl : lv_has ls 2 [(0, .ref ob), (1, .ref x)] := hl
  unfold wp_J10_add_EL at hw
  refine lv_aload_n hF.1.1 hF.1.2.1 dJ10_add_0 rfl (lv_at hl 0 rfl) ?_
  refine lv_dup hF.1.1 hF.1.2.1 dJ10_add_1 rfl ?_
  refine g_get (v := .int mc_) hF hH in_J10 rfl 0 0 rfl rfl 0 (by decide) q433 (u_same (hF.1.2.2.2.2 _ q432)) rfl dJ10_add_2 ?_
  refine lv_iconst (v := 1) hF.1.1 hF.1.2.1 dJ10_add_5 (by decide) ?_
  refine lv_iadd hF.1.1 hF.1.2.1 dJ10_add_6 ?_
  refine g_put (cs' := [[(ob, .inr (11, [.int (mc_ + 1), .ref (d.2.2 4), .int 0]))], tw, [(x, .inr (5, [.int xs, va_rf xp]))]]) (ch' := [(ob, .inr (11, [.int (mc_ + 1), .ref (d.2.2 4), .int 0]))]) (ty := .int) hF hH in_J10 rfl tyJ10 tyJ10_ok nmJ10 0 0 rfl rfl 0 (by decide) q433 (u_same (hF.1.2.2.2.2 _ q432)) rfl (by decide +kernel) rfl rfl (Nat.le_of_ble_eq_true rfl) dJ10_add_7 rfl rfl (fun H locs hH => ?_)
  refine lv_aload_n hF.1.1 hF.1.2.1 dJ10_add_10 rfl (lv_at hl 0 rfl) ?_
  refine lv_aload_n hF.1.1 hF.1.2.1 dJ10_add_11 rfl (lv_at hl 1 rfl) ?_
  refine lv_aload_n hF.1.1 hF.1.2.1 dJ10_add_12 rfl (lv_at hl 0 rfl) ?_
  refine g_get (v := .ref (d.2.2 4)) hF hH in_J10 rfl 0 0 rfl rfl 1 (by decide) q426 (fun _ h9 => h9) rfl dJ10_add_13 ?_
  refine lv_aload_n hF.1.1 hF.1.2.1 dJ10_add_16 rfl (lv_at hl 0 rfl) ?_
  refine g_get (v := .int 0) hF hH in_J10 rfl 0 0 rfl rfl 2 (by decide) q429 (fun _ h9 => h9) rfl dJ10_add_17 ?_
  refine g_cV [.ref x, .ref (d.2.2 4), .int 0] 3 rfl hF (met_J10_add_2_EL l hl0 d ob x (mc_ + 1) tw xs xp _ hw) q534 q536 qs9 q107 q537 rfl rfl (by decide +kernel) ⟨Nat.le_of_ble_eq_true rfl, Nat.le_of_ble_eq_true rfl⟩ hH [0, 1, 2] rfl rfl rfl 0 0 rfl rfl rfl hl.1 (Nat.le_of_ble_eq_true rfl) dJ10_add_20 ⟨(by first | exact Nat.le_of_ble_eq_true rfl | omega | (dsimp only; omega)), (by first | exact Nat.le_of_ble_eq_true rfl | omega | (dsimp only; omega))⟩ (fun v w1 H locs hq hH => ?_)
  obtain ⟨q_5, q_6, n_7, n_8, rfl, rfl, hw⟩ := hq
  have hH : g_HS d A s [[(ob, .inr (11, [.int (mc_ + 1), .ref q_5, .int n_8]))], [(q_5, .inl (d.2.1 6, q_6, .inr (.inr (.inr (.inr n_7)))))], tw, [(x, .inr (5, [.int xs, va_rf xp]))]] H locs := hH
  refine W.eq (g2 := (F0 m 23 ls [])) rfl ?_
  refine W.widen (k := 1) (n := 22) (by first | exact Nat.le_of_ble_eq_true rfl | omega | (dsimp only; omega)) (by first | exact Nat.le_of_ble_eq_true rfl | omega | (dsimp only; omega)) ?_
  refine lv_iconst (v := 1) hF.1.1 hF.1.2.1 dJ10_add_23 (by decide) ?_
  exact g_zret hF rfl hH ⟨1, q_5, q_6, n_7, n_8, (mc_ + 1), rfl, rfl, hw⟩ dJ10_add_24

def wp_J10_add_2_OI (x : Nat) (sz : Int32) (mc_ : Int32) (ef : Nat → Option Nat) (cap : Nat) (tw : va_W) (Q : Nat → (Nat → Option Nat) → Int32 → Prop) : Prop := ((¬ sz = (nI cap) → (vp_in sz cap ∧ (Q cap (va_up ef sz.toNatClampNeg (some x)) (sz + 1)))) ∧ (sz = (nI cap) → (wp_J10_grow_O mc_ sz ef cap tw (fun q_10 n_11 => (vp_in sz q_10 ∧ (Q q_10 (va_up n_11 sz.toNatClampNeg (some x)) (sz + 1)))))))
set_option maxHeartbeats 4000000 in
set_option maxRecDepth 100000 in
theorem met_J10_add_2_OI (l : Launch) (hl0 : l.stackTraces = false) (d : g_D) (ob : Nat) (x : Nat) (ed : Nat) (sz : Int32) (mc_ : Int32) (ef : Nat → Option Nat) (cap : Nat) (tw : va_W) (xs : Int32) (xp : Option Nat) (xk : Nat) (xc : Nat) (Q : Nat → (Nat → Option Nat) → Int32 → Prop) (hw : wp_J10_add_2_OI x sz mc_ ef cap tw Q) : g_Met l d yJ10_add_2 cJ10_add_2 4 none ({ frames := 5, cells := 1, slots := 22, locals := 119 } : Room) [.ref ob, .ref x, .ref ed, .int sz] [[(ob, .inr (11, [.int mc_, .ref ed, .int sz]))], [(ed, .inl (d.2.1 6, cap, .inr (.inr (.inr (.inr ef)))))], tw, [(x, .inr (6, [.int xs, va_rf xp, .ref (d.2.2 xk), .ref xc]))]] 1 22 (fun v w1 => ∃ (ed2 : Nat) (cap2 : Nat) (ef2 : Nat → Option Nat) (sz2 : Int32), v = none ∧ w1 = [[(ob, .inr (11, [.int mc_, .ref ed2, .int sz2]))], [(ed2, .inl (d.2.1 6, cap2, .inr (.inr (.inr (.inr ef2)))))], tw, [(x, .inr (6, [.int xs, va_rf xp, .ref (d.2.2 xk), .ref xc]))]] ∧ Q cap2 ef2 sz2) := by
  refine g_enter (by decide) (Nat.le_of_ble_eq_true rfl) ?_
  intro p e s m args below meth c A ls hF hH hl hin
  have hF : g_F p m c cJ10_add_2 4 s args RJ10 meth none := hF
  have hl : lv_has ls 4 [(0, .ref ob), (1, .ref x), (2, .ref ed), (3, .int sz)] := hl
  unfold wp_J10_add_2_OI at hw
  refine lv_iload_n hF.1.1 hF.1.2.1 dJ10_add_2_0 rfl (lv_at hl 3 rfl) ?_
  refine lv_aload_n hF.1.1 hF.1.2.1 dJ10_add_2_1 rfl (lv_at hl 2 rfl) ?_
  refine g_alen (v := (nI cap)) (ty := .object "java/lang/Object") hF hH 1 0 6 rfl rfl rfl rfl dJ10_add_2_2 ?_
  refine lv_icmp_ne (tgt := 11) hF.1.1 hF.1.2.1 dJ10_add_2_3 (by decide) (fun c_7 => ?_) (fun c_7 => ?_)
  · have hw := hw.1 c_7
    refine lv_aload_n hF.1.1 hF.1.2.1 dJ10_add_2_11 rfl (lv_at hl 2 rfl) ?_
    refine lv_iload_n hF.1.1 hF.1.2.1 dJ10_add_2_12 rfl (lv_at hl 3 rfl) ?_
    refine lv_aload_n hF.1.1 hF.1.2.1 dJ10_add_2_13 rfl (lv_at hl 1 rfl) ?_
    obtain ⟨hi_8, hw⟩ := hw
    refine g_aast (cs' := [[(ob, .inr (11, [.int mc_, .ref ed, .int sz]))], [(ed, .inl (d.2.1 6, cap, .inr (.inr (.inr (.inr (va_up ef sz.toNatClampNeg (some x)))))))], tw, [(x, .inr (6, [.int xs, va_rf xp, .ref (d.2.2 xk), .ref xc]))]]) (ch' := [(ed, .inl (d.2.1 6, cap, .inr (.inr (.inr (.inr (va_up ef sz.toNatClampNeg (some x)))))))]) hF hH 1 0 rfl rfl (g_anyc hH 3 0 rfl rfl rfl q1860) hi_8 dJ10_add_2_14 rfl rfl (fun H locs hH => ?_)
    refine lv_aload_n hF.1.1 hF.1.2.1 dJ10_add_2_15 rfl (lv_at hl 0 rfl) ?_
    refine lv_iload_n hF.1.1 hF.1.2.1 dJ10_add_2_16 rfl (lv_at hl 3 rfl) ?_
    refine lv_iconst (v := 1) hF.1.1 hF.1.2.1 dJ10_add_2_17 (by decide) ?_
    refine lv_iadd hF.1.1 hF.1.2.1 dJ10_add_2_18 ?_
    refine g_put (cs' := [[(ob, .inr (11, [.int mc_, .ref ed, .int (sz + 1)]))], [(ed, .inl (d.2.1 6, cap, .inr (.inr (.inr (.inr (va_up ef sz.toNatClampNeg (some x)))))))], tw, [(x, .inr (6, [.int xs, va_rf xp, .ref (d.2.2 xk), .ref xc]))]]) (ch' := [(ob, .inr (11, [.int mc_, .ref ed, .int (sz + 1)]))]) (ty := .int) hF hH in_J10 rfl tyJ10 tyJ10_ok nmJ10 0 0 rfl rfl 2 (by decide) q429 (fun _ h9 => h9) rfl (by decide +kernel) rfl rfl (Nat.le_of_ble_eq_true rfl) dJ10_add_2_19 rfl rfl (fun H locs hH => ?_)
    refine W.widen (k := 1) (n := 22) (by first | exact Nat.le_of_ble_eq_true rfl | omega | (dsimp only; omega)) (by first | exact Nat.le_of_ble_eq_true rfl | omega | (dsimp only; omega)) ?_
    exact g_vret hF hH ⟨ed, cap, (va_up ef sz.toNatClampNeg (some x)), (sz + 1), rfl, rfl, hw⟩ dJ10_add_2_22
  · have hw := hw.2 c_7
    refine lv_aload_n hF.1.1 hF.1.2.1 dJ10_add_2_6 rfl (lv_at hl 0 rfl) ?_
    refine g_cV [] 0 rfl hF (met_J10_grow_O l hl0 d ob mc_ ed sz ef cap tw _ hw) q538 q540 qs10 q107 q541 rfl rfl (by decide +kernel) ⟨Nat.le_of_ble_eq_true rfl, Nat.le_of_ble_eq_true rfl⟩ hH [0, 1, 2] rfl rfl rfl 0 0 rfl rfl rfl hl.1 (Nat.le_of_ble_eq_true rfl) dJ10_add_2_7 ⟨(by first | exact Nat.le_of_ble_eq_true rfl | omega | (dsimp only; omega)), (by first | exact Nat.le_of_ble_eq_true rfl | omega | (dsimp only; omega))⟩ (fun v w1 H locs hq hH => ?_)
    obtain ⟨q_9, q_10, n_11, rfl, rfl, hw⟩ := hq
    have hH : g_HS d A s [[(x, .inr (6, [.int xs, va_rf xp, .ref (d.2.2 xk), .ref xc]))], [(ob, .inr (11, [.int mc_, .ref q_9, .int sz]))], tw, [(q_9, .inl (d.2.1 6, q_10, .inr (.inr (.inr (.inr n_11)))))]] H locs := hH
    refine W.eq (g2 := (F0 m 10 ls [.ref q_9])) rfl ?_
    refine W.widen (k := 1) (n := 22) (by first | exact Nat.le_of_ble_eq_true rfl | omega | (dsimp only; omega)) (by first | exact Nat.le_of_ble_eq_true rfl | omega | (dsimp only; omega)) ?_
    refine lv_astore_n (lv' := [(2, .ref q_9), (0, .ref ob), (1, .ref x), (3, .int sz)]) hF.1.1 hF.1.2.1 dJ10_add_2_10 rfl hl (by decide) rfl (fun ls hl => ?_)
    refine lv_aload_n hF.1.1 hF.1.2.1 dJ10_add_2_11 rfl (lv_at hl 0 rfl) ?_
    refine lv_iload_n hF.1.1 hF.1.2.1 dJ10_add_2_12 rfl (lv_at hl 3 rfl) ?_
    refine lv_aload_n hF.1.1 hF.1.2.1 dJ10_add_2_13 rfl (lv_at hl 2 rfl) ?_
    obtain ⟨hi_12, hw⟩ := hw
    refine g_aast (cs' := [[(x, .inr (6, [.int xs, va_rf xp, .ref (d.2.2 xk), .ref xc]))], [(ob, .inr (11, [.int mc_, .ref q_9, .int sz]))], tw, [(q_9, .inl (d.2.1 6, q_10, .inr (.inr (.inr (.inr (va_up n_11 sz.toNatClampNeg (some x)))))))]]) (ch' := [(q_9, .inl (d.2.1 6, q_10, .inr (.inr (.inr (.inr (va_up n_11 sz.toNatClampNeg (some x)))))))]) hF hH 3 0 rfl rfl (g_anyc hH 0 0 rfl rfl rfl q1860) hi_12 dJ10_add_2_14 rfl rfl (fun H locs hH => ?_)
    refine lv_aload_n hF.1.1 hF.1.2.1 dJ10_add_2_15 rfl (lv_at hl 1 rfl) ?_
    refine lv_iload_n hF.1.1 hF.1.2.1 dJ10_add_2_16 rfl (lv_at hl 3 rfl) ?_
    refine lv_iconst (v := 1) hF.1.1 hF.1.2.1 dJ10_add_2_17 (by decide) ?_
    refine lv_iadd hF.1.1 hF.1.2.1 dJ10_add_2_18 ?_
    refine g_put (cs' := [[(x, .inr (6, [.int xs, va_rf xp, .ref (d.2.2 xk), .ref xc]))], [(ob, .inr (11, [.int mc_, .ref q_9, .int (sz + 1)]))], tw, [(q_9, .inl (d.2.1 6, q_10, .inr (.inr (.inr (.inr (va_up n_11 sz.toNatClampNeg (some x)))))))]]) (ch' := [(ob, .inr (11, [.int mc_, .ref q_9, .int (sz + 1)]))]) (ty := .int) hF hH in_J10 rfl tyJ10 tyJ10_ok nmJ10 1 0 rfl rfl 2 (by decide) q429 (fun _ h9 => h9) rfl (by decide +kernel) rfl rfl (Nat.le_of_ble_eq_true rfl) dJ10_add_2_19 rfl rfl (fun H locs hH => ?_)
    have hH := hH.sub (cs' := [[(ob, .inr (11, [.int mc_, .ref q_9, .int (sz + 1)]))], [(q_9, .inl (d.2.1 6, q_10, .inr (.inr (.inr (.inr (va_up n_11 sz.toNatClampNeg (some x)))))))], tw, [(x, .inr (6, [.int xs, va_rf xp, .ref (d.2.2 xk), .ref xc]))]]) [1, 3, 2, 0] rfl rfl
    exact g_vret hF hH ⟨q_9, q_10, (va_up n_11 sz.toNatClampNeg (some x)), (sz + 1), rfl, rfl, hw⟩ dJ10_add_2_22

def wp_J10_add_2_EI (x : Nat) (mc_ : Int32) (tw : va_W) (Q : Nat → (Nat → Option Nat) → Int32 → Prop) : Prop := (wp_J10_grow_E mc_ (fun q_6 n_7 => (vp_in (0 : Int32) q_6 ∧ (Q q_6 (va_up n_7 (0 : Int32).toNatClampNeg (some x)) ((0 : Int32) + 1)))))
set_option maxHeartbeats 4000000 in
set_option maxRecDepth 100000 in
theorem met_J10_add_2_EI (l : Launch) (hl0 : l.stackTraces = false) (d : g_D) (ob : Nat) (x : Nat) (mc_ : Int32) (tw : va_W) (xs : Int32) (xp : Option Nat) (xk : Nat) (xc : Nat) (Q : Nat → (Nat → Option Nat) → Int32 → Prop) (hw : wp_J10_add_2_EI x mc_ tw Q) : g_Met l d yJ10_add_2 cJ10_add_2 4 none ({ frames := 5, cells := 1, slots := 22, locals := 119 } : Room) [.ref ob, .ref x, .ref (d.2.2 4), .int 0] [[(ob, .inr (11, [.int mc_, .ref (d.2.2 4), .int 0]))], tw, [(x, .inr (6, [.int xs, va_rf xp, .ref (d.2.2 xk), .ref xc]))]] 1 22 (fun v w1 => ∃ (ed2 : Nat) (cap2 : Nat) (ef2 : Nat → Option Nat) (sz2 : Int32), v = none ∧ w1 = [[(ob, .inr (11, [.int mc_, .ref ed2, .int sz2]))], [(ed2, .inl (d.2.1 6, cap2, .inr (.inr (.inr (.inr ef2)))))], tw, [(x, .inr (6, [.int xs, va_rf xp, .ref (d.2.2 xk), .ref xc]))]] ∧ Q cap2 ef2 sz2) := by
  refine g_enter (by decide) (Nat.le_of_ble_eq_true rfl) ?_
  intro p e s m args below meth c A ls hF hH hl hin
  have hF : g_F p m c cJ10_add_2 4 s args RJ10 meth none := hF
  have hl : lv_has ls 4 [(0, .ref ob), (1, .ref x), (2, .ref (d.2.2 4)), (3, .int 0)] := hl
  unfold wp_J10_add_2_EI at hw
  refine lv_iload_n hF.1.1 hF.1.2.1 dJ10_add_2_0 rfl (lv_at hl 3 rfl) ?_
  refine lv_aload_n hF.1.1 hF.1.2.1 dJ10_add_2_1 rfl (lv_at hl 2 rfl) ?_
  refine g_tlen hF hH dJ10_add_2_2 ?_
  refine lv_icmp_ne (tgt := 11) hF.1.1 hF.1.2.1 dJ10_add_2_3 (by decide) (fun z => absurd z (by decide)) (fun _ => ?_)
  refine lv_aload_n hF.1.1 hF.1.2.1 dJ10_add_2_6 rfl (lv_at hl 0 rfl) ?_
  refine g_cV [] 0 rfl hF (met_J10_grow_E l hl0 d ob mc_ _ hw) q538 q540 qs10 q107 q541 rfl rfl (by decide +kernel) ⟨Nat.le_of_ble_eq_true rfl, Nat.le_of_ble_eq_true rfl⟩ hH [0] rfl rfl rfl 0 0 rfl rfl rfl hl.1 (Nat.le_of_ble_eq_true rfl) dJ10_add_2_7 ⟨(by first | exact Nat.le_of_ble_eq_true rfl | omega | (dsimp only; omega)), (by first | exact Nat.le_of_ble_eq_true rfl | omega | (dsimp only; omega))⟩ (fun v w1 H locs hq hH => ?_)
  obtain ⟨q_5, q_6, n_7, rfl, rfl, hw⟩ := hq
  have hH : g_HS d A s [tw, [(x, .inr (6, [.int xs, va_rf xp, .ref (d.2.2 xk), .ref xc]))], [(ob, .inr (11, [.int mc_, .ref q_5, .int 0]))], [(q_5, .inl (d.2.1 6, q_6, .inr (.inr (.inr (.inr n_7)))))]] H locs := hH
  refine W.eq (g2 := (F0 m 10 ls [.ref q_5])) rfl ?_
  refine W.widen (k := 1) (n := 22) (by first | exact Nat.le_of_ble_eq_true rfl | omega | (dsimp only; omega)) (by first | exact Nat.le_of_ble_eq_true rfl | omega | (dsimp only; omega)) ?_
  refine lv_astore_n (lv' := [(2, .ref q_5), (0, .ref ob), (1, .ref x), (3, .int 0)]) hF.1.1 hF.1.2.1 dJ10_add_2_10 rfl hl (by decide) rfl (fun ls hl => ?_)
  refine lv_aload_n hF.1.1 hF.1.2.1 dJ10_add_2_11 rfl (lv_at hl 0 rfl) ?_
  refine lv_iload_n hF.1.1 hF.1.2.1 dJ10_add_2_12 rfl (lv_at hl 3 rfl) ?_
  refine lv_aload_n hF.1.1 hF.1.2.1 dJ10_add_2_13 rfl (lv_at hl 2 rfl) ?_
  obtain ⟨hi_8, hw⟩ := hw
  refine g_aast (cs' := [tw, [(x, .inr (6, [.int xs, va_rf xp, .ref (d.2.2 xk), .ref xc]))], [(ob, .inr (11, [.int mc_, .ref q_5, .int 0]))], [(q_5, .inl (d.2.1 6, q_6, .inr (.inr (.inr (.inr (va_up n_7 (0 : Int32).toNatClampNeg (some x)))))))]]) (ch' := [(q_5, .inl (d.2.1 6, q_6, .inr (.inr (.inr (.inr (va_up n_7 (0 : Int32).toNatClampNeg (some x)))))))]) hF hH 3 0 rfl rfl (g_anyc hH 1 0 rfl rfl rfl q1860) hi_8 dJ10_add_2_14 rfl rfl (fun H locs hH => ?_)
  refine lv_aload_n hF.1.1 hF.1.2.1 dJ10_add_2_15 rfl (lv_at hl 1 rfl) ?_
  refine lv_iload_n hF.1.1 hF.1.2.1 dJ10_add_2_16 rfl (lv_at hl 3 rfl) ?_
  refine lv_iconst (v := 1) hF.1.1 hF.1.2.1 dJ10_add_2_17 (by decide) ?_
  refine lv_iadd hF.1.1 hF.1.2.1 dJ10_add_2_18 ?_
  refine g_put (cs' := [tw, [(x, .inr (6, [.int xs, va_rf xp, .ref (d.2.2 xk), .ref xc]))], [(ob, .inr (11, [.int mc_, .ref q_5, .int ((0 : Int32) + 1)]))], [(q_5, .inl (d.2.1 6, q_6, .inr (.inr (.inr (.inr (va_up n_7 (0 : Int32).toNatClampNeg (some x)))))))]]) (ch' := [(ob, .inr (11, [.int mc_, .ref q_5, .int ((0 : Int32) + 1)]))]) (ty := .int) hF hH in_J10 rfl tyJ10 tyJ10_ok nmJ10 2 0 rfl rfl 2 (by decide) q429 (fun _ h9 => h9) rfl (by decide +kernel) rfl rfl (Nat.le_of_ble_eq_true rfl) dJ10_add_2_19 rfl rfl (fun H locs hH => ?_)
  have hH := hH.sub (cs' := [[(ob, .inr (11, [.int mc_, .ref q_5, .int ((0 : Int32) + 1)]))], [(q_5, .inl (d.2.1 6, q_6, .inr (.inr (.inr (.inr (va_up n_7 (0 : Int32).toNatClampNeg (some x)))))))], tw, [(x, .inr (6, [.int xs, va_rf xp, .ref (d.2.2 xk), .ref xc]))]]) [2, 3, 0, 1] rfl rfl
  exact g_vret hF hH ⟨q_5, q_6, (va_up n_7 (0 : Int32).toNatClampNeg (some x)), ((0 : Int32) + 1), rfl, rfl, hw⟩ dJ10_add_2_22

def wp_J10_add_OI (x : Nat) (mc_ : Int32) (sz : Int32) (ef : Nat → Option Nat) (cap : Nat) (tw : va_W) (Q : Int32 → Nat → (Nat → Option Nat) → Int32 → Int32 → Prop) : Prop := (wp_J10_add_2_OI x sz (mc_ + 1) ef cap tw (fun q_6 n_7 n_8 => (Q 1 q_6 n_7 n_8 (mc_ + 1))))
set_option maxHeartbeats 4000000 in
set_option maxRecDepth 100000 in
theorem met_J10_add_OI (l : Launch) (hl0 : l.stackTraces = false) (d : g_D) (ob : Nat) (x : Nat) (mc_ : Int32) (ed : Nat) (sz : Int32) (ef : Nat → Option Nat) (cap : Nat) (tw : va_W) (xs : Int32) (xp : Option Nat) (xk : Nat) (xc : Nat) (Q : Int32 → Nat → (Nat → Option Nat) → Int32 → Int32 → Prop) (hw : wp_J10_add_OI x mc_ sz ef cap tw Q) : g_Met l d yJ10_add cJ10_add 2 (Option.some FieldType.boolean) ({ frames := 6, cells := 1, slots := 22, locals := 142 } : Room) [.ref ob, .ref x] [[(ob, .inr (11, [.int mc_, .ref ed, .int sz]))], [(ed, .inl (d.2.1 6, cap, .inr (.inr (.inr (.inr ef)))))], tw, [(x, .inr (6, [.int xs, va_rf xp, .ref (d.2.2 xk), .ref xc]))]] 1 22 (fun v w1 => ∃ (r : Int32) (ed2 : Nat) (cap2 : Nat) (ef2 : Nat → Option Nat) (sz2 : Int32) (mc2 : Int32), v = some (.int r) ∧ w1 = [[(ob, .inr (11, [.int mc2, .ref ed2, .int sz2]))], [(ed2, .inl (d.2.1 6, cap2, .inr (.inr (.inr (.inr ef2)))))], tw, [(x, .inr (6, [.int xs, va_rf xp, .ref (d.2.2 xk), .ref xc]))]] ∧ Q r cap2 ef2 sz2 mc2) := by
  refine g_enter (by decide) (Nat.le_of_ble_eq_true rfl) ?_
  intro p e s m args below meth c A ls hF hH hl hin
  have hF : g_F p m c cJ10_add 2 s args RJ10 meth (Option.some FieldType.boolean) := hF
  have hl : lv_has ls 2 [(0, .ref ob), (1, .ref x)] := hl
  unfold wp_J10_add_OI at hw
  refine lv_aload_n hF.1.1 hF.1.2.1 dJ10_add_0 rfl (lv_at hl 0 rfl) ?_
  refine lv_dup hF.1.1 hF.1.2.1 dJ10_add_1 rfl ?_
  refine g_get (v := .int mc_) hF hH in_J10 rfl 0 0 rfl rfl 0 (by decide) q433 (u_same (hF.1.2.2.2.2 _ q432)) rfl dJ10_add_2 ?_
  refine lv_iconst (v := 1) hF.1.1 hF.1.2.1 dJ10_add_5 (by decide) ?_
  refine lv_iadd hF.1.1 hF.1.2.1 dJ10_add_6 ?_
  refine g_put (cs' := [[(ob, .inr (11, [.int (mc_ + 1), .ref ed, .int sz]))], [(ed, .inl (d.2.1 6, cap, .inr (.inr (.inr (.inr ef)))))], tw, [(x, .inr (6, [.int xs, va_rf xp, .ref (d.2.2 xk), .ref xc]))]]) (ch' := [(ob, .inr (11, [.int (mc_ + 1), .ref ed, .int sz]))]) (ty := .int) hF hH in_J10 rfl tyJ10 tyJ10_ok nmJ10 0 0 rfl rfl 0 (by decide) q433 (u_same (hF.1.2.2.2.2 _ q432)) rfl (by decide +kernel) rfl rfl (Nat.le_of_ble_eq_true rfl) dJ10_add_7 rfl rfl (fun H locs hH => ?_)
  refine lv_aload_n hF.1.1 hF.1.2.1 dJ10_add_10 rfl (lv_at hl 0 rfl) ?_
  refine lv_aload_n hF.1.1 hF.1.2.1 dJ10_add_11 rfl (lv_at hl 1 rfl) ?_
  refine lv_aload_n hF.1.1 hF.1.2.1 dJ10_add_12 rfl (lv_at hl 0 rfl) ?_
  refine g_get (v := .ref ed) hF hH in_J10 rfl 0 0 rfl rfl 1 (by decide) q426 (fun _ h9 => h9) rfl dJ10_add_13 ?_
  refine lv_aload_n hF.1.1 hF.1.2.1 dJ10_add_16 rfl (lv_at hl 0 rfl) ?_
  refine g_get (v := .int sz) hF hH in_J10 rfl 0 0 rfl rfl 2 (by decide) q429 (fun _ h9 => h9) rfl dJ10_add_17 ?_
  refine g_cV [.ref x, .ref ed, .int sz] 3 rfl hF (met_J10_add_2_OI l hl0 d ob x ed sz (mc_ + 1) ef cap tw xs xp xk xc _ hw) q534 q536 qs9 q107 q537 rfl rfl (by decide +kernel) ⟨Nat.le_of_ble_eq_true rfl, Nat.le_of_ble_eq_true rfl⟩ hH [0, 1, 2, 3] rfl rfl rfl 0 0 rfl rfl rfl hl.1 (Nat.le_of_ble_eq_true rfl) dJ10_add_20 ⟨(by first | exact Nat.le_of_ble_eq_true rfl | omega | (dsimp only; omega)), (by first | exact Nat.le_of_ble_eq_true rfl | omega | (dsimp only; omega))⟩ (fun v w1 H locs hq hH => ?_)
  obtain ⟨q_5, q_6, n_7, n_8, rfl, rfl, hw⟩ := hq
  have hH : g_HS d A s [[(ob, .inr (11, [.int (mc_ + 1), .ref q_5, .int n_8]))], [(q_5, .inl (d.2.1 6, q_6, .inr (.inr (.inr (.inr n_7)))))], tw, [(x, .inr (6, [.int xs, va_rf xp, .ref (d.2.2 xk), .ref xc]))]] H locs := hH
  refine W.eq (g2 := (F0 m 23 ls [])) rfl ?_
  refine W.widen (k := 1) (n := 22) (by first | exact Nat.le_of_ble_eq_true rfl | omega | (dsimp only; omega)) (by first | exact Nat.le_of_ble_eq_true rfl | omega | (dsimp only; omega)) ?_
  refine lv_iconst (v := 1) hF.1.1 hF.1.2.1 dJ10_add_23 (by decide) ?_
  exact g_zret hF rfl hH ⟨1, q_5, q_6, n_7, n_8, (mc_ + 1), rfl, rfl, hw⟩ dJ10_add_24

def wp_J10_add_EI (x : Nat) (mc_ : Int32) (tw : va_W) (Q : Int32 → Nat → (Nat → Option Nat) → Int32 → Int32 → Prop) : Prop := (wp_J10_add_2_EI x (mc_ + 1) tw (fun q_6 n_7 n_8 => (Q 1 q_6 n_7 n_8 (mc_ + 1))))
set_option maxHeartbeats 4000000 in
set_option maxRecDepth 100000 in
theorem met_J10_add_EI (l : Launch) (hl0 : l.stackTraces = false) (d : g_D) (ob : Nat) (x : Nat) (mc_ : Int32) (tw : va_W) (xs : Int32) (xp : Option Nat) (xk : Nat) (xc : Nat) (Q : Int32 → Nat → (Nat → Option Nat) → Int32 → Int32 → Prop) (hw : wp_J10_add_EI x mc_ tw Q) : g_Met l d yJ10_add cJ10_add 2 (Option.some FieldType.boolean) ({ frames := 6, cells := 1, slots := 22, locals := 142 } : Room) [.ref ob, .ref x] [[(ob, .inr (11, [.int mc_, .ref (d.2.2 4), .int 0]))], tw, [(x, .inr (6, [.int xs, va_rf xp, .ref (d.2.2 xk), .ref xc]))]] 1 22 (fun v w1 => ∃ (r : Int32) (ed2 : Nat) (cap2 : Nat) (ef2 : Nat → Option Nat) (sz2 : Int32) (mc2 : Int32), v = some (.int r) ∧ w1 = [[(ob, .inr (11, [.int mc2, .ref ed2, .int sz2]))], [(ed2, .inl (d.2.1 6, cap2, .inr (.inr (.inr (.inr ef2)))))], tw, [(x, .inr (6, [.int xs, va_rf xp, .ref (d.2.2 xk), .ref xc]))]] ∧ Q r cap2 ef2 sz2 mc2) := by
  refine g_enter (by decide) (Nat.le_of_ble_eq_true rfl) ?_
  intro p e s m args below meth c A ls hF hH hl hin
  have hF : g_F p m c cJ10_add 2 s args RJ10 meth (Option.some FieldType.boolean) := hF
  have hl : lv_has ls 2 [(0, .ref ob), (1, .ref x)] := hl
  unfold wp_J10_add_EI at hw
  refine lv_aload_n hF.1.1 hF.1.2.1 dJ10_add_0 rfl (lv_at hl 0 rfl) ?_
  refine lv_dup hF.1.1 hF.1.2.1 dJ10_add_1 rfl ?_
  refine g_get (v := .int mc_) hF hH in_J10 rfl 0 0 rfl rfl 0 (by decide) q433 (u_same (hF.1.2.2.2.2 _ q432)) rfl dJ10_add_2 ?_
  refine lv_iconst (v := 1) hF.1.1 hF.1.2.1 dJ10_add_5 (by decide) ?_
  refine lv_iadd hF.1.1 hF.1.2.1 dJ10_add_6 ?_
  refine g_put (cs' := [[(ob, .inr (11, [.int (mc_ + 1), .ref (d.2.2 4), .int 0]))], tw, [(x, .inr (6, [.int xs, va_rf xp, .ref (d.2.2 xk), .ref xc]))]]) (ch' := [(ob, .inr (11, [.int (mc_ + 1), .ref (d.2.2 4), .int 0]))]) (ty := .int) hF hH in_J10 rfl tyJ10 tyJ10_ok nmJ10 0 0 rfl rfl 0 (by decide) q433 (u_same (hF.1.2.2.2.2 _ q432)) rfl (by decide +kernel) rfl rfl (Nat.le_of_ble_eq_true rfl) dJ10_add_7 rfl rfl (fun H locs hH => ?_)
  refine lv_aload_n hF.1.1 hF.1.2.1 dJ10_add_10 rfl (lv_at hl 0 rfl) ?_
  refine lv_aload_n hF.1.1 hF.1.2.1 dJ10_add_11 rfl (lv_at hl 1 rfl) ?_
  refine lv_aload_n hF.1.1 hF.1.2.1 dJ10_add_12 rfl (lv_at hl 0 rfl) ?_
  refine g_get (v := .ref (d.2.2 4)) hF hH in_J10 rfl 0 0 rfl rfl 1 (by decide) q426 (fun _ h9 => h9) rfl dJ10_add_13 ?_
  refine lv_aload_n hF.1.1 hF.1.2.1 dJ10_add_16 rfl (lv_at hl 0 rfl) ?_
  refine g_get (v := .int 0) hF hH in_J10 rfl 0 0 rfl rfl 2 (by decide) q429 (fun _ h9 => h9) rfl dJ10_add_17 ?_
  refine g_cV [.ref x, .ref (d.2.2 4), .int 0] 3 rfl hF (met_J10_add_2_EI l hl0 d ob x (mc_ + 1) tw xs xp xk xc _ hw) q534 q536 qs9 q107 q537 rfl rfl (by decide +kernel) ⟨Nat.le_of_ble_eq_true rfl, Nat.le_of_ble_eq_true rfl⟩ hH [0, 1, 2] rfl rfl rfl 0 0 rfl rfl rfl hl.1 (Nat.le_of_ble_eq_true rfl) dJ10_add_20 ⟨(by first | exact Nat.le_of_ble_eq_true rfl | omega | (dsimp only; omega)), (by first | exact Nat.le_of_ble_eq_true rfl | omega | (dsimp only; omega))⟩ (fun v w1 H locs hq hH => ?_)
  obtain ⟨q_5, q_6, n_7, n_8, rfl, rfl, hw⟩ := hq
  have hH : g_HS d A s [[(ob, .inr (11, [.int (mc_ + 1), .ref q_5, .int n_8]))], [(q_5, .inl (d.2.1 6, q_6, .inr (.inr (.inr (.inr n_7)))))], tw, [(x, .inr (6, [.int xs, va_rf xp, .ref (d.2.2 xk), .ref xc]))]] H locs := hH
  refine W.eq (g2 := (F0 m 23 ls [])) rfl ?_
  refine W.widen (k := 1) (n := 22) (by first | exact Nat.le_of_ble_eq_true rfl | omega | (dsimp only; omega)) (by first | exact Nat.le_of_ble_eq_true rfl | omega | (dsimp only; omega)) ?_
  refine lv_iconst (v := 1) hF.1.1 hF.1.2.1 dJ10_add_23 (by decide) ?_
  exact g_zret hF rfl hH ⟨1, q_5, q_6, n_7, n_8, (mc_ + 1), rfl, rfl, hw⟩ dJ10_add_24

def wb_J10_rangeCheckForAdd_12 (a1 : Int32) (mc_ : Int32) (sz : Int32) (Q : Prop) : Prop := False
def wp_J10_rangeCheckForAdd (a1 : Int32) (mc_ : Int32) (sz : Int32) (Q : Prop) : Prop := ((sz < a1 → (wb_J10_rangeCheckForAdd_12 a1 mc_ sz Q)) ∧ (¬ sz < a1 → ((0 ≤ a1 → Q) ∧ (¬ 0 ≤ a1 → (wb_J10_rangeCheckForAdd_12 a1 mc_ sz Q)))))
set_option maxHeartbeats 4000000 in
set_option maxRecDepth 100000 in
theorem met_J10_rangeCheckForAdd (l : Launch) (hl0 : l.stackTraces = false) (d : g_D) (ob : Nat) (a1 : Int32) (mc_ : Int32) (ed : Nat) (sz : Int32) (Q : Prop) (hw : wp_J10_rangeCheckForAdd a1 mc_ sz Q) : g_Met l d yJ10_rangeCheckForAdd cJ10_rangeCheckForAdd 2 none ({ frames := 0, cells := 0, slots := 0, locals := 0 } : Room) [.ref ob, .int a1] [[(ob, .inr (11, [.int mc_, .ref ed, .int sz]))]] 0 0 (fun v w1 => v = none ∧ w1 = [[(ob, .inr (11, [.int mc_, .ref ed, .int sz]))]] ∧ Q) := by
  refine g_enter (by decide) (Nat.le_of_ble_eq_true rfl) ?_
  intro p e s m args below meth c A ls hF hH hl hin
  have hF : g_F p m c cJ10_rangeCheckForAdd 2 s args RJ10 meth none := hF
  have hl : lv_has ls 2 [(0, .ref ob), (1, .int a1)] := hl
  have bk_12 : ∀ (H : Heap) (locs : List Loc) (ls : Array Slot), g_HS d A s [[(ob, .inr (11, [.int mc_, .ref ed, .int sz]))]] H locs → lv_has ls 2 [(0, .ref ob), (1, .int a1)] → wb_J10_rangeCheckForAdd_12 a1 mc_ sz Q → W p l e ({ frames := 0, cells := 0, slots := 0, locals := 0 } : Room) s m args below meth c H locs 0 0 (g_E d (fun v w1 => v = none ∧ w1 = [[(ob, .inr (11, [.int mc_, .ref ed, .int sz]))]] ∧ Q) A below args s 0 0) (F0 m 12 ls []) := by
    intro  H locs ls hH hl hw
    unfold wb_J10_rangeCheckForAdd_12 at hw
    exact hw.elim
  unfold wp_J10_rangeCheckForAdd at hw
  refine lv_iload_n hF.1.1 hF.1.2.1 dJ10_rangeCheckForAdd_0 rfl (lv_at hl 1 rfl) ?_
  refine lv_aload_n hF.1.1 hF.1.2.1 dJ10_rangeCheckForAdd_1 rfl (lv_at hl 0 rfl) ?_
  refine g_get (v := .int sz) hF hH in_J10 rfl 0 0 rfl rfl 2 (by decide) q429 (fun _ h9 => h9) rfl dJ10_rangeCheckForAdd_2 ?_
  refine lv_icmp_gt (tgt := 12) hF.1.1 hF.1.2.1 dJ10_rangeCheckForAdd_5 (by decide) (fun c_3 => ?_) (fun c_3 => ?_)
  · have hw := hw.1 c_3
    exact bk_12 _ _ _ hH hl hw
  · have hw := hw.2 c_3
    refine lv_iload_n hF.1.1 hF.1.2.1 dJ10_rangeCheckForAdd_8 rfl (lv_at hl 1 rfl) ?_
    refine lv_if_ge (tgt := 25) hF.1.1 hF.1.2.1 dJ10_rangeCheckForAdd_9 (by decide) (fun c_4 => ?_) (fun c_4 => ?_)
    · have hw := hw.1 c_4
      exact g_vret hF hH ⟨rfl, rfl, hw⟩ dJ10_rangeCheckForAdd_25
    · have hw := hw.2 c_4
      exact bk_12 _ _ _ hH hl hw

def wp_J10_add_3_OL (a1 : Int32) (x : Nat) (mc_ : Int32) (sz : Int32) (ef : Nat → Option Nat) (cap : Nat) (tw : va_W) (Q : Nat → (Nat → Option Nat) → Int32 → Int32 → Prop) : Prop := (wp_J10_rangeCheckForAdd a1 mc_ sz ((¬ sz = (nI cap) → (¬ a1 < 0 ∧ ¬ (a1 + 1) < 0 ∧ ¬ (sz - a1) < 0 ∧ a1.toNatClampNeg + (sz - a1).toNatClampNeg ≤ cap ∧ (a1 + 1).toNatClampNeg + (sz - a1).toNatClampNeg ≤ cap ∧ g_el tw ef ∧ (vp_in a1 cap ∧ (Q cap (va_up (va_cpy ef ef a1.toNatClampNeg (a1 + 1).toNatClampNeg (sz - a1).toNatClampNeg) a1.toNatClampNeg (some x)) (sz + 1) (mc_ + 1))))) ∧ (sz = (nI cap) → (wp_J10_grow_O (mc_ + 1) sz ef cap tw (fun q_28 n_29 => (¬ a1 < 0 ∧ ¬ (a1 + 1) < 0 ∧ ¬ (sz - a1) < 0 ∧ a1.toNatClampNeg + (sz - a1).toNatClampNeg ≤ q_28 ∧ (a1 + 1).toNatClampNeg + (sz - a1).toNatClampNeg ≤ q_28 ∧ g_el tw n_29 ∧ (vp_in a1 q_28 ∧ (Q q_28 (va_up (va_cpy n_29 n_29 a1.toNatClampNeg (a1 + 1).toNatClampNeg (sz - a1).toNatClampNeg) a1.toNatClampNeg (some x)) (sz + 1) (mc_ + 1)))))))))
set_option maxHeartbeats 4000000 in
set_option maxRecDepth 100000 in
theorem met_J10_add_3_OL (l : Launch) (hl0 : l.stackTraces = false) (d : g_D) (ob : Nat) (a1 : Int32) (x : Nat) (mc_ : Int32) (ed : Nat) (sz : Int32) (ef : Nat → Option Nat) (cap : Nat) (tw : va_W) (xs : Int32) (xp : Option Nat) (Q : Nat → (Nat → Option Nat) → Int32 → Int32 → Prop) (hw : wp_J10_add_3_OL a1 x mc_ sz ef cap tw Q) : g_Met l d yJ10_add_3 cJ10_add_3 5 none ({ frames := 5, cells := 1, slots := 22, locals := 119 } : Room) [.ref ob, .int a1, .ref x] [[(ob, .inr (11, [.int mc_, .ref ed, .int sz]))], [(ed, .inl (d.2.1 6, cap, .inr (.inr (.inr (.inr ef)))))], tw, [(x, .inr (5, [.int xs, va_rf xp]))]] 1 22 (fun v w1 => ∃ (ed2 : Nat) (cap2 : Nat) (ef2 : Nat → Option Nat) (sz2 : Int32) (mc2 : Int32), v = none ∧ w1 = [[(ob, .inr (11, [.int mc2, .ref ed2, .int sz2]))], [(ed2, .inl (d.2.1 6, cap2, .inr (.inr (.inr (.inr ef2)))))], tw, [(x, .inr (5, [.int xs, va_rf xp]))]] ∧ Q cap2 ef2 sz2 mc2) := by
  refine g_enter (by decide) (Nat.le_of_ble_eq_true rfl) ?_
  intro p e s m args below meth c A ls hF hH hl hin
  have hF : g_F p m c cJ10_add_3 5 s args RJ10 meth none := hF
  have hl : lv_has ls 5 [(0, .ref ob), (1, .int a1), (2, .ref x)] := hl
  unfold wp_J10_add_3_OL at hw
  refine lv_aload_n hF.1.1 hF.1.2.1 dJ10_add_3_0 rfl (lv_at hl 0 rfl) ?_
  refine lv_iload_n hF.1.1 hF.1.2.1 dJ10_add_3_1 rfl (lv_at hl 1 rfl) ?_
  refine g_cV [.int a1] 1 rfl hF (met_J10_rangeCheckForAdd l hl0 d ob a1 mc_ ed sz _ hw) q623 q625 qs13 q107 q626 rfl rfl (by decide +kernel) ⟨Nat.le_of_ble_eq_true rfl, Nat.le_of_ble_eq_true rfl⟩ hH [0] rfl rfl rfl 0 0 rfl rfl rfl hl.1 (Nat.le_of_ble_eq_true rfl) dJ10_add_3_2 ⟨(by first | exact Nat.le_of_ble_eq_true rfl | omega | (dsimp only; omega)), (by first | exact Nat.le_of_ble_eq_true rfl | omega | (dsimp only; omega))⟩ (fun v w1 H locs hq hH => ?_)
  obtain ⟨rfl, rfl, hw⟩ := hq
  have hH : g_HS d A s [[(ed, .inl (d.2.1 6, cap, .inr (.inr (.inr (.inr ef)))))], tw, [(x, .inr (5, [.int xs, va_rf xp]))], [(ob, .inr (11, [.int mc_, .ref ed, .int sz]))]] H locs := hH
  refine W.eq (g2 := (F0 m 5 ls [])) rfl ?_
  refine lv_aload_n hF.1.1 hF.1.2.1 dJ10_add_3_5 rfl (lv_at hl 0 rfl) ?_
  refine lv_dup hF.1.1 hF.1.2.1 dJ10_add_3_6 rfl ?_
  refine g_get (v := .int mc_) hF hH in_J10 rfl 3 0 rfl rfl 0 (by decide) q433 (u_same (hF.1.2.2.2.2 _ q432)) rfl dJ10_add_3_7 ?_
  refine lv_iconst (v := 1) hF.1.1 hF.1.2.1 dJ10_add_3_10 (by decide) ?_
  refine lv_iadd hF.1.1 hF.1.2.1 dJ10_add_3_11 ?_
  refine g_put (cs' := [[(ed, .inl (d.2.1 6, cap, .inr (.inr (.inr (.inr ef)))))], tw, [(x, .inr (5, [.int xs, va_rf xp]))], [(ob, .inr (11, [.int (mc_ + 1), .ref ed, .int sz]))]]) (ch' := [(ob, .inr (11, [.int (mc_ + 1), .ref ed, .int sz]))]) (ty := .int) hF hH in_J10 rfl tyJ10 tyJ10_ok nmJ10 3 0 rfl rfl 0 (by decide) q433 (u_same (hF.1.2.2.2.2 _ q432)) rfl (by decide +kernel) rfl rfl (Nat.le_of_ble_eq_true rfl) dJ10_add_3_12 rfl rfl (fun H locs hH => ?_)
  refine lv_aload_n hF.1.1 hF.1.2.1 dJ10_add_3_15 rfl (lv_at hl 0 rfl) ?_
  refine g_get (v := .int sz) hF hH in_J10 rfl 3 0 rfl rfl 2 (by decide) q429 (fun _ h9 => h9) rfl dJ10_add_3_16 ?_
  refine lv_dup hF.1.1 hF.1.2.1 dJ10_add_3_19 rfl ?_
  refine lv_istore_n (lv' := [(3, .int sz), (0, .ref ob), (1, .int a1), (2, .ref x)]) hF.1.1 hF.1.2.1 dJ10_add_3_20 rfl hl (by decide) rfl (fun ls hl => ?_)
  refine lv_aload_n hF.1.1 hF.1.2.1 dJ10_add_3_21 rfl (lv_at hl 1 rfl) ?_
  refine g_get (v := .ref ed) hF hH in_J10 rfl 3 0 rfl rfl 1 (by decide) q426 (fun _ h9 => h9) rfl dJ10_add_3_22 ?_
  refine lv_dup hF.1.1 hF.1.2.1 dJ10_add_3_25 rfl ?_
  refine lv_astore (lv' := [(4, .ref ed), (3, .int sz), (0, .ref ob), (1, .int a1), (2, .ref x)]) hF.1.1 hF.1.2.1 dJ10_add_3_26 hl (by decide) rfl (fun ls hl => ?_)
  refine g_alen (v := (nI cap)) (ty := .object "java/lang/Object") hF hH 0 0 6 rfl rfl rfl rfl dJ10_add_3_28 ?_
  refine lv_icmp_ne (tgt := 38) hF.1.1 hF.1.2.1 dJ10_add_3_29 (by decide) (fun c_19 => ?_) (fun c_19 => ?_)
  · have hw := hw.1 c_19
    refine lv_aload hF.1.1 hF.1.2.1 dJ10_add_3_38 (lv_at hl 0 rfl) ?_
    refine lv_iload_n hF.1.1 hF.1.2.1 dJ10_add_3_40 rfl (lv_at hl 3 rfl) ?_
    refine lv_aload hF.1.1 hF.1.2.1 dJ10_add_3_41 (lv_at hl 0 rfl) ?_
    refine lv_iload_n hF.1.1 hF.1.2.1 dJ10_add_3_43 rfl (lv_at hl 3 rfl) ?_
    refine lv_iconst (v := 1) hF.1.1 hF.1.2.1 dJ10_add_3_44 (by decide) ?_
    refine lv_iadd hF.1.1 hF.1.2.1 dJ10_add_3_45 ?_
    refine lv_iload_n hF.1.1 hF.1.2.1 dJ10_add_3_46 rfl (lv_at hl 1 rfl) ?_
    refine lv_iload_n hF.1.1 hF.1.2.1 dJ10_add_3_47 rfl (lv_at hl 3 rfl) ?_
    refine lv_isub hF.1.1 hF.1.2.1 dJ10_add_3_48 ?_
    obtain ⟨ha_20, ha_21, ha_22, ha_23, ha_24, he_25, hw⟩ := hw
    refine g_copyQ1 hF hH q627 hl.1 ha_20 ha_21 ha_22 ha_23 ha_24 (fun i9 hi9 y9 hy9 => g_anytw hH 1 rfl (he_25 _ _ hy9)) (Nat.le_of_ble_eq_true rfl) (Nat.le_of_ble_eq_true rfl) dJ10_add_3_49 (fun H locs hH => ?_)
    have hH : g_HS d A s [[(ed, .inl (d.2.1 6, cap, .inr (.inr (.inr (.inr (va_cpy ef ef a1.toNatClampNeg (a1 + 1).toNatClampNeg (sz - a1).toNatClampNeg))))))], tw, [(x, .inr (5, [.int xs, va_rf xp]))], [(ob, .inr (11, [.int (mc_ + 1), .ref ed, .int sz]))]] H _ := hH
    refine lv_aload hF.1.1 hF.1.2.1 dJ10_add_3_52 (lv_at hl 0 rfl) ?_
    refine lv_iload_n hF.1.1 hF.1.2.1 dJ10_add_3_54 rfl (lv_at hl 3 rfl) ?_
    refine lv_aload_n hF.1.1 hF.1.2.1 dJ10_add_3_55 rfl (lv_at hl 4 rfl) ?_
    obtain ⟨hi_26, hw⟩ := hw
    refine g_aast (cs' := [[(ed, .inl (d.2.1 6, cap, .inr (.inr (.inr (.inr (va_up (va_cpy ef ef a1.toNatClampNeg (a1 + 1).toNatClampNeg (sz - a1).toNatClampNeg) a1.toNatClampNeg (some x)))))))], tw, [(x, .inr (5, [.int xs, va_rf xp]))], [(ob, .inr (11, [.int (mc_ + 1), .ref ed, .int sz]))]]) (ch' := [(ed, .inl (d.2.1 6, cap, .inr (.inr (.inr (.inr (va_up (va_cpy ef ef a1.toNatClampNeg (a1 + 1).toNatClampNeg (sz - a1).toNatClampNeg) a1.toNatClampNeg (some x)))))))]) hF hH 0 0 rfl rfl (g_anyc hH 2 0 rfl rfl rfl q1859) hi_26 dJ10_add_3_56 rfl rfl (fun H locs hH => ?_)
    refine lv_aload_n hF.1.1 hF.1.2.1 dJ10_add_3_57 rfl (lv_at hl 2 rfl) ?_
    refine lv_iload_n hF.1.1 hF.1.2.1 dJ10_add_3_58 rfl (lv_at hl 1 rfl) ?_
    refine lv_iconst (v := 1) hF.1.1 hF.1.2.1 dJ10_add_3_59 (by decide) ?_
    refine lv_iadd hF.1.1 hF.1.2.1 dJ10_add_3_60 ?_
    refine g_put (cs' := [[(ed, .inl (d.2.1 6, cap, .inr (.inr (.inr (.inr (va_up (va_cpy ef ef a1.toNatClampNeg (a1 + 1).toNatClampNeg (sz - a1).toNatClampNeg) a1.toNatClampNeg (some x)))))))], tw, [(x, .inr (5, [.int xs, va_rf xp]))], [(ob, .inr (11, [.int (mc_ + 1), .ref ed, .int (sz + 1)]))]]) (ch' := [(ob, .inr (11, [.int (mc_ + 1), .ref ed, .int (sz + 1)]))]) (ty := .int) hF hH in_J10 rfl tyJ10 tyJ10_ok nmJ10 3 0 rfl rfl 2 (by decide) q429 (fun _ h9 => h9) rfl (by decide +kernel) rfl rfl (Nat.le_of_ble_eq_true rfl) dJ10_add_3_61 rfl rfl (fun H locs hH => ?_)
    refine W.widen (k := 1) (n := 22) (by first | exact Nat.le_of_ble_eq_true rfl | omega | (dsimp only; omega)) (by first | exact Nat.le_of_ble_eq_true rfl | omega | (dsimp only; omega)) ?_
    have hH := hH.sub (cs' := [[(ob, .inr (11, [.int (mc_ + 1), .ref ed, .int (sz + 1)]))], [(ed, .inl (d.2.1 6, cap, .inr (.inr (.inr (.inr (va_up (va_cpy ef ef a1.toNatClampNeg (a1 + 1).toNatClampNeg (sz - a1).toNatClampNeg) a1.toNatClampNeg (some x)))))))], tw, [(x, .inr (5, [.int xs, va_rf xp]))]]) [3, 0, 1, 2] rfl rfl
    exact g_vret hF hH ⟨ed, cap, (va_up (va_cpy ef ef a1.toNatClampNeg (a1 + 1).toNatClampNeg (sz - a1).toNatClampNeg) a1.toNatClampNeg (some x)), (sz + 1), (mc_ + 1), rfl, rfl, hw⟩ dJ10_add_3_64
  · have hw := hw.2 c_19
    refine lv_aload_n hF.1.1 hF.1.2.1 dJ10_add_3_32 rfl (lv_at hl 2 rfl) ?_
    refine g_cV [] 0 rfl hF (met_J10_grow_O l hl0 d ob (mc_ + 1) ed sz ef cap tw _ hw) q538 q540 qs10 q107 q541 rfl rfl (by decide +kernel) ⟨Nat.le_of_ble_eq_true rfl, Nat.le_of_ble_eq_true rfl⟩ hH [3, 0, 1] rfl rfl rfl 0 0 rfl rfl rfl hl.1 (Nat.le_of_ble_eq_true rfl) dJ10_add_3_33 ⟨(by first | exact Nat.le_of_ble_eq_true rfl | omega | (dsimp only; omega)), (by first | exact Nat.le_of_ble_eq_true rfl | omega | (dsimp only; omega))⟩ (fun v w1 H locs hq hH => ?_)
    obtain ⟨q_27, q_28, n_29, rfl, rfl, hw⟩ := hq
    have hH : g_HS d A s [[(x, .inr (5, [.int xs, va_rf xp]))], [(ob, .inr (11, [.int (mc_ + 1), .ref q_27, .int sz]))], tw, [(q_27, .inl (d.2.1 6, q_28, .inr (.inr (.inr (.inr n_29)))))]] H locs := hH
    refine W.eq (g2 := (F0 m 36 ls [.ref q_27])) rfl ?_
    refine W.widen (k := 1) (n := 22) (by first | exact Nat.le_of_ble_eq_true rfl | omega | (dsimp only; omega)) (by first | exact Nat.le_of_ble_eq_true rfl | omega | (dsimp only; omega)) ?_
    refine lv_astore (lv' := [(4, .ref q_27), (3, .int sz), (0, .ref ob), (1, .int a1), (2, .ref x)]) hF.1.1 hF.1.2.1 dJ10_add_3_36 hl (by decide) rfl (fun ls hl => ?_)
    refine lv_aload hF.1.1 hF.1.2.1 dJ10_add_3_38 (lv_at hl 0 rfl) ?_
    refine lv_iload_n hF.1.1 hF.1.2.1 dJ10_add_3_40 rfl (lv_at hl 3 rfl) ?_
    refine lv_aload hF.1.1 hF.1.2.1 dJ10_add_3_41 (lv_at hl 0 rfl) ?_
    refine lv_iload_n hF.1.1 hF.1.2.1 dJ10_add_3_43 rfl (lv_at hl 3 rfl) ?_
    refine lv_iconst (v := 1) hF.1.1 hF.1.2.1 dJ10_add_3_44 (by decide) ?_
    refine lv_iadd hF.1.1 hF.1.2.1 dJ10_add_3_45 ?_
    refine lv_iload_n hF.1.1 hF.1.2.1 dJ10_add_3_46 rfl (lv_at hl 1 rfl) ?_
    refine lv_iload_n hF.1.1 hF.1.2.1 dJ10_add_3_47 rfl (lv_at hl 3 rfl) ?_
    refine lv_isub hF.1.1 hF.1.2.1 dJ10_add_3_48 ?_
    have hH := hH.sub (cs' := [[(q_27, .inl (d.2.1 6, q_28, .inr (.inr (.inr (.inr n_29)))))], [(x, .inr (5, [.int xs, va_rf xp]))], [(ob, .inr (11, [.int (mc_ + 1), .ref q_27, .int sz]))], tw]) [3, 0, 1, 2] rfl rfl
    obtain ⟨ha_30, ha_31, ha_32, ha_33, ha_34, he_35, hw⟩ := hw
    refine g_copyQ1 hF hH q627 hl.1 ha_30 ha_31 ha_32 ha_33 ha_34 (fun i9 hi9 y9 hy9 => g_anytw hH 3 rfl (he_35 _ _ hy9)) (Nat.le_of_ble_eq_true rfl) (Nat.le_of_ble_eq_true rfl) dJ10_add_3_49 (fun H locs hH => ?_)
    have hH : g_HS d A s [[(q_27, .inl (d.2.1 6, q_28, .inr (.inr (.inr (.inr (va_cpy n_29 n_29 a1.toNatClampNeg (a1 + 1).toNatClampNeg (sz - a1).toNatClampNeg))))))], [(x, .inr (5, [.int xs, va_rf xp]))], [(ob, .inr (11, [.int (mc_ + 1), .ref q_27, .int sz]))], tw] H _ := hH
    refine lv_aload hF.1.1 hF.1.2.1 dJ10_add_3_52 (lv_at hl 0 rfl) ?_
    refine lv_iload_n hF.1.1 hF.1.2.1 dJ10_add_3_54 rfl (lv_at hl 3 rfl) ?_
    refine lv_aload_n hF.1.1 hF.1.2.1 dJ10_add_3_55 rfl (lv_at hl 4 rfl) ?_
    obtain ⟨hi_36, hw⟩ := hw
    refine g_aast (cs' := [[(q_27, .inl (d.2.1 6, q_28, .inr (.inr (.inr (.inr (va_up (va_cpy n_29 n_29 a1.toNatClampNeg (a1 + 1).toNatClampNeg (sz - a1).toNatClampNeg) a1.toNatClampNeg (some x)))))))], [(x, .inr (5, [.int xs, va_rf xp]))], [(ob, .inr (11, [.int (mc_ + 1), .ref q_27, .int sz]))], tw]) (ch' := [(q_27, .inl (d.2.1 6, q_28, .inr (.inr (.inr (.inr (va_up (va_cpy n_29 n_29 a1.toNatClampNeg (a1 + 1).toNatClampNeg (sz - a1).toNatClampNeg) a1.toNatClampNeg (some x)))))))]) hF hH 0 0 rfl rfl (g_anyc hH 1 0 rfl rfl rfl q1859) hi_36 dJ10_add_3_56 rfl rfl (fun H locs hH => ?_)
    refine lv_aload_n hF.1.1 hF.1.2.1 dJ10_add_3_57 rfl (lv_at hl 2 rfl) ?_
    refine lv_iload_n hF.1.1 hF.1.2.1 dJ10_add_3_58 rfl (lv_at hl 1 rfl) ?_
    refine lv_iconst (v := 1) hF.1.1 hF.1.2.1 dJ10_add_3_59 (by decide) ?_
    refine lv_iadd hF.1.1 hF.1.2.1 dJ10_add_3_60 ?_
    refine g_put (cs' := [[(q_27, .inl (d.2.1 6, q_28, .inr (.inr (.inr (.inr (va_up (va_cpy n_29 n_29 a1.toNatClampNeg (a1 + 1).toNatClampNeg (sz - a1).toNatClampNeg) a1.toNatClampNeg (some x)))))))], [(x, .inr (5, [.int xs, va_rf xp]))], [(ob, .inr (11, [.int (mc_ + 1), .ref q_27, .int (sz + 1)]))], tw]) (ch' := [(ob, .inr (11, [.int (mc_ + 1), .ref q_27, .int (sz + 1)]))]) (ty := .int) hF hH in_J10 rfl tyJ10 tyJ10_ok nmJ10 2 0 rfl rfl 2 (by decide) q429 (fun _ h9 => h9) rfl (by decide +kernel) rfl rfl (Nat.le_of_ble_eq_true rfl) dJ10_add_3_61 rfl rfl (fun H locs hH => ?_)
    have hH := hH.sub (cs' := [[(ob, .inr (11, [.int (mc_ + 1), .ref q_27, .int (sz + 1)]))], [(q_27, .inl (d.2.1 6, q_28, .inr (.inr (.inr (.inr (va_up (va_cpy n_29 n_29 a1.toNatClampNeg (a1 + 1).toNatClampNeg (sz - a1).toNatClampNeg) a1.toNatClampNeg (some x)))))))], tw, [(x, .inr (5, [.int xs, va_rf xp]))]]) [2, 0, 3, 1] rfl rfl
    exact g_vret hF hH ⟨q_27, q_28, (va_up (va_cpy n_29 n_29 a1.toNatClampNeg (a1 + 1).toNatClampNeg (sz - a1).toNatClampNeg) a1.toNatClampNeg (some x)), (sz + 1), (mc_ + 1), rfl, rfl, hw⟩ dJ10_add_3_64

def wp_J10_add_3_EL (a1 : Int32) (x : Nat) (mc_ : Int32) (tw : va_W) (Q : Nat → (Nat → Option Nat) → Int32 → Int32 → Prop) : Prop := (wp_J10_rangeCheckForAdd a1 mc_ 0 (wp_J10_grow_E (mc_ + 1) (fun q_12 n_13 => (¬ a1 < 0 ∧ ¬ (a1 + 1) < 0 ∧ ¬ (0 - a1) < 0 ∧ a1.toNatClampNeg + (0 - a1).toNatClampNeg ≤ q_12 ∧ (a1 + 1).toNatClampNeg + (0 - a1).toNatClampNeg ≤ q_12 ∧ g_el tw n_13 ∧ (vp_in a1 q_12 ∧ (Q q_12 (va_up (va_cpy n_13 n_13 a1.toNatClampNeg (a1 + 1).toNatClampNeg (0 - a1).toNatClampNeg) a1.toNatClampNeg (some x)) ((0 : Int32) + 1) (mc_ + 1)))))))
set_option maxHeartbeats 4000000 in
set_option maxRecDepth 100000 in
theorem met_J10_add_3_EL (l : Launch) (hl0 : l.stackTraces = false) (d : g_D) (ob : Nat) (a1 : Int32) (x : Nat) (mc_ : Int32) (tw : va_W) (xs : Int32) (xp : Option Nat) (Q : Nat → (Nat → Option Nat) → Int32 → Int32 → Prop) (hw : wp_J10_add_3_EL a1 x mc_ tw Q) : g_Met l d yJ10_add_3 cJ10_add_3 5 none ({ frames := 5, cells := 1, slots := 22, locals := 119 } : Room) [.ref ob, .int a1, .ref x] [[(ob, .inr (11, [.int mc_, .ref (d.2.2 4), .int 0]))], tw, [(x, .inr (5, [.int xs, va_rf xp]))]] 1 22 (fun v w1 => ∃ (ed2 : Nat) (cap2 : Nat) (ef2 : Nat → Option Nat) (sz2 : Int32) (mc2 : Int32), v = none ∧ w1 = [[(ob, .inr (11, [.int mc2, .ref ed2, .int sz2]))], [(ed2, .inl (d.2.1 6, cap2, .inr (.inr (.inr (.inr ef2)))))], tw, [(x, .inr (5, [.int xs, va_rf xp]))]] ∧ Q cap2 ef2 sz2 mc2) := by
  refine g_enter (by decide) (Nat.le_of_ble_eq_true rfl) ?_
  intro p e s m args below meth c A ls hF hH hl hin
  have hF : g_F p m c cJ10_add_3 5 s args RJ10 meth none := hF
  have hl : lv_has ls 5 [(0, .ref ob), (1, .int a1), (2, .ref x)] := hl
  unfold wp_J10_add_3_EL at hw
  refine lv_aload_n hF.1.1 hF.1.2.1 dJ10_add_3_0 rfl (lv_at hl 0 rfl) ?_
  refine lv_iload_n hF.1.1 hF.1.2.1 dJ10_add_3_1 rfl (lv_at hl 1 rfl) ?_
  refine g_cV [.int a1] 1 rfl hF (met_J10_rangeCheckForAdd l hl0 d ob a1 mc_ (d.2.2 4) 0 _ hw) q623 q625 qs13 q107 q626 rfl rfl (by decide +kernel) ⟨Nat.le_of_ble_eq_true rfl, Nat.le_of_ble_eq_true rfl⟩ hH [0] rfl rfl rfl 0 0 rfl rfl rfl hl.1 (Nat.le_of_ble_eq_true rfl) dJ10_add_3_2 ⟨(by first | exact Nat.le_of_ble_eq_true rfl | omega | (dsimp only; omega)), (by first | exact Nat.le_of_ble_eq_true rfl | omega | (dsimp only; omega))⟩ (fun v w1 H locs hq hH => ?_)
  obtain ⟨rfl, rfl, hw⟩ := hq
  have hH : g_HS d A s [tw, [(x, .inr (5, [.int xs, va_rf xp]))], [(ob, .inr (11, [.int mc_, .ref (d.2.2 4), .int 0]))]] H locs := hH
  refine W.eq (g2 := (F0 m 5 ls [])) rfl ?_
  refine lv_aload_n hF.1.1 hF.1.2.1 dJ10_add_3_5 rfl (lv_at hl 0 rfl) ?_
  refine lv_dup hF.1.1 hF.1.2.1 dJ10_add_3_6 rfl ?_
  refine g_get (v := .int mc_) hF hH in_J10 rfl 2 0 rfl rfl 0 (by decide) q433 (u_same (hF.1.2.2.2.2 _ q432)) rfl dJ10_add_3_7 ?_
  refine lv_iconst (v := 1) hF.1.1 hF.1.2.1 dJ10_add_3_10 (by decide) ?_
  refine lv_iadd hF.1.1 hF.1.2.1 dJ10_add_3_11 ?_
  refine g_put (cs' := [tw, [(x, .inr (5, [.int xs, va_rf xp]))], [(ob, .inr (11, [.int (mc_ + 1), .ref (d.2.2 4), .int 0]))]]) (ch' := [(ob, .inr (11, [.int (mc_ + 1), .ref (d.2.2 4), .int 0]))]) (ty := .int) hF hH in_J10 rfl tyJ10 tyJ10_ok nmJ10 2 0 rfl rfl 0 (by decide) q433 (u_same (hF.1.2.2.2.2 _ q432)) rfl (by decide +kernel) rfl rfl (Nat.le_of_ble_eq_true rfl) dJ10_add_3_12 rfl rfl (fun H locs hH => ?_)
  refine lv_aload_n hF.1.1 hF.1.2.1 dJ10_add_3_15 rfl (lv_at hl 0 rfl) ?_
  refine g_get (v := .int 0) hF hH in_J10 rfl 2 0 rfl rfl 2 (by decide) q429 (fun _ h9 => h9) rfl dJ10_add_3_16 ?_
  refine lv_dup hF.1.1 hF.1.2.1 dJ10_add_3_19 rfl ?_
  refine lv_istore_n (lv' := [(3, .int 0), (0, .ref ob), (1, .int a1), (2, .ref x)]) hF.1.1 hF.1.2.1 dJ10_add_3_20 rfl hl (by decide) rfl (fun ls hl => ?_)
  refine lv_aload_n hF.1.1 hF.1.2.1 dJ10_add_3_21 rfl (lv_at hl 1 rfl) ?_
  refine g_get (v := .ref (d.2.2 4)) hF hH in_J10 rfl 2 0 rfl rfl 1 (by decide) q426 (fun _ h9 => h9) rfl dJ10_add_3_22 ?_
  refine lv_dup hF.1.1 hF.1.2.1 dJ10_add_3_25 rfl ?_
  refine lv_astore (lv' := [(4, .ref (d.2.2 4)), (3, .int 0), (0, .ref ob), (1, .int a1), (2, .ref x)]) hF.1.1 hF.1.2.1 dJ10_add_3_26 hl (by decide) rfl (fun ls hl => ?_)
  refine g_tlen hF hH dJ10_add_3_28 ?_
  refine lv_icmp_ne (tgt := 38) hF.1.1 hF.1.2.1 dJ10_add_3_29 (by decide) (fun z => absurd z (by decide)) (fun _ => ?_)
  refine lv_aload_n hF.1.1 hF.1.2.1 dJ10_add_3_32 rfl (lv_at hl 2 rfl) ?_
  refine g_cV [] 0 rfl hF (met_J10_grow_E l hl0 d ob (mc_ + 1) _ hw) q538 q540 qs10 q107 q541 rfl rfl (by decide +kernel) ⟨Nat.le_of_ble_eq_true rfl, Nat.le_of_ble_eq_true rfl⟩ hH [2] rfl rfl rfl 0 0 rfl rfl rfl hl.1 (Nat.le_of_ble_eq_true rfl) dJ10_add_3_33 ⟨(by first | exact Nat.le_of_ble_eq_true rfl | omega | (dsimp only; omega)), (by first | exact Nat.le_of_ble_eq_true rfl | omega | (dsimp only; omega))⟩ (fun v w1 H locs hq hH => ?_)
  obtain ⟨q_11, q_12, n_13, rfl, rfl, hw⟩ := hq
  have hH : g_HS d A s [tw, [(x, .inr (5, [.int xs, va_rf xp]))], [(ob, .inr (11, [.int (mc_ + 1), .ref q_11, .int 0]))], [(q_11, .inl (d.2.1 6, q_12, .inr (.inr (.inr (.inr n_13)))))]] H locs := hH
  refine W.eq (g2 := (F0 m 36 ls [.ref q_11])) rfl ?_
  refine W.widen (k := 1) (n := 22) (by first | exact Nat.le_of_ble_eq_true rfl | omega | (dsimp only; omega)) (by first | exact Nat.le_of_ble_eq_true rfl | omega | (dsimp only; omega)) ?_
  refine lv_astore (lv' := [(4, .ref q_11), (3, .int 0), (0, .ref ob), (1, .int a1), (2, .ref x)]) hF.1.1 hF.1.2.1 dJ10_add_3_36 hl (by decide) rfl (fun ls hl => ?_)
  refine lv_aload hF.1.1 hF.1.2.1 dJ10_add_3_38 (lv_at hl 0 rfl) ?_
  refine lv_iload_n hF.1.1 hF.1.2.1 dJ10_add_3_40 rfl (lv_at hl 3 rfl) ?_
  refine lv_aload hF.1.1 hF.1.2.1 dJ10_add_3_41 (lv_at hl 0 rfl) ?_
  refine lv_iload_n hF.1.1 hF.1.2.1 dJ10_add_3_43 rfl (lv_at hl 3 rfl) ?_
  refine lv_iconst (v := 1) hF.1.1 hF.1.2.1 dJ10_add_3_44 (by decide) ?_
  refine lv_iadd hF.1.1 hF.1.2.1 dJ10_add_3_45 ?_
  refine lv_iload_n hF.1.1 hF.1.2.1 dJ10_add_3_46 rfl (lv_at hl 1 rfl) ?_
  refine lv_iload_n hF.1.1 hF.1.2.1 dJ10_add_3_47 rfl (lv_at hl 3 rfl) ?_
  refine lv_isub hF.1.1 hF.1.2.1 dJ10_add_3_48 ?_
  have hH := hH.sub (cs' := [[(q_11, .inl (d.2.1 6, q_12, .inr (.inr (.inr (.inr n_13)))))], tw, [(x, .inr (5, [.int xs, va_rf xp]))], [(ob, .inr (11, [.int (mc_ + 1), .ref q_11, .int 0]))]]) [3, 0, 1, 2] rfl rfl
  obtain ⟨ha_14, ha_15, ha_16, ha_17, ha_18, he_19, hw⟩ := hw
  refine g_copyQ1 hF hH q627 hl.1 ha_14 ha_15 ha_16 ha_17 ha_18 (fun i9 hi9 y9 hy9 => g_anytw hH 1 rfl (he_19 _ _ hy9)) (Nat.le_of_ble_eq_true rfl) (Nat.le_of_ble_eq_true rfl) dJ10_add_3_49 (fun H locs hH => ?_)
  have hH : g_HS d A s [[(q_11, .inl (d.2.1 6, q_12, .inr (.inr (.inr (.inr (va_cpy n_13 n_13 a1.toNatClampNeg (a1 + 1).toNatClampNeg (0 - a1).toNatClampNeg))))))], tw, [(x, .inr (5, [.int xs, va_rf xp]))], [(ob, .inr (11, [.int (mc_ + 1), .ref q_11, .int 0]))]] H _ := hH
  refine lv_aload hF.1.1 hF.1.2.1 dJ10_add_3_52 (lv_at hl 0 rfl) ?_
  refine lv_iload_n hF.1.1 hF.1.2.1 dJ10_add_3_54 rfl (lv_at hl 3 rfl) ?_
  refine lv_aload_n hF.1.1 hF.1.2.1 dJ10_add_3_55 rfl (lv_at hl 4 rfl) ?_
  obtain ⟨hi_20, hw⟩ := hw
  refine g_aast (cs' := [[(q_11, .inl (d.2.1 6, q_12, .inr (.inr (.inr (.inr (va_up (va_cpy n_13 n_13 a1.toNatClampNeg (a1 + 1).toNatClampNeg (0 - a1).toNatClampNeg) a1.toNatClampNeg (some x)))))))], tw, [(x, .inr (5, [.int xs, va_rf xp]))], [(ob, .inr (11, [.int (mc_ + 1), .ref q_11, .int 0]))]]) (ch' := [(q_11, .inl (d.2.1 6, q_12, .inr (.inr (.inr (.inr (va_up (va_cpy n_13 n_13 a1.toNatClampNeg (a1 + 1).toNatClampNeg (0 - a1).toNatClampNeg) a1.toNatClampNeg (some x)))))))]) hF hH 0 0 rfl rfl (g_anyc hH 2 0 rfl rfl rfl q1859) hi_20 dJ10_add_3_56 rfl rfl (fun H locs hH => ?_)
  refine lv_aload_n hF.1.1 hF.1.2.1 dJ10_add_3_57 rfl (lv_at hl 2 rfl) ?_
  refine lv_iload_n hF.1.1 hF.1.2.1 dJ10_add_3_58 rfl (lv_at hl 1 rfl) ?_
  refine lv_iconst (v := 1) hF.1.1 hF.1.2.1 dJ10_add_3_59 (by decide) ?_
  refine lv_iadd hF.1.1 hF.1.2.1 dJ10_add_3_60 ?_
  refine g_put (cs' := [[(q_11, .inl (d.2.1 6, q_12, .inr (.inr (.inr (.inr (va_up (va_cpy n_13 n_13 a1.toNatClampNeg (a1 + 1).toNatClampNeg (0 - a1).toNatClampNeg) a1.toNatClampNeg (some x)))))))], tw, [(x, .inr (5, [.int xs, va_rf xp]))], [(ob, .inr (11, [.int (mc_ + 1), .ref q_11, .int ((0 : Int32) + 1)]))]]) (ch' := [(ob, .inr (11, [.int (mc_ + 1), .ref q_11, .int ((0 : Int32) + 1)]))]) (ty := .int) hF hH in_J10 rfl tyJ10 tyJ10_ok nmJ10 3 0 rfl rfl 2 (by decide) q429 (fun _ h9 => h9) rfl (by decide +kernel) rfl rfl (Nat.le_of_ble_eq_true rfl) dJ10_add_3_61 rfl rfl (fun H locs hH => ?_)
  have hH := hH.sub (cs' := [[(ob, .inr (11, [.int (mc_ + 1), .ref q_11, .int ((0 : Int32) + 1)]))], [(q_11, .inl (d.2.1 6, q_12, .inr (.inr (.inr (.inr (va_up (va_cpy n_13 n_13 a1.toNatClampNeg (a1 + 1).toNatClampNeg (0 - a1).toNatClampNeg) a1.toNatClampNeg (some x)))))))], tw, [(x, .inr (5, [.int xs, va_rf xp]))]]) [3, 0, 1, 2] rfl rfl
  exact g_vret hF hH ⟨q_11, q_12, (va_up (va_cpy n_13 n_13 a1.toNatClampNeg (a1 + 1).toNatClampNeg (0 - a1).toNatClampNeg) a1.toNatClampNeg (some x)), ((0 : Int32) + 1), (mc_ + 1), rfl, rfl, hw⟩ dJ10_add_3_64

def wp_J10_add_3_OI (a1 : Int32) (x : Nat) (mc_ : Int32) (sz : Int32) (ef : Nat → Option Nat) (cap : Nat) (tw : va_W) (Q : Nat → (Nat → Option Nat) → Int32 → Int32 → Prop) : Prop := (wp_J10_rangeCheckForAdd a1 mc_ sz ((¬ sz = (nI cap) → (¬ a1 < 0 ∧ ¬ (a1 + 1) < 0 ∧ ¬ (sz - a1) < 0 ∧ a1.toNatClampNeg + (sz - a1).toNatClampNeg ≤ cap ∧ (a1 + 1).toNatClampNeg + (sz - a1).toNatClampNeg ≤ cap ∧ g_el tw ef ∧ (vp_in a1 cap ∧ (Q cap (va_up (va_cpy ef ef a1.toNatClampNeg (a1 + 1).toNatClampNeg (sz - a1).toNatClampNeg) a1.toNatClampNeg (some x)) (sz + 1) (mc_ + 1))))) ∧ (sz = (nI cap) → (wp_J10_grow_O (mc_ + 1) sz ef cap tw (fun q_28 n_29 => (¬ a1 < 0 ∧ ¬ (a1 + 1) < 0 ∧ ¬ (sz - a1) < 0 ∧ a1.toNatClampNeg + (sz - a1).toNatClampNeg ≤ q_28 ∧ (a1 + 1).toNatClampNeg + (sz - a1).toNatClampNeg ≤ q_28 ∧ g_el tw n_29 ∧ (vp_in a1 q_28 ∧ (Q q_28 (va_up (va_cpy n_29 n_29 a1.toNatClampNeg (a1 + 1).toNatClampNeg (sz - a1).toNatClampNeg) a1.toNatClampNeg (some x)) (sz + 1) (mc_ + 1)))))))))
set_option maxHeartbeats 4000000 in
set_option maxRecDepth 100000 in
theorem met_J10_add_3_OI (l : Launch) (hl0 : l.stackTraces = false) (d : g_D) (ob : Nat) (a1 : Int32) (x : Nat) (mc_ : Int32) (ed : Nat) (sz : Int32) (ef : Nat → Option Nat) (cap : Nat) (tw : va_W) (xs : Int32) (xp : Option Nat) (xk : Nat) (xc : Nat) (Q : Nat → (Nat → Option Nat) → Int32 → Int32 → Prop) (hw : wp_J10_add_3_OI a1 x mc_ sz ef cap tw Q) : g_Met l d yJ10_add_3 cJ10_add_3 5 none ({ frames := 5, cells := 1, slots := 22, locals := 119 } : Room) [.ref ob, .int a1, .ref x] [[(ob, .inr (11, [.int mc_, .ref ed, .int sz]))], [(ed, .inl (d.2.1 6, cap, .inr (.inr (.inr (.inr ef)))))], tw, [(x, .inr (6, [.int xs, va_rf xp, .ref (d.2.2 xk), .ref xc]))]] 1 22 (fun v w1 => ∃ (ed2 : Nat) (cap2 : Nat) (ef2 : Nat → Option Nat) (sz2 : Int32) (mc2 : Int32), v = none ∧ w1 = [[(ob, .inr (11, [.int mc2, .ref ed2, .int sz2]))], [(ed2, .inl (d.2.1 6, cap2, .inr (.inr (.inr (.inr ef2)))))], tw, [(x, .inr (6, [.int xs, va_rf xp, .ref (d.2.2 xk), .ref xc]))]] ∧ Q cap2 ef2 sz2 mc2) := by
  refine g_enter (by decide) (Nat.le_of_ble_eq_true rfl) ?_
  intro p e s m args below meth c A ls hF hH hl hin
  have hF : g_F p m c cJ10_add_3 5 s args RJ10 meth none := hF
  have hl : lv_has ls 5 [(0, .ref ob), (1, .int a1), (2, .ref x)] := hl
  unfold wp_J10_add_3_OI at hw
  refine lv_aload_n hF.1.1 hF.1.2.1 dJ10_add_3_0 rfl (lv_at hl 0 rfl) ?_
  refine lv_iload_n hF.1.1 hF.1.2.1 dJ10_add_3_1 rfl (lv_at hl 1 rfl) ?_
  refine g_cV [.int a1] 1 rfl hF (met_J10_rangeCheckForAdd l hl0 d ob a1 mc_ ed sz _ hw) q623 q625 qs13 q107 q626 rfl rfl (by decide +kernel) ⟨Nat.le_of_ble_eq_true rfl, Nat.le_of_ble_eq_true rfl⟩ hH [0] rfl rfl rfl 0 0 rfl rfl rfl hl.1 (Nat.le_of_ble_eq_true rfl) dJ10_add_3_2 ⟨(by first | exact Nat.le_of_ble_eq_true rfl | omega | (dsimp only; omega)), (by first | exact Nat.le_of_ble_eq_true rfl | omega | (dsimp only; omega))⟩ (fun v w1 H locs hq hH => ?_)
  obtain ⟨rfl, rfl, hw⟩ := hq
  have hH : g_HS d A s [[(ed, .inl (d.2.1 6, cap, .inr (.inr (.inr (.inr ef)))))], tw, [(x, .inr (6, [.int xs, va_rf xp, .ref (d.2.2 xk), .ref xc]))], [(ob, .inr (11, [.int mc_, .ref ed, .int sz]))]] H locs := hH
  refine W.eq (g2 := (F0 m 5 ls [])) rfl ?_
  refine lv_aload_n hF.1.1 hF.1.2.1 dJ10_add_3_5 rfl (lv_at hl 0 rfl) ?_
  refine lv_dup hF.1.1 hF.1.2.1 dJ10_add_3_6 rfl ?_
  refine g_get (v := .int mc_) hF hH in_J10 rfl 3 0 rfl rfl 0 (by decide) q433 (u_same (hF.1.2.2.2.2 _ q432)) rfl dJ10_add_3_7 ?_
  refine lv_iconst (v := 1) hF.1.1 hF.1.2.1 dJ10_add_3_10 (by decide) ?_
  refine lv_iadd hF.1.1 hF.1.2.1 dJ10_add_3_11 ?_
  refine g_put (cs' := [[(ed, .inl (d.2.1 6, cap, .inr (.inr (.inr (.inr ef)))))], tw, [(x, .inr (6, [.int xs, va_rf xp, .ref (d.2.2 xk), .ref xc]))], [(ob, .inr (11, [.int (mc_ + 1), .ref ed, .int sz]))]]) (ch' := [(ob, .inr (11, [.int (mc_ + 1), .ref ed, .int sz]))]) (ty := .int) hF hH in_J10 rfl tyJ10 tyJ10_ok nmJ10 3 0 rfl rfl 0 (by decide) q433 (u_same (hF.1.2.2.2.2 _ q432)) rfl (by decide +kernel) rfl rfl (Nat.le_of_ble_eq_true rfl) dJ10_add_3_12 rfl rfl (fun H locs hH => ?_)
  refine lv_aload_n hF.1.1 hF.1.2.1 dJ10_add_3_15 rfl (lv_at hl 0 rfl) ?_
  refine g_get (v := .int sz) hF hH in_J10 rfl 3 0 rfl rfl 2 (by decide) q429 (fun _ h9 => h9) rfl dJ10_add_3_16 ?_
  refine lv_dup hF.1.1 hF.1.2.1 dJ10_add_3_19 rfl ?_
  refine lv_istore_n (lv' := [(3, .int sz), (0, .ref ob), (1, .int a1), (2, .ref x)]) hF.1.1 hF.1.2.1 dJ10_add_3_20 rfl hl (by decide) rfl (fun ls hl => ?_)
  refine lv_aload_n hF.1.1 hF.1.2.1 dJ10_add_3_21 rfl (lv_at hl 1 rfl) ?_
  refine g_get (v := .ref ed) hF hH in_J10 rfl 3 0 rfl rfl 1 (by decide) q426 (fun _ h9 => h9) rfl dJ10_add_3_22 ?_
  refine lv_dup hF.1.1 hF.1.2.1 dJ10_add_3_25 rfl ?_
  refine lv_astore (lv' := [(4, .ref ed), (3, .int sz), (0, .ref ob), (1, .int a1), (2, .ref x)]) hF.1.1 hF.1.2.1 dJ10_add_3_26 hl (by decide) rfl (fun ls hl => ?_)
  refine g_alen (v := (nI cap)) (ty := .object "java/lang/Object") hF hH 0 0 6 rfl rfl rfl rfl dJ10_add_3_28 ?_
  refine lv_icmp_ne (tgt := 38) hF.1.1 hF.1.2.1 dJ10_add_3_29 (by decide) (fun c_19 => ?_) (fun c_19 => ?_)
  · have hw := hw.1 c_19
    refine lv_aload hF.1.1 hF.1.2.1 dJ10_add_3_38 (lv_at hl 0 rfl) ?_
    refine lv_iload_n hF.1.1 hF.1.2.1 dJ10_add_3_40 rfl (lv_at hl 3 rfl) ?_
    refine lv_aload hF.1.1 hF.1.2.1 dJ10_add_3_41 (lv_at hl 0 rfl) ?_
    refine lv_iload_n hF.1.1 hF.1.2.1 dJ10_add_3_43 rfl (lv_at hl 3 rfl) ?_
    refine lv_iconst (v := 1) hF.1.1 hF.1.2.1 dJ10_add_3_44 (by decide) ?_
    refine lv_iadd hF.1.1 hF.1.2.1 dJ10_add_3_45 ?_
    refine lv_iload_n hF.1.1 hF.1.2.1 dJ10_add_3_46 rfl (lv_at hl 1 rfl) ?_
    refine lv_iload_n hF.1.1 hF.1.2.1 dJ10_add_3_47 rfl (lv_at hl 3 rfl) ?_
    refine lv_isub hF.1.1 hF.1.2.1 dJ10_add_3_48 ?_
    obtain ⟨ha_20, ha_21, ha_22, ha_23, ha_24, he_25, hw⟩ := hw
    refine g_copyQ1 hF hH q627 hl.1 ha_20 ha_21 ha_22 ha_23 ha_24 (fun i9 hi9 y9 hy9 => g_anytw hH 1 rfl (he_25 _ _ hy9)) (Nat.le_of_ble_eq_true rfl) (Nat.le_of_ble_eq_true rfl) dJ10_add_3_49 (fun H locs hH => ?_)
    have hH : g_HS d A s [[(ed, .inl (d.2.1 6, cap, .inr (.inr (.inr (.inr (va_cpy ef ef a1.toNatClampNeg (a1 + 1).toNatClampNeg (sz - a1).toNatClampNeg))))))], tw, [(x, .inr (6, [.int xs, va_rf xp, .ref (d.2.2 xk), .ref xc]))], [(ob, .inr (11, [.int (mc_ + 1), .ref ed, .int sz]))]] H _ := hH
    refine lv_aload hF.1.1 hF.1.2.1 dJ10_add_3_52 (lv_at hl 0 rfl) ?_
    refine lv_iload_n hF.1.1 hF.1.2.1 dJ10_add_3_54 rfl (lv_at hl 3 rfl) ?_
    refine lv_aload_n hF.1.1 hF.1.2.1 dJ10_add_3_55 rfl (lv_at hl 4 rfl) ?_
    obtain ⟨hi_26, hw⟩ := hw
    refine g_aast (cs' := [[(ed, .inl (d.2.1 6, cap, .inr (.inr (.inr (.inr (va_up (va_cpy ef ef a1.toNatClampNeg (a1 + 1).toNatClampNeg (sz - a1).toNatClampNeg) a1.toNatClampNeg (some x)))))))], tw, [(x, .inr (6, [.int xs, va_rf xp, .ref (d.2.2 xk), .ref xc]))], [(ob, .inr (11, [.int (mc_ + 1), .ref ed, .int sz]))]]) (ch' := [(ed, .inl (d.2.1 6, cap, .inr (.inr (.inr (.inr (va_up (va_cpy ef ef a1.toNatClampNeg (a1 + 1).toNatClampNeg (sz - a1).toNatClampNeg) a1.toNatClampNeg (some x)))))))]) hF hH 0 0 rfl rfl (g_anyc hH 2 0 rfl rfl rfl q1860) hi_26 dJ10_add_3_56 rfl rfl (fun H locs hH => ?_)
    refine lv_aload_n hF.1.1 hF.1.2.1 dJ10_add_3_57 rfl (lv_at hl 2 rfl) ?_
    refine lv_iload_n hF.1.1 hF.1.2.1 dJ10_add_3_58 rfl (lv_at hl 1 rfl) ?_
    refine lv_iconst (v := 1) hF.1.1 hF.1.2.1 dJ10_add_3_59 (by decide) ?_
    refine lv_iadd hF.1.1 hF.1.2.1 dJ10_add_3_60 ?_
    refine g_put (cs' := [[(ed, .inl (d.2.1 6, cap, .inr (.inr (.inr (.inr (va_up (va_cpy ef ef a1.toNatClampNeg (a1 + 1).toNatClampNeg (sz - a1).toNatClampNeg) a1.toNatClampNeg (some x)))))))], tw, [(x, .inr (6, [.int xs, va_rf xp, .ref (d.2.2 xk), .ref xc]))], [(ob, .inr (11, [.int (mc_ + 1), .ref ed, .int (sz + 1)]))]]) (ch' := [(ob, .inr (11, [.int (mc_ + 1), .ref ed, .int (sz + 1)]))]) (ty := .int) hF hH in_J10 rfl tyJ10 tyJ10_ok nmJ10 3 0 rfl rfl 2 (by decide) q429 (fun _ h9 => h9) rfl (by decide +kernel) rfl rfl (Nat.le_of_ble_eq_true rfl) dJ10_add_3_61 rfl rfl (fun H locs hH => ?_)
    refine W.widen (k := 1) (n := 22) (by first | exact Nat.le_of_ble_eq_true rfl | omega | (dsimp only; omega)) (by first | exact Nat.le_of_ble_eq_true rfl | omega | (dsimp only; omega)) ?_
    have hH := hH.sub (cs' := [[(ob, .inr (11, [.int (mc_ + 1), .ref ed, .int (sz + 1)]))], [(ed, .inl (d.2.1 6, cap, .inr (.inr (.inr (.inr (va_up (va_cpy ef ef a1.toNatClampNeg (a1 + 1).toNatClampNeg (sz - a1).toNatClampNeg) a1.toNatClampNeg (some x)))))))], tw, [(x, .inr (6, [.int xs, va_rf xp, .ref (d.2.2 xk), .ref xc]))]]) [3, 0, 1, 2] rfl rfl
    exact g_vret hF hH ⟨ed, cap, (va_up (va_cpy ef ef a1.toNatClampNeg (a1 + 1).toNatClampNeg (sz - a1).toNatClampNeg) a1.toNatClampNeg (some x)), (sz + 1), (mc_ + 1), rfl, rfl, hw⟩ dJ10_add_3_64
  · have hw := hw.2 c_19
    refine lv_aload_n hF.1.1 hF.1.2.1 dJ10_add_3_32 rfl (lv_at hl 2 rfl) ?_
    refine g_cV [] 0 rfl hF (met_J10_grow_O l hl0 d ob (mc_ + 1) ed sz ef cap tw _ hw) q538 q540 qs10 q107 q541 rfl rfl (by decide +kernel) ⟨Nat.le_of_ble_eq_true rfl, Nat.le_of_ble_eq_true rfl⟩ hH [3, 0, 1] rfl rfl rfl 0 0 rfl rfl rfl hl.1 (Nat.le_of_ble_eq_true rfl) dJ10_add_3_33 ⟨(by first | exact Nat.le_of_ble_eq_true rfl | omega | (dsimp only; omega)), (by first | exact Nat.le_of_ble_eq_true rfl | omega | (dsimp only; omega))⟩ (fun v w1 H locs hq hH => ?_)
    obtain ⟨q_27, q_28, n_29, rfl, rfl, hw⟩ := hq
    have hH : g_HS d A s [[(x, .inr (6, [.int xs, va_rf xp, .ref (d.2.2 xk), .ref xc]))], [(ob, .inr (11, [.int (mc_ + 1), .ref q_27, .int sz]))], tw, [(q_27, .inl (d.2.1 6, q_28, .inr (.inr (.inr (.inr n_29)))))]] H locs := hH
    refine W.eq (g2 := (F0 m 36 ls [.ref q_27])) rfl ?_
    refine W.widen (k := 1) (n := 22) (by first | exact Nat.le_of_ble_eq_true rfl | omega | (dsimp only; omega)) (by first | exact Nat.le_of_ble_eq_true rfl | omega | (dsimp only; omega)) ?_
    refine lv_astore (lv' := [(4, .ref q_27), (3, .int sz), (0, .ref ob), (1, .int a1), (2, .ref x)]) hF.1.1 hF.1.2.1 dJ10_add_3_36 hl (by decide) rfl (fun ls hl => ?_)
    refine lv_aload hF.1.1 hF.1.2.1 dJ10_add_3_38 (lv_at hl 0 rfl) ?_
    refine lv_iload_n hF.1.1 hF.1.2.1 dJ10_add_3_40 rfl (lv_at hl 3 rfl) ?_
    refine lv_aload hF.1.1 hF.1.2.1 dJ10_add_3_41 (lv_at hl 0 rfl) ?_
    refine lv_iload_n hF.1.1 hF.1.2.1 dJ10_add_3_43 rfl (lv_at hl 3 rfl) ?_
    refine lv_iconst (v := 1) hF.1.1 hF.1.2.1 dJ10_add_3_44 (by decide) ?_
    refine lv_iadd hF.1.1 hF.1.2.1 dJ10_add_3_45 ?_
    refine lv_iload_n hF.1.1 hF.1.2.1 dJ10_add_3_46 rfl (lv_at hl 1 rfl) ?_
    refine lv_iload_n hF.1.1 hF.1.2.1 dJ10_add_3_47 rfl (lv_at hl 3 rfl) ?_
    refine lv_isub hF.1.1 hF.1.2.1 dJ10_add_3_48 ?_
    have hH := hH.sub (cs' := [[(q_27, .inl (d.2.1 6, q_28, .inr (.inr (.inr (.inr n_29)))))], [(x, .inr (6, [.int xs, va_rf xp, .ref (d.2.2 xk), .ref xc]))], [(ob, .inr (11, [.int (mc_ + 1), .ref q_27, .int sz]))], tw]) [3, 0, 1, 2] rfl rfl
    obtain ⟨ha_30, ha_31, ha_32, ha_33, ha_34, he_35, hw⟩ := hw
    refine g_copyQ1 hF hH q627 hl.1 ha_30 ha_31 ha_32 ha_33 ha_34 (fun i9 hi9 y9 hy9 => g_anytw hH 3 rfl (he_35 _ _ hy9)) (Nat.le_of_ble_eq_true rfl) (Nat.le_of_ble_eq_true rfl) dJ10_add_3_49 (fun H locs hH => ?_)
    have hH : g_HS d A s [[(q_27, .inl (d.2.1 6, q_28, .inr (.inr (.inr (.inr (va_cpy n_29 n_29 a1.toNatClampNeg (a1 + 1).toNatClampNeg (sz - a1).toNatClampNeg))))))], [(x, .inr (6, [.int xs, va_rf xp, .ref (d.2.2 xk), .ref xc]))], [(ob, .inr (11, [.int (mc_ + 1), .ref q_27, .int sz]))], tw] H _ := hH
    refine lv_aload hF.1.1 hF.1.2.1 dJ10_add_3_52 (lv_at hl 0 rfl) ?_
    refine lv_iload_n hF.1.1 hF.1.2.1 dJ10_add_3_54 rfl (lv_at hl 3 rfl) ?_
    refine lv_aload_n hF.1.1 hF.1.2.1 dJ10_add_3_55 rfl (lv_at hl 4 rfl) ?_
    obtain ⟨hi_36, hw⟩ := hw
    refine g_aast (cs' := [[(q_27, .inl (d.2.1 6, q_28, .inr (.inr (.inr (.inr (va_up (va_cpy n_29 n_29 a1.toNatClampNeg (a1 + 1).toNatClampNeg (sz - a1).toNatClampNeg) a1.toNatClampNeg (some x)))))))], [(x, .inr (6, [.int xs, va_rf xp, .ref (d.2.2 xk), .ref xc]))], [(ob, .inr (11, [.int (mc_ + 1), .ref q_27, .int sz]))], tw]) (ch' := [(q_27, .inl (d.2.1 6, q_28, .inr (.inr (.inr (.inr (va_up (va_cpy n_29 n_29 a1.toNatClampNeg (a1 + 1).toNatClampNeg (sz - a1).toNatClampNeg) a1.toNatClampNeg (some x)))))))]) hF hH 0 0 rfl rfl (g_anyc hH 1 0 rfl rfl rfl q1860) hi_36 dJ10_add_3_56 rfl rfl (fun H locs hH => ?_)
    refine lv_aload_n hF.1.1 hF.1.2.1 dJ10_add_3_57 rfl (lv_at hl 2 rfl) ?_
    refine lv_iload_n hF.1.1 hF.1.2.1 dJ10_add_3_58 rfl (lv_at hl 1 rfl) ?_
    refine lv_iconst (v := 1) hF.1.1 hF.1.2.1 dJ10_add_3_59 (by decide) ?_
    refine lv_iadd hF.1.1 hF.1.2.1 dJ10_add_3_60 ?_
    refine g_put (cs' := [[(q_27, .inl (d.2.1 6, q_28, .inr (.inr (.inr (.inr (va_up (va_cpy n_29 n_29 a1.toNatClampNeg (a1 + 1).toNatClampNeg (sz - a1).toNatClampNeg) a1.toNatClampNeg (some x)))))))], [(x, .inr (6, [.int xs, va_rf xp, .ref (d.2.2 xk), .ref xc]))], [(ob, .inr (11, [.int (mc_ + 1), .ref q_27, .int (sz + 1)]))], tw]) (ch' := [(ob, .inr (11, [.int (mc_ + 1), .ref q_27, .int (sz + 1)]))]) (ty := .int) hF hH in_J10 rfl tyJ10 tyJ10_ok nmJ10 2 0 rfl rfl 2 (by decide) q429 (fun _ h9 => h9) rfl (by decide +kernel) rfl rfl (Nat.le_of_ble_eq_true rfl) dJ10_add_3_61 rfl rfl (fun H locs hH => ?_)
    have hH := hH.sub (cs' := [[(ob, .inr (11, [.int (mc_ + 1), .ref q_27, .int (sz + 1)]))], [(q_27, .inl (d.2.1 6, q_28, .inr (.inr (.inr (.inr (va_up (va_cpy n_29 n_29 a1.toNatClampNeg (a1 + 1).toNatClampNeg (sz - a1).toNatClampNeg) a1.toNatClampNeg (some x)))))))], tw, [(x, .inr (6, [.int xs, va_rf xp, .ref (d.2.2 xk), .ref xc]))]]) [2, 0, 3, 1] rfl rfl
    exact g_vret hF hH ⟨q_27, q_28, (va_up (va_cpy n_29 n_29 a1.toNatClampNeg (a1 + 1).toNatClampNeg (sz - a1).toNatClampNeg) a1.toNatClampNeg (some x)), (sz + 1), (mc_ + 1), rfl, rfl, hw⟩ dJ10_add_3_64

def wp_J10_add_3_EI (a1 : Int32) (x : Nat) (mc_ : Int32) (tw : va_W) (Q : Nat → (Nat → Option Nat) → Int32 → Int32 → Prop) : Prop := (wp_J10_rangeCheckForAdd a1 mc_ 0 (wp_J10_grow_E (mc_ + 1) (fun q_12 n_13 => (¬ a1 < 0 ∧ ¬ (a1 + 1) < 0 ∧ ¬ (0 - a1) < 0 ∧ a1.toNatClampNeg + (0 - a1).toNatClampNeg ≤ q_12 ∧ (a1 + 1).toNatClampNeg + (0 - a1).toNatClampNeg ≤ q_12 ∧ g_el tw n_13 ∧ (vp_in a1 q_12 ∧ (Q q_12 (va_up (va_cpy n_13 n_13 a1.toNatClampNeg (a1 + 1).toNatClampNeg (0 - a1).toNatClampNeg) a1.toNatClampNeg (some x)) ((0 : Int32) + 1) (mc_ + 1)))))))
set_option maxHeartbeats 4000000 in
set_option maxRecDepth 100000 in
theorem met_J10_add_3_EI (l : Launch) (hl0 : l.stackTraces = false) (d : g_D) (ob : Nat) (a1 : Int32) (x : Nat) (mc_ : Int32) (tw : va_W) (xs : Int32) (xp : Option Nat) (xk : Nat) (xc : Nat) (Q : Nat → (Nat → Option Nat) → Int32 → Int32 → Prop) (hw : wp_J10_add_3_EI a1 x mc_ tw Q) : g_Met l d yJ10_add_3 cJ10_add_3 5 none ({ frames := 5, cells := 1, slots := 22, locals := 119 } : Room) [.ref ob, .int a1, .ref x] [[(ob, .inr (11, [.int mc_, .ref (d.2.2 4), .int 0]))], tw, [(x, .inr (6, [.int xs, va_rf xp, .ref (d.2.2 xk), .ref xc]))]] 1 22 (fun v w1 => ∃ (ed2 : Nat) (cap2 : Nat) (ef2 : Nat → Option Nat) (sz2 : Int32) (mc2 : Int32), v = none ∧ w1 = [[(ob, .inr (11, [.int mc2, .ref ed2, .int sz2]))], [(ed2, .inl (d.2.1 6, cap2, .inr (.inr (.inr (.inr ef2)))))], tw, [(x, .inr (6, [.int xs, va_rf xp, .ref (d.2.2 xk), .ref xc]))]] ∧ Q cap2 ef2 sz2 mc2) := by
  refine g_enter (by decide) (Nat.le_of_ble_eq_true rfl) ?_
  intro p e s m args below meth c A ls hF hH hl hin
  have hF : g_F p m c cJ10_add_3 5 s args RJ10 meth none := hF
  have hl : lv_has ls 5 [(0, .ref ob), (1, .int a1), (2, .ref x)] := hl
  unfold wp_J10_add_3_EI at hw
  refine lv_aload_n hF.1.1 hF.1.2.1 dJ10_add_3_0 rfl (lv_at hl 0 rfl) ?_
  refine lv_iload_n hF.1.1 hF.1.2.1 dJ10_add_3_1 rfl (lv_at hl 1 rfl) ?_
  refine g_cV [.int a1] 1 rfl hF (met_J10_rangeCheckForAdd l hl0 d ob a1 mc_ (d.2.2 4) 0 _ hw) q623 q625 qs13 q107 q626 rfl rfl (by decide +kernel) ⟨Nat.le_of_ble_eq_true rfl, Nat.le_of_ble_eq_true rfl⟩ hH [0] rfl rfl rfl 0 0 rfl rfl rfl hl.1 (Nat.le_of_ble_eq_true rfl) dJ10_add_3_2 ⟨(by first | exact Nat.le_of_ble_eq_true rfl | omega | (dsimp only; omega)), (by first | exact Nat.le_of_ble_eq_true rfl | omega | (dsimp only; omega))⟩ (fun v w1 H locs hq hH => ?_)
  obtain ⟨rfl, rfl, hw⟩ := hq
  have hH : g_HS d A s [tw, [(x, .inr (6, [.int xs, va_rf xp, .ref (d.2.2 xk), .ref xc]))], [(ob, .inr (11, [.int mc_, .ref (d.2.2 4), .int 0]))]] H locs := hH
  refine W.eq (g2 := (F0 m 5 ls [])) rfl ?_
  refine lv_aload_n hF.1.1 hF.1.2.1 dJ10_add_3_5 rfl (lv_at hl 0 rfl) ?_
  refine lv_dup hF.1.1 hF.1.2.1 dJ10_add_3_6 rfl ?_
  refine g_get (v := .int mc_) hF hH in_J10 rfl 2 0 rfl rfl 0 (by decide) q433 (u_same (hF.1.2.2.2.2 _ q432)) rfl dJ10_add_3_7 ?_
  refine lv_iconst (v := 1) hF.1.1 hF.1.2.1 dJ10_add_3_10 (by decide) ?_
  refine lv_iadd hF.1.1 hF.1.2.1 dJ10_add_3_11 ?_
  refine g_put (cs' := [tw, [(x, .inr (6, [.int xs, va_rf xp, .ref (d.2.2 xk), .ref xc]))], [(ob, .inr (11, [.int (mc_ + 1), .ref (d.2.2 4), .int 0]))]]) (ch' := [(ob, .inr (11, [.int (mc_ + 1), .ref (d.2.2 4), .int 0]))]) (ty := .int) hF hH in_J10 rfl tyJ10 tyJ10_ok nmJ10 2 0 rfl rfl 0 (by decide) q433 (u_same (hF.1.2.2.2.2 _ q432)) rfl (by decide +kernel) rfl rfl (Nat.le_of_ble_eq_true rfl) dJ10_add_3_12 rfl rfl (fun H locs hH => ?_)
  refine lv_aload_n hF.1.1 hF.1.2.1 dJ10_add_3_15 rfl (lv_at hl 0 rfl) ?_
  refine g_get (v := .int 0) hF hH in_J10 rfl 2 0 rfl rfl 2 (by decide) q429 (fun _ h9 => h9) rfl dJ10_add_3_16 ?_
  refine lv_dup hF.1.1 hF.1.2.1 dJ10_add_3_19 rfl ?_
  refine lv_istore_n (lv' := [(3, .int 0), (0, .ref ob), (1, .int a1), (2, .ref x)]) hF.1.1 hF.1.2.1 dJ10_add_3_20 rfl hl (by decide) rfl (fun ls hl => ?_)
  refine lv_aload_n hF.1.1 hF.1.2.1 dJ10_add_3_21 rfl (lv_at hl 1 rfl) ?_
  refine g_get (v := .ref (d.2.2 4)) hF hH in_J10 rfl 2 0 rfl rfl 1 (by decide) q426 (fun _ h9 => h9) rfl dJ10_add_3_22 ?_
  refine lv_dup hF.1.1 hF.1.2.1 dJ10_add_3_25 rfl ?_
  refine lv_astore (lv' := [(4, .ref (d.2.2 4)), (3, .int 0), (0, .ref ob), (1, .int a1), (2, .ref x)]) hF.1.1 hF.1.2.1 dJ10_add_3_26 hl (by decide) rfl (fun ls hl => ?_)
  refine g_tlen hF hH dJ10_add_3_28 ?_
  refine lv_icmp_ne (tgt := 38) hF.1.1 hF.1.2.1 dJ10_add_3_29 (by decide) (fun z => absurd z (by decide)) (fun _ => ?_)
  refine lv_aload_n hF.1.1 hF.1.2.1 dJ10_add_3_32 rfl (lv_at hl 2 rfl) ?_
  refine g_cV [] 0 rfl hF (met_J10_grow_E l hl0 d ob (mc_ + 1) _ hw) q538 q540 qs10 q107 q541 rfl rfl (by decide +kernel) ⟨Nat.le_of_ble_eq_true rfl, Nat.le_of_ble_eq_true rfl⟩ hH [2] rfl rfl rfl 0 0 rfl rfl rfl hl.1 (Nat.le_of_ble_eq_true rfl) dJ10_add_3_33 ⟨(by first | exact Nat.le_of_ble_eq_true rfl | omega | (dsimp only; omega)), (by first | exact Nat.le_of_ble_eq_true rfl | omega | (dsimp only; omega))⟩ (fun v w1 H locs hq hH => ?_)
  obtain ⟨q_11, q_12, n_13, rfl, rfl, hw⟩ := hq
  have hH : g_HS d A s [tw, [(x, .inr (6, [.int xs, va_rf xp, .ref (d.2.2 xk), .ref xc]))], [(ob, .inr (11, [.int (mc_ + 1), .ref q_11, .int 0]))], [(q_11, .inl (d.2.1 6, q_12, .inr (.inr (.inr (.inr n_13)))))]] H locs := hH
  refine W.eq (g2 := (F0 m 36 ls [.ref q_11])) rfl ?_
  refine W.widen (k := 1) (n := 22) (by first | exact Nat.le_of_ble_eq_true rfl | omega | (dsimp only; omega)) (by first | exact Nat.le_of_ble_eq_true rfl | omega | (dsimp only; omega)) ?_
  refine lv_astore (lv' := [(4, .ref q_11), (3, .int 0), (0, .ref ob), (1, .int a1), (2, .ref x)]) hF.1.1 hF.1.2.1 dJ10_add_3_36 hl (by decide) rfl (fun ls hl => ?_)
  refine lv_aload hF.1.1 hF.1.2.1 dJ10_add_3_38 (lv_at hl 0 rfl) ?_
  refine lv_iload_n hF.1.1 hF.1.2.1 dJ10_add_3_40 rfl (lv_at hl 3 rfl) ?_
  refine lv_aload hF.1.1 hF.1.2.1 dJ10_add_3_41 (lv_at hl 0 rfl) ?_
  refine lv_iload_n hF.1.1 hF.1.2.1 dJ10_add_3_43 rfl (lv_at hl 3 rfl) ?_
  refine lv_iconst (v := 1) hF.1.1 hF.1.2.1 dJ10_add_3_44 (by decide) ?_
  refine lv_iadd hF.1.1 hF.1.2.1 dJ10_add_3_45 ?_
  refine lv_iload_n hF.1.1 hF.1.2.1 dJ10_add_3_46 rfl (lv_at hl 1 rfl) ?_
  refine lv_iload_n hF.1.1 hF.1.2.1 dJ10_add_3_47 rfl (lv_at hl 3 rfl) ?_
  refine lv_isub hF.1.1 hF.1.2.1 dJ10_add_3_48 ?_
  have hH := hH.sub (cs' := [[(q_11, .inl (d.2.1 6, q_12, .inr (.inr (.inr (.inr n_13)))))], tw, [(x, .inr (6, [.int xs, va_rf xp, .ref (d.2.2 xk), .ref xc]))], [(ob, .inr (11, [.int (mc_ + 1), .ref q_11, .int 0]))]]) [3, 0, 1, 2] rfl rfl
  obtain ⟨ha_14, ha_15, ha_16, ha_17, ha_18, he_19, hw⟩ := hw
  refine g_copyQ1 hF hH q627 hl.1 ha_14 ha_15 ha_16 ha_17 ha_18 (fun i9 hi9 y9 hy9 => g_anytw hH 1 rfl (he_19 _ _ hy9)) (Nat.le_of_ble_eq_true rfl) (Nat.le_of_ble_eq_true rfl) dJ10_add_3_49 (fun H locs hH => ?_)
  have hH : g_HS d A s [[(q_11, .inl (d.2.1 6, q_12, .inr (.inr (.inr (.inr (va_cpy n_13 n_13 a1.toNatClampNeg (a1 + 1).toNatClampNeg (0 - a1).toNatClampNeg))))))], tw, [(x, .inr (6, [.int xs, va_rf xp, .ref (d.2.2 xk), .ref xc]))], [(ob, .inr (11, [.int (mc_ + 1), .ref q_11, .int 0]))]] H _ := hH
  refine lv_aload hF.1.1 hF.1.2.1 dJ10_add_3_52 (lv_at hl 0 rfl) ?_
  refine lv_iload_n hF.1.1 hF.1.2.1 dJ10_add_3_54 rfl (lv_at hl 3 rfl) ?_
  refine lv_aload_n hF.1.1 hF.1.2.1 dJ10_add_3_55 rfl (lv_at hl 4 rfl) ?_
  obtain ⟨hi_20, hw⟩ := hw
  refine g_aast (cs' := [[(q_11, .inl (d.2.1 6, q_12, .inr (.inr (.inr (.inr (va_up (va_cpy n_13 n_13 a1.toNatClampNeg (a1 + 1).toNatClampNeg (0 - a1).toNatClampNeg) a1.toNatClampNeg (some x)))))))], tw, [(x, .inr (6, [.int xs, va_rf xp, .ref (d.2.2 xk), .ref xc]))], [(ob, .inr (11, [.int (mc_ + 1), .ref q_11, .int 0]))]]) (ch' := [(q_11, .inl (d.2.1 6, q_12, .inr (.inr (.inr (.inr (va_up (va_cpy n_13 n_13 a1.toNatClampNeg (a1 + 1).toNatClampNeg (0 - a1).toNatClampNeg) a1.toNatClampNeg (some x)))))))]) hF hH 0 0 rfl rfl (g_anyc hH 2 0 rfl rfl rfl q1860) hi_20 dJ10_add_3_56 rfl rfl (fun H locs hH => ?_)
  refine lv_aload_n hF.1.1 hF.1.2.1 dJ10_add_3_57 rfl (lv_at hl 2 rfl) ?_
  refine lv_iload_n hF.1.1 hF.1.2.1 dJ10_add_3_58 rfl (lv_at hl 1 rfl) ?_
  refine lv_iconst (v := 1) hF.1.1 hF.1.2.1 dJ10_add_3_59 (by decide) ?_
  refine lv_iadd hF.1.1 hF.1.2.1 dJ10_add_3_60 ?_
  refine g_put (cs' := [[(q_11, .inl (d.2.1 6, q_12, .inr (.inr (.inr (.inr (va_up (va_cpy n_13 n_13 a1.toNatClampNeg (a1 + 1).toNatClampNeg (0 - a1).toNatClampNeg) a1.toNatClampNeg (some x)))))))], tw, [(x, .inr (6, [.int xs, va_rf xp, .ref (d.2.2 xk), .ref xc]))], [(ob, .inr (11, [.int (mc_ + 1), .ref q_11, .int ((0 : Int32) + 1)]))]]) (ch' := [(ob, .inr (11, [.int (mc_ + 1), .ref q_11, .int ((0 : Int32) + 1)]))]) (ty := .int) hF hH in_J10 rfl tyJ10 tyJ10_ok nmJ10 3 0 rfl rfl 2 (by decide) q429 (fun _ h9 => h9) rfl (by decide +kernel) rfl rfl (Nat.le_of_ble_eq_true rfl) dJ10_add_3_61 rfl rfl (fun H locs hH => ?_)
  have hH := hH.sub (cs' := [[(ob, .inr (11, [.int (mc_ + 1), .ref q_11, .int ((0 : Int32) + 1)]))], [(q_11, .inl (d.2.1 6, q_12, .inr (.inr (.inr (.inr (va_up (va_cpy n_13 n_13 a1.toNatClampNeg (a1 + 1).toNatClampNeg (0 - a1).toNatClampNeg) a1.toNatClampNeg (some x)))))))], tw, [(x, .inr (6, [.int xs, va_rf xp, .ref (d.2.2 xk), .ref xc]))]]) [3, 0, 1, 2] rfl rfl
  exact g_vret hF hH ⟨q_11, q_12, (va_up (va_cpy n_13 n_13 a1.toNatClampNeg (a1 + 1).toNatClampNeg (0 - a1).toNatClampNeg) a1.toNatClampNeg (some x)), ((0 : Int32) + 1), (mc_ + 1), rfl, rfl, hw⟩ dJ10_add_3_64
