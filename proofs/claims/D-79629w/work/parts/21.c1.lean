def wp_X0_inRange (a1 : Int32) (a2 : Int32) (a3 : Int32) (Q : Int32 → Prop) : Prop := ((a1 < a2 → (Q 0)) ∧ (¬ a1 < a2 → ((a3 < a1 → (Q 0)) ∧ (¬ a3 < a1 → (Q 1)))))
set_option maxHeartbeats 4000000 in
set_option maxRecDepth 100000 in
theorem met_X0_inRange (l : Launch) (hl0 : l.stackTraces = false) (d : g_D) (a1 : Int32) (a2 : Int32) (a3 : Int32) (Q : Int32 → Prop) (hw : wp_X0_inRange a1 a2 a3 Q) : g_Met l d yX0_inRange cX0_inRange 3 (Option.some FieldType.boolean) ({ frames := 0, cells := 0, slots := 0, locals := 0 } : Room) [.int a1, .int a2, .int a3] [] 0 0 (fun v w1 => ∃ (r : Int32), v = some (.int r) ∧ w1 = [] ∧ Q r) := by
  refine g_enter (by decide) (Nat.le_of_ble_eq_true rfl) ?_
  intro p e s m args below meth c A ls hF hH hl hin
  have hF : g_F p m c cX0_inRange 3 s args RX0 meth (Option.some FieldType.boolean) := hF
  have hl : lv_has ls 3 [(0, .int a1), (1, .int a2), (2, .int a3)] := hl
  unfold wp_X0_inRange at hw
  refine lv_iload_n hF.1.1 hF.1.2.1 dX0_inRange_0 rfl (lv_at hl 0 rfl) ?_
  refine lv_iload_n hF.1.1 hF.1.2.1 dX0_inRange_1 rfl (lv_at hl 1 rfl) ?_
  refine lv_icmp_lt (tgt := 14) hF.1.1 hF.1.2.1 dX0_inRange_2 (by decide) (fun c_3 => ?_) (fun c_3 => ?_)
  · have hw := hw.1 c_3
    refine lv_iconst (v := 0) hF.1.1 hF.1.2.1 dX0_inRange_14 (by decide) ?_
    exact g_zret hF rfl hH ⟨0, rfl, rfl, hw⟩ dX0_inRange_15
  · have hw := hw.2 c_3
    refine lv_iload_n hF.1.1 hF.1.2.1 dX0_inRange_5 rfl (lv_at hl 0 rfl) ?_
    refine lv_iload_n hF.1.1 hF.1.2.1 dX0_inRange_6 rfl (lv_at hl 2 rfl) ?_
    refine lv_icmp_gt (tgt := 14) hF.1.1 hF.1.2.1 dX0_inRange_7 (by decide) (fun c_4 => ?_) (fun c_4 => ?_)
    · have hw := hw.1 c_4
      refine lv_iconst (v := 0) hF.1.1 hF.1.2.1 dX0_inRange_14 (by decide) ?_
      exact g_zret hF rfl hH ⟨0, rfl, rfl, hw⟩ dX0_inRange_15
    · have hw := hw.2 c_4
      refine lv_iconst (v := 1) hF.1.1 hF.1.2.1 dX0_inRange_10 (by decide) ?_
      refine lv_goto (tgt := 15) hF.1.1 hF.1.2.1 dX0_inRange_11 (by decide) ?_
      exact g_zret hF rfl hH ⟨1, rfl, rfl, hw⟩ dX0_inRange_15

def wp_X0_has (a1 : Int32) (a2 : Int32) (Q : Int32 → Prop) : Prop := ((¬ ((a1 >>> (a2 &&& 31)) &&& 1) = 1 → (Q 0)) ∧ (((a1 >>> (a2 &&& 31)) &&& 1) = 1 → (Q 1)))
set_option maxHeartbeats 4000000 in
set_option maxRecDepth 100000 in
theorem met_X0_has (l : Launch) (hl0 : l.stackTraces = false) (d : g_D) (a1 : Int32) (a2 : Int32) (Q : Int32 → Prop) (hw : wp_X0_has a1 a2 Q) : g_Met l d yX0_has cX0_has 2 (Option.some FieldType.boolean) ({ frames := 0, cells := 0, slots := 0, locals := 0 } : Room) [.int a1, .int a2] [] 0 0 (fun v w1 => ∃ (r : Int32), v = some (.int r) ∧ w1 = [] ∧ Q r) := by
  refine g_enter (by decide) (Nat.le_of_ble_eq_true rfl) ?_
  intro p e s m args below meth c A ls hF hH hl hin
  have hF : g_F p m c cX0_has 2 s args RX0 meth (Option.some FieldType.boolean) := hF
  have hl : lv_has ls 2 [(0, .int a1), (1, .int a2)] := hl
  unfold wp_X0_has at hw
  refine lv_iload_n hF.1.1 hF.1.2.1 dX0_has_0 rfl (lv_at hl 0 rfl) ?_
  refine lv_iload_n hF.1.1 hF.1.2.1 dX0_has_1 rfl (lv_at hl 1 rfl) ?_
  refine lv_ishr hF.1.1 hF.1.2.1 dX0_has_2 ?_
  refine lv_iconst (v := 1) hF.1.1 hF.1.2.1 dX0_has_3 (by decide) ?_
  refine lv_iand hF.1.1 hF.1.2.1 dX0_has_4 ?_
  refine lv_iconst (v := 1) hF.1.1 hF.1.2.1 dX0_has_5 (by decide) ?_
  refine lv_icmp_ne (tgt := 13) hF.1.1 hF.1.2.1 dX0_has_6 (by decide) (fun c_2 => ?_) (fun c_2 => ?_)
  · have hw := hw.1 c_2
    refine lv_iconst (v := 0) hF.1.1 hF.1.2.1 dX0_has_13 (by decide) ?_
    exact g_zret hF rfl hH ⟨0, rfl, rfl, hw⟩ dX0_has_14
  · have hw := hw.2 c_2
    refine lv_iconst (v := 1) hF.1.1 hF.1.2.1 dX0_has_9 (by decide) ?_
    refine lv_goto (tgt := 14) hF.1.1 hF.1.2.1 dX0_has_10 (by decide) ?_
    exact g_zret hF rfl hH ⟨1, rfl, rfl, hw⟩ dX0_has_14

def wb_J7_numberOfTrailingZeros_74 (Q : Int32 → Prop) (x0 : Int32) (x1 : Int32) : Prop := (Q (x1 + ((x0.toUInt32 >>> ((1 : Int32).toUInt32 &&& Int32.toUInt32 31)).toInt32)))
def wb_J7_numberOfTrailingZeros_62 (Q : Int32 → Prop) (x0 : Int32) (x1 : Int32) : Prop := ((x0 ≤ 4 → (wb_J7_numberOfTrailingZeros_74 Q x0 x1)) ∧ (¬ x0 ≤ 4 → (wb_J7_numberOfTrailingZeros_74 Q ((x0.toUInt32 >>> ((2 : Int32).toUInt32 &&& Int32.toUInt32 31)).toInt32) (x1 + 2))))
def wb_J7_numberOfTrailingZeros_49 (Q : Int32 → Prop) (x0 : Int32) (x1 : Int32) : Prop := ((x0 ≤ 16 → (wb_J7_numberOfTrailingZeros_62 Q x0 x1)) ∧ (¬ x0 ≤ 16 → (wb_J7_numberOfTrailingZeros_62 Q ((x0.toUInt32 >>> ((4 : Int32).toUInt32 &&& Int32.toUInt32 31)).toInt32) (x1 + 4))))
def wb_J7_numberOfTrailingZeros_34 (Q : Int32 → Prop) (x0 : Int32) (x1 : Int32) : Prop := ((x0 ≤ 256 → (wb_J7_numberOfTrailingZeros_49 Q x0 x1)) ∧ (¬ x0 ≤ 256 → (wb_J7_numberOfTrailingZeros_49 Q ((x0.toUInt32 >>> ((8 : Int32).toUInt32 &&& Int32.toUInt32 31)).toInt32) (x1 + 8))))
def wp_J7_numberOfTrailingZeros (a1 : Int32) (Q : Int32 → Prop) : Prop := ((0 < ((a1 ^^^ (-1)) &&& (a1 - 1)) → ((((a1 ^^^ (-1)) &&& (a1 - 1)) ≤ 65536 → (wb_J7_numberOfTrailingZeros_34 Q ((a1 ^^^ (-1)) &&& (a1 - 1)) 1)) ∧ (¬ ((a1 ^^^ (-1)) &&& (a1 - 1)) ≤ 65536 → (wb_J7_numberOfTrailingZeros_34 Q ((((a1 ^^^ (-1)) &&& (a1 - 1)).toUInt32 >>> ((16 : Int32).toUInt32 &&& Int32.toUInt32 31)).toInt32) (1 + 16))))) ∧ (¬ 0 < ((a1 ^^^ (-1)) &&& (a1 - 1)) → (Q (((a1 ^^^ (-1)) &&& (a1 - 1)) &&& 32))))
set_option maxHeartbeats 4000000 in
set_option maxRecDepth 100000 in
theorem met_J7_numberOfTrailingZeros (l : Launch) (hl0 : l.stackTraces = false) (d : g_D) (a1 : Int32) (Q : Int32 → Prop) (hw : wp_J7_numberOfTrailingZeros a1 Q) : g_Met l d yJ7_numberOfTrailingZeros cJ7_numberOfTrailingZeros 2 (Option.some FieldType.int) ({ frames := 0, cells := 0, slots := 0, locals := 0 } : Room) [.int a1] [] 0 0 (fun v w1 => ∃ (r : Int32), v = some (.int r) ∧ w1 = [] ∧ Q r) := by
  refine g_enter (by decide) (Nat.le_of_ble_eq_true rfl) ?_
  intro p e s m args below meth c A ls hF hH hl hin
  have hF : g_F p m c cJ7_numberOfTrailingZeros 2 s args RJ7 meth (Option.some FieldType.int) := hF
  have hl : lv_has ls 2 [(0, .int a1)] := hl
  have bk_74 : ∀ (x0 : Int32) (x1 : Int32) (H : Heap) (locs : List Loc) (ls : Array Slot), g_HS d A s [] H locs → lv_has ls 2 [(0, .int x0), (1, .int x1)] → wb_J7_numberOfTrailingZeros_74 Q x0 x1 → W p l e ({ frames := 0, cells := 0, slots := 0, locals := 0 } : Room) s m args below meth c H locs 0 0 (g_E d (fun v w1 => ∃ (r : Int32), v = some (.int r) ∧ w1 = [] ∧ Q r) A below args s 0 0) (F0 m 74 ls []) := by
    intro x0 x1 H locs ls hH hl hw
    unfold wb_J7_numberOfTrailingZeros_74 at hw
    refine lv_iload_n hF.1.1 hF.1.2.1 dJ7_numberOfTrailingZeros_74 rfl (lv_at hl 1 rfl) ?_
    refine lv_iload_n hF.1.1 hF.1.2.1 dJ7_numberOfTrailingZeros_75 rfl (lv_at hl 0 rfl) ?_
    refine lv_iconst (v := 1) hF.1.1 hF.1.2.1 dJ7_numberOfTrailingZeros_76 (by decide) ?_
    refine lv_iushr (v := (x0.toUInt32 >>> ((1 : Int32).toUInt32 &&& Int32.toUInt32 31)).toInt32) hF.1.1 hF.1.2.1 dJ7_numberOfTrailingZeros_77 rfl ?_
    refine lv_iadd hF.1.1 hF.1.2.1 dJ7_numberOfTrailingZeros_78 ?_
    exact g_iret hF hH ⟨(x1 + ((x0.toUInt32 >>> ((1 : Int32).toUInt32 &&& Int32.toUInt32 31)).toInt32)), rfl, rfl, hw⟩ dJ7_numberOfTrailingZeros_79
  have bk_62 : ∀ (x0 : Int32) (x1 : Int32) (H : Heap) (locs : List Loc) (ls : Array Slot), g_HS d A s [] H locs → lv_has ls 2 [(0, .int x0), (1, .int x1)] → wb_J7_numberOfTrailingZeros_62 Q x0 x1 → W p l e ({ frames := 0, cells := 0, slots := 0, locals := 0 } : Room) s m args below meth c H locs 0 0 (g_E d (fun v w1 => ∃ (r : Int32), v = some (.int r) ∧ w1 = [] ∧ Q r) A below args s 0 0) (F0 m 62 ls []) := by
    intro x0 x1 H locs ls hH hl hw
    unfold wb_J7_numberOfTrailingZeros_62 at hw
    refine lv_iload_n hF.1.1 hF.1.2.1 dJ7_numberOfTrailingZeros_62 rfl (lv_at hl 0 rfl) ?_
    refine lv_iconst (v := 4) hF.1.1 hF.1.2.1 dJ7_numberOfTrailingZeros_63 (by decide) ?_
    refine lv_icmp_le (tgt := 74) hF.1.1 hF.1.2.1 dJ7_numberOfTrailingZeros_64 (by decide) (fun c_6 => ?_) (fun c_6 => ?_)
    · have hw := hw.1 c_6
      exact bk_74 x0 x1 _ _ _ hH hl hw
    · have hw := hw.2 c_6
      refine lv_iinc (v := (x1 + 2)) (lv' := [(1, .int (x1 + 2)), (0, .int x0)]) hF.1.1 hF.1.2.1 dJ7_numberOfTrailingZeros_67 hl (k := 1) rfl rfl (by decide) rfl (fun ls hl => ?_)
      refine lv_iload_n hF.1.1 hF.1.2.1 dJ7_numberOfTrailingZeros_70 rfl (lv_at hl 1 rfl) ?_
      refine lv_iconst (v := 2) hF.1.1 hF.1.2.1 dJ7_numberOfTrailingZeros_71 (by decide) ?_
      refine lv_iushr (v := (x0.toUInt32 >>> ((2 : Int32).toUInt32 &&& Int32.toUInt32 31)).toInt32) hF.1.1 hF.1.2.1 dJ7_numberOfTrailingZeros_72 rfl ?_
      refine lv_istore_n (lv' := [(0, .int ((x0.toUInt32 >>> ((2 : Int32).toUInt32 &&& Int32.toUInt32 31)).toInt32)), (1, .int (x1 + 2))]) hF.1.1 hF.1.2.1 dJ7_numberOfTrailingZeros_73 rfl hl (by decide) rfl (fun ls hl => ?_)
      exact bk_74 ((x0.toUInt32 >>> ((2 : Int32).toUInt32 &&& Int32.toUInt32 31)).toInt32) (x1 + 2) _ _ _ hH hl hw
  have bk_49 : ∀ (x0 : Int32) (x1 : Int32) (H : Heap) (locs : List Loc) (ls : Array Slot), g_HS d A s [] H locs → lv_has ls 2 [(0, .int x0), (1, .int x1)] → wb_J7_numberOfTrailingZeros_49 Q x0 x1 → W p l e ({ frames := 0, cells := 0, slots := 0, locals := 0 } : Room) s m args below meth c H locs 0 0 (g_E d (fun v w1 => ∃ (r : Int32), v = some (.int r) ∧ w1 = [] ∧ Q r) A below args s 0 0) (F0 m 49 ls []) := by
    intro x0 x1 H locs ls hH hl hw
    unfold wb_J7_numberOfTrailingZeros_49 at hw
    refine lv_iload_n hF.1.1 hF.1.2.1 dJ7_numberOfTrailingZeros_49 rfl (lv_at hl 0 rfl) ?_
    refine lv_bipush (v := 16) hF.1.1 hF.1.2.1 dJ7_numberOfTrailingZeros_50 (by decide) ?_
    refine lv_icmp_le (tgt := 62) hF.1.1 hF.1.2.1 dJ7_numberOfTrailingZeros_52 (by decide) (fun c_7 => ?_) (fun c_7 => ?_)
    · have hw := hw.1 c_7
      exact bk_62 x0 x1 _ _ _ hH hl hw
    · have hw := hw.2 c_7
      refine lv_iinc (v := (x1 + 4)) (lv' := [(1, .int (x1 + 4)), (0, .int x0)]) hF.1.1 hF.1.2.1 dJ7_numberOfTrailingZeros_55 hl (k := 1) rfl rfl (by decide) rfl (fun ls hl => ?_)
      refine lv_iload_n hF.1.1 hF.1.2.1 dJ7_numberOfTrailingZeros_58 rfl (lv_at hl 1 rfl) ?_
      refine lv_iconst (v := 4) hF.1.1 hF.1.2.1 dJ7_numberOfTrailingZeros_59 (by decide) ?_
      refine lv_iushr (v := (x0.toUInt32 >>> ((4 : Int32).toUInt32 &&& Int32.toUInt32 31)).toInt32) hF.1.1 hF.1.2.1 dJ7_numberOfTrailingZeros_60 rfl ?_
      refine lv_istore_n (lv' := [(0, .int ((x0.toUInt32 >>> ((4 : Int32).toUInt32 &&& Int32.toUInt32 31)).toInt32)), (1, .int (x1 + 4))]) hF.1.1 hF.1.2.1 dJ7_numberOfTrailingZeros_61 rfl hl (by decide) rfl (fun ls hl => ?_)
      exact bk_62 ((x0.toUInt32 >>> ((4 : Int32).toUInt32 &&& Int32.toUInt32 31)).toInt32) (x1 + 4) _ _ _ hH hl hw
  have bk_34 : ∀ (x0 : Int32) (x1 : Int32) (H : Heap) (locs : List Loc) (ls : Array Slot), g_HS d A s [] H locs → lv_has ls 2 [(0, .int x0), (1, .int x1)] → wb_J7_numberOfTrailingZeros_34 Q x0 x1 → W p l e ({ frames := 0, cells := 0, slots := 0, locals := 0 } : Room) s m args below meth c H locs 0 0 (g_E d (fun v w1 => ∃ (r : Int32), v = some (.int r) ∧ w1 = [] ∧ Q r) A below args s 0 0) (F0 m 34 ls []) := by
    intro x0 x1 H locs ls hH hl hw
    unfold wb_J7_numberOfTrailingZeros_34 at hw
    refine lv_iload_n hF.1.1 hF.1.2.1 dJ7_numberOfTrailingZeros_34 rfl (lv_at hl 0 rfl) ?_
    refine lv_sipush (v := 256) hF.1.1 hF.1.2.1 dJ7_numberOfTrailingZeros_35 (by decide) ?_
    refine lv_icmp_le (tgt := 49) hF.1.1 hF.1.2.1 dJ7_numberOfTrailingZeros_38 (by decide) (fun c_8 => ?_) (fun c_8 => ?_)
    · have hw := hw.1 c_8
      exact bk_49 x0 x1 _ _ _ hH hl hw
    · have hw := hw.2 c_8
      refine lv_iinc (v := (x1 + 8)) (lv' := [(1, .int (x1 + 8)), (0, .int x0)]) hF.1.1 hF.1.2.1 dJ7_numberOfTrailingZeros_41 hl (k := 1) rfl rfl (by decide) rfl (fun ls hl => ?_)
      refine lv_iload_n hF.1.1 hF.1.2.1 dJ7_numberOfTrailingZeros_44 rfl (lv_at hl 1 rfl) ?_
      refine lv_bipush (v := 8) hF.1.1 hF.1.2.1 dJ7_numberOfTrailingZeros_45 (by decide) ?_
      refine lv_iushr (v := (x0.toUInt32 >>> ((8 : Int32).toUInt32 &&& Int32.toUInt32 31)).toInt32) hF.1.1 hF.1.2.1 dJ7_numberOfTrailingZeros_47 rfl ?_
      refine lv_istore_n (lv' := [(0, .int ((x0.toUInt32 >>> ((8 : Int32).toUInt32 &&& Int32.toUInt32 31)).toInt32)), (1, .int (x1 + 8))]) hF.1.1 hF.1.2.1 dJ7_numberOfTrailingZeros_48 rfl hl (by decide) rfl (fun ls hl => ?_)
      exact bk_49 ((x0.toUInt32 >>> ((8 : Int32).toUInt32 &&& Int32.toUInt32 31)).toInt32) (x1 + 8) _ _ _ hH hl hw
  unfold wp_J7_numberOfTrailingZeros at hw
  refine lv_iload_n hF.1.1 hF.1.2.1 dJ7_numberOfTrailingZeros_0 rfl (lv_at hl 0 rfl) ?_
  refine lv_iconst (v := (-1)) hF.1.1 hF.1.2.1 dJ7_numberOfTrailingZeros_1 (by decide) ?_
  refine lv_ixor hF.1.1 hF.1.2.1 dJ7_numberOfTrailingZeros_2 ?_
  refine lv_iload_n hF.1.1 hF.1.2.1 dJ7_numberOfTrailingZeros_3 rfl (lv_at hl 0 rfl) ?_
  refine lv_iconst (v := 1) hF.1.1 hF.1.2.1 dJ7_numberOfTrailingZeros_4 (by decide) ?_
  refine lv_isub hF.1.1 hF.1.2.1 dJ7_numberOfTrailingZeros_5 ?_
  refine lv_iand hF.1.1 hF.1.2.1 dJ7_numberOfTrailingZeros_6 ?_
  refine lv_istore_n (lv' := [(0, .int ((a1 ^^^ (-1)) &&& (a1 - 1)))]) hF.1.1 hF.1.2.1 dJ7_numberOfTrailingZeros_7 rfl hl (by decide) rfl (fun ls hl => ?_)
  refine lv_iload_n hF.1.1 hF.1.2.1 dJ7_numberOfTrailingZeros_8 rfl (lv_at hl 0 rfl) ?_
  refine lv_if_gt (tgt := 17) hF.1.1 hF.1.2.1 dJ7_numberOfTrailingZeros_9 (by decide) (fun c_9 => ?_) (fun c_9 => ?_)
  · have hw := hw.1 c_9
    refine lv_iconst (v := 1) hF.1.1 hF.1.2.1 dJ7_numberOfTrailingZeros_17 (by decide) ?_
    refine lv_istore_n (lv' := [(1, .int 1), (0, .int ((a1 ^^^ (-1)) &&& (a1 - 1)))]) hF.1.1 hF.1.2.1 dJ7_numberOfTrailingZeros_18 rfl hl (by decide) rfl (fun ls hl => ?_)
    refine lv_iload_n hF.1.1 hF.1.2.1 dJ7_numberOfTrailingZeros_19 rfl (lv_at hl 1 rfl) ?_
    refine lv_ldcw hF.1.1 hF.1.2.1 hF.1.2.2.2.1 (hF.1.2.2.2.2 _ q483) dJ7_numberOfTrailingZeros_20 ?_
    refine lv_icmp_le (tgt := 34) hF.1.1 hF.1.2.1 dJ7_numberOfTrailingZeros_23 (by decide) (fun c_10 => ?_) (fun c_10 => ?_)
    · have hw := hw.1 c_10
      have hl := lv_sub hl (l' := [(0, .int ((a1 ^^^ (-1)) &&& (a1 - 1))), (1, .int 1)]) [1, 0] rfl
      exact bk_34 ((a1 ^^^ (-1)) &&& (a1 - 1)) 1 _ _ _ hH hl hw
    · have hw := hw.2 c_10
      refine lv_iinc (v := (1 + 16)) (lv' := [(1, .int (1 + 16)), (0, .int ((a1 ^^^ (-1)) &&& (a1 - 1)))]) hF.1.1 hF.1.2.1 dJ7_numberOfTrailingZeros_26 hl (k := 0) rfl rfl (by decide) rfl (fun ls hl => ?_)
      refine lv_iload_n hF.1.1 hF.1.2.1 dJ7_numberOfTrailingZeros_29 rfl (lv_at hl 1 rfl) ?_
      refine lv_bipush (v := 16) hF.1.1 hF.1.2.1 dJ7_numberOfTrailingZeros_30 (by decide) ?_
      refine lv_iushr (v := (((a1 ^^^ (-1)) &&& (a1 - 1)).toUInt32 >>> ((16 : Int32).toUInt32 &&& Int32.toUInt32 31)).toInt32) hF.1.1 hF.1.2.1 dJ7_numberOfTrailingZeros_32 rfl ?_
      refine lv_istore_n (lv' := [(0, .int ((((a1 ^^^ (-1)) &&& (a1 - 1)).toUInt32 >>> ((16 : Int32).toUInt32 &&& Int32.toUInt32 31)).toInt32)), (1, .int (1 + 16))]) hF.1.1 hF.1.2.1 dJ7_numberOfTrailingZeros_33 rfl hl (by decide) rfl (fun ls hl => ?_)
      exact bk_34 ((((a1 ^^^ (-1)) &&& (a1 - 1)).toUInt32 >>> ((16 : Int32).toUInt32 &&& Int32.toUInt32 31)).toInt32) (1 + 16) _ _ _ hH hl hw
  · have hw := hw.2 c_9
    refine lv_iload_n hF.1.1 hF.1.2.1 dJ7_numberOfTrailingZeros_12 rfl (lv_at hl 0 rfl) ?_
    refine lv_bipush (v := 32) hF.1.1 hF.1.2.1 dJ7_numberOfTrailingZeros_13 (by decide) ?_
    refine lv_iand hF.1.1 hF.1.2.1 dJ7_numberOfTrailingZeros_15 ?_
    exact g_iret hF hH ⟨(((a1 ^^^ (-1)) &&& (a1 - 1)) &&& 32), rfl, rfl, hw⟩ dJ7_numberOfTrailingZeros_16

def wp_J7_bitCount (a1 : Int32) (Q : Int32 → Prop) : Prop := (Q ((((((((a1 - (((a1.toUInt32 >>> ((1 : Int32).toUInt32 &&& Int32.toUInt32 31)).toInt32) &&& 1431655765)) &&& 858993459) + ((((a1 - (((a1.toUInt32 >>> ((1 : Int32).toUInt32 &&& Int32.toUInt32 31)).toInt32) &&& 1431655765)).toUInt32 >>> ((2 : Int32).toUInt32 &&& Int32.toUInt32 31)).toInt32) &&& 858993459)) + (((((a1 - (((a1.toUInt32 >>> ((1 : Int32).toUInt32 &&& Int32.toUInt32 31)).toInt32) &&& 1431655765)) &&& 858993459) + ((((a1 - (((a1.toUInt32 >>> ((1 : Int32).toUInt32 &&& Int32.toUInt32 31)).toInt32) &&& 1431655765)).toUInt32 >>> ((2 : Int32).toUInt32 &&& Int32.toUInt32 31)).toInt32) &&& 858993459)).toUInt32 >>> ((4 : Int32).toUInt32 &&& Int32.toUInt32 31)).toInt32)) &&& 252645135) + (((((((a1 - (((a1.toUInt32 >>> ((1 : Int32).toUInt32 &&& Int32.toUInt32 31)).toInt32) &&& 1431655765)) &&& 858993459) + ((((a1 - (((a1.toUInt32 >>> ((1 : Int32).toUInt32 &&& Int32.toUInt32 31)).toInt32) &&& 1431655765)).toUInt32 >>> ((2 : Int32).toUInt32 &&& Int32.toUInt32 31)).toInt32) &&& 858993459)) + (((((a1 - (((a1.toUInt32 >>> ((1 : Int32).toUInt32 &&& Int32.toUInt32 31)).toInt32) &&& 1431655765)) &&& 858993459) + ((((a1 - (((a1.toUInt32 >>> ((1 : Int32).toUInt32 &&& Int32.toUInt32 31)).toInt32) &&& 1431655765)).toUInt32 >>> ((2 : Int32).toUInt32 &&& Int32.toUInt32 31)).toInt32) &&& 858993459)).toUInt32 >>> ((4 : Int32).toUInt32 &&& Int32.toUInt32 31)).toInt32)) &&& 252645135).toUInt32 >>> ((8 : Int32).toUInt32 &&& Int32.toUInt32 31)).toInt32)) + ((((((((a1 - (((a1.toUInt32 >>> ((1 : Int32).toUInt32 &&& Int32.toUInt32 31)).toInt32) &&& 1431655765)) &&& 858993459) + ((((a1 - (((a1.toUInt32 >>> ((1 : Int32).toUInt32 &&& Int32.toUInt32 31)).toInt32) &&& 1431655765)).toUInt32 >>> ((2 : Int32).toUInt32 &&& Int32.toUInt32 31)).toInt32) &&& 858993459)) + (((((a1 - (((a1.toUInt32 >>> ((1 : Int32).toUInt32 &&& Int32.toUInt32 31)).toInt32) &&& 1431655765)) &&& 858993459) + ((((a1 - (((a1.toUInt32 >>> ((1 : Int32).toUInt32 &&& Int32.toUInt32 31)).toInt32) &&& 1431655765)).toUInt32 >>> ((2 : Int32).toUInt32 &&& Int32.toUInt32 31)).toInt32) &&& 858993459)).toUInt32 >>> ((4 : Int32).toUInt32 &&& Int32.toUInt32 31)).toInt32)) &&& 252645135) + (((((((a1 - (((a1.toUInt32 >>> ((1 : Int32).toUInt32 &&& Int32.toUInt32 31)).toInt32) &&& 1431655765)) &&& 858993459) + ((((a1 - (((a1.toUInt32 >>> ((1 : Int32).toUInt32 &&& Int32.toUInt32 31)).toInt32) &&& 1431655765)).toUInt32 >>> ((2 : Int32).toUInt32 &&& Int32.toUInt32 31)).toInt32) &&& 858993459)) + (((((a1 - (((a1.toUInt32 >>> ((1 : Int32).toUInt32 &&& Int32.toUInt32 31)).toInt32) &&& 1431655765)) &&& 858993459) + ((((a1 - (((a1.toUInt32 >>> ((1 : Int32).toUInt32 &&& Int32.toUInt32 31)).toInt32) &&& 1431655765)).toUInt32 >>> ((2 : Int32).toUInt32 &&& Int32.toUInt32 31)).toInt32) &&& 858993459)).toUInt32 >>> ((4 : Int32).toUInt32 &&& Int32.toUInt32 31)).toInt32)) &&& 252645135).toUInt32 >>> ((8 : Int32).toUInt32 &&& Int32.toUInt32 31)).toInt32)).toUInt32 >>> ((16 : Int32).toUInt32 &&& Int32.toUInt32 31)).toInt32)) &&& 63))
set_option maxHeartbeats 4000000 in
set_option maxRecDepth 100000 in
theorem met_J7_bitCount (l : Launch) (hl0 : l.stackTraces = false) (d : g_D) (a1 : Int32) (Q : Int32 → Prop) (hw : wp_J7_bitCount a1 Q) : g_Met l d yJ7_bitCount cJ7_bitCount 1 (Option.some FieldType.int) ({ frames := 0, cells := 0, slots := 0, locals := 0 } : Room) [.int a1] [] 0 0 (fun v w1 => ∃ (r : Int32), v = some (.int r) ∧ w1 = [] ∧ Q r) := by
  refine g_enter (by decide) (Nat.le_of_ble_eq_true rfl) ?_
  intro p e s m args below meth c A ls hF hH hl hin
  have hF : g_F p m c cJ7_bitCount 1 s args RJ7 meth (Option.some FieldType.int) := hF
  have hl : lv_has ls 1 [(0, .int a1)] := hl
  unfold wp_J7_bitCount at hw
  refine lv_iload_n hF.1.1 hF.1.2.1 dJ7_bitCount_0 rfl (lv_at hl 0 rfl) ?_
  refine lv_iload_n hF.1.1 hF.1.2.1 dJ7_bitCount_1 rfl (lv_at hl 0 rfl) ?_
  refine lv_iconst (v := 1) hF.1.1 hF.1.2.1 dJ7_bitCount_2 (by decide) ?_
  refine lv_iushr (v := (a1.toUInt32 >>> ((1 : Int32).toUInt32 &&& Int32.toUInt32 31)).toInt32) hF.1.1 hF.1.2.1 dJ7_bitCount_3 rfl ?_
  refine lv_ldcw hF.1.1 hF.1.2.1 hF.1.2.2.2.1 (hF.1.2.2.2.2 _ q375) dJ7_bitCount_4 ?_
  refine lv_iand hF.1.1 hF.1.2.1 dJ7_bitCount_7 ?_
  refine lv_isub hF.1.1 hF.1.2.1 dJ7_bitCount_8 ?_
  refine lv_istore_n (lv' := [(0, .int (a1 - (((a1.toUInt32 >>> ((1 : Int32).toUInt32 &&& Int32.toUInt32 31)).toInt32) &&& 1431655765)))]) hF.1.1 hF.1.2.1 dJ7_bitCount_9 rfl hl (by decide) rfl (fun ls hl => ?_)
  refine lv_iload_n hF.1.1 hF.1.2.1 dJ7_bitCount_10 rfl (lv_at hl 0 rfl) ?_
  refine lv_ldcw hF.1.1 hF.1.2.1 hF.1.2.2.2.1 (hF.1.2.2.2.2 _ q376) dJ7_bitCount_11 ?_
  refine lv_iand hF.1.1 hF.1.2.1 dJ7_bitCount_14 ?_
  refine lv_iload_n hF.1.1 hF.1.2.1 dJ7_bitCount_15 rfl (lv_at hl 0 rfl) ?_
  refine lv_iconst (v := 2) hF.1.1 hF.1.2.1 dJ7_bitCount_16 (by decide) ?_
  refine lv_iushr (v := ((a1 - (((a1.toUInt32 >>> ((1 : Int32).toUInt32 &&& Int32.toUInt32 31)).toInt32) &&& 1431655765)).toUInt32 >>> ((2 : Int32).toUInt32 &&& Int32.toUInt32 31)).toInt32) hF.1.1 hF.1.2.1 dJ7_bitCount_17 rfl ?_
  refine lv_ldcw hF.1.1 hF.1.2.1 hF.1.2.2.2.1 (hF.1.2.2.2.2 _ q376) dJ7_bitCount_18 ?_
  refine lv_iand hF.1.1 hF.1.2.1 dJ7_bitCount_21 ?_
  refine lv_iadd hF.1.1 hF.1.2.1 dJ7_bitCount_22 ?_
  refine lv_istore_n (lv' := [(0, .int (((a1 - (((a1.toUInt32 >>> ((1 : Int32).toUInt32 &&& Int32.toUInt32 31)).toInt32) &&& 1431655765)) &&& 858993459) + ((((a1 - (((a1.toUInt32 >>> ((1 : Int32).toUInt32 &&& Int32.toUInt32 31)).toInt32) &&& 1431655765)).toUInt32 >>> ((2 : Int32).toUInt32 &&& Int32.toUInt32 31)).toInt32) &&& 858993459)))]) hF.1.1 hF.1.2.1 dJ7_bitCount_23 rfl hl (by decide) rfl (fun ls hl => ?_)
  refine lv_iload_n hF.1.1 hF.1.2.1 dJ7_bitCount_24 rfl (lv_at hl 0 rfl) ?_
  refine lv_iload_n hF.1.1 hF.1.2.1 dJ7_bitCount_25 rfl (lv_at hl 0 rfl) ?_
  refine lv_iconst (v := 4) hF.1.1 hF.1.2.1 dJ7_bitCount_26 (by decide) ?_
  refine lv_iushr (v := ((((a1 - (((a1.toUInt32 >>> ((1 : Int32).toUInt32 &&& Int32.toUInt32 31)).toInt32) &&& 1431655765)) &&& 858993459) + ((((a1 - (((a1.toUInt32 >>> ((1 : Int32).toUInt32 &&& Int32.toUInt32 31)).toInt32) &&& 1431655765)).toUInt32 >>> ((2 : Int32).toUInt32 &&& Int32.toUInt32 31)).toInt32) &&& 858993459)).toUInt32 >>> ((4 : Int32).toUInt32 &&& Int32.toUInt32 31)).toInt32) hF.1.1 hF.1.2.1 dJ7_bitCount_27 rfl ?_
  refine lv_iadd hF.1.1 hF.1.2.1 dJ7_bitCount_28 ?_
  refine lv_ldcw hF.1.1 hF.1.2.1 hF.1.2.2.2.1 (hF.1.2.2.2.2 _ q377) dJ7_bitCount_29 ?_
  refine lv_iand hF.1.1 hF.1.2.1 dJ7_bitCount_32 ?_
  refine lv_istore_n (lv' := [(0, .int (((((a1 - (((a1.toUInt32 >>> ((1 : Int32).toUInt32 &&& Int32.toUInt32 31)).toInt32) &&& 1431655765)) &&& 858993459) + ((((a1 - (((a1.toUInt32 >>> ((1 : Int32).toUInt32 &&& Int32.toUInt32 31)).toInt32) &&& 1431655765)).toUInt32 >>> ((2 : Int32).toUInt32 &&& Int32.toUInt32 31)).toInt32) &&& 858993459)) + (((((a1 - (((a1.toUInt32 >>> ((1 : Int32).toUInt32 &&& Int32.toUInt32 31)).toInt32) &&& 1431655765)) &&& 858993459) + ((((a1 - (((a1.toUInt32 >>> ((1 : Int32).toUInt32 &&& Int32.toUInt32 31)).toInt32) &&& 1431655765)).toUInt32 >>> ((2 : Int32).toUInt32 &&& Int32.toUInt32 31)).toInt32) &&& 858993459)).toUInt32 >>> ((4 : Int32).toUInt32 &&& Int32.toUInt32 31)).toInt32)) &&& 252645135))]) hF.1.1 hF.1.2.1 dJ7_bitCount_33 rfl hl (by decide) rfl (fun ls hl => ?_)
  refine lv_iload_n hF.1.1 hF.1.2.1 dJ7_bitCount_34 rfl (lv_at hl 0 rfl) ?_
  refine lv_iload_n hF.1.1 hF.1.2.1 dJ7_bitCount_35 rfl (lv_at hl 0 rfl) ?_
  refine lv_bipush (v := 8) hF.1.1 hF.1.2.1 dJ7_bitCount_36 (by decide) ?_
  refine lv_iushr (v := ((((((a1 - (((a1.toUInt32 >>> ((1 : Int32).toUInt32 &&& Int32.toUInt32 31)).toInt32) &&& 1431655765)) &&& 858993459) + ((((a1 - (((a1.toUInt32 >>> ((1 : Int32).toUInt32 &&& Int32.toUInt32 31)).toInt32) &&& 1431655765)).toUInt32 >>> ((2 : Int32).toUInt32 &&& Int32.toUInt32 31)).toInt32) &&& 858993459)) + (((((a1 - (((a1.toUInt32 >>> ((1 : Int32).toUInt32 &&& Int32.toUInt32 31)).toInt32) &&& 1431655765)) &&& 858993459) + ((((a1 - (((a1.toUInt32 >>> ((1 : Int32).toUInt32 &&& Int32.toUInt32 31)).toInt32) &&& 1431655765)).toUInt32 >>> ((2 : Int32).toUInt32 &&& Int32.toUInt32 31)).toInt32) &&& 858993459)).toUInt32 >>> ((4 : Int32).toUInt32 &&& Int32.toUInt32 31)).toInt32)) &&& 252645135).toUInt32 >>> ((8 : Int32).toUInt32 &&& Int32.toUInt32 31)).toInt32) hF.1.1 hF.1.2.1 dJ7_bitCount_38 rfl ?_
  refine lv_iadd hF.1.1 hF.1.2.1 dJ7_bitCount_39 ?_
  refine lv_istore_n (lv' := [(0, .int ((((((a1 - (((a1.toUInt32 >>> ((1 : Int32).toUInt32 &&& Int32.toUInt32 31)).toInt32) &&& 1431655765)) &&& 858993459) + ((((a1 - (((a1.toUInt32 >>> ((1 : Int32).toUInt32 &&& Int32.toUInt32 31)).toInt32) &&& 1431655765)).toUInt32 >>> ((2 : Int32).toUInt32 &&& Int32.toUInt32 31)).toInt32) &&& 858993459)) + (((((a1 - (((a1.toUInt32 >>> ((1 : Int32).toUInt32 &&& Int32.toUInt32 31)).toInt32) &&& 1431655765)) &&& 858993459) + ((((a1 - (((a1.toUInt32 >>> ((1 : Int32).toUInt32 &&& Int32.toUInt32 31)).toInt32) &&& 1431655765)).toUInt32 >>> ((2 : Int32).toUInt32 &&& Int32.toUInt32 31)).toInt32) &&& 858993459)).toUInt32 >>> ((4 : Int32).toUInt32 &&& Int32.toUInt32 31)).toInt32)) &&& 252645135) + (((((((a1 - (((a1.toUInt32 >>> ((1 : Int32).toUInt32 &&& Int32.toUInt32 31)).toInt32) &&& 1431655765)) &&& 858993459) + ((((a1 - (((a1.toUInt32 >>> ((1 : Int32).toUInt32 &&& Int32.toUInt32 31)).toInt32) &&& 1431655765)).toUInt32 >>> ((2 : Int32).toUInt32 &&& Int32.toUInt32 31)).toInt32) &&& 858993459)) + (((((a1 - (((a1.toUInt32 >>> ((1 : Int32).toUInt32 &&& Int32.toUInt32 31)).toInt32) &&& 1431655765)) &&& 858993459) + ((((a1 - (((a1.toUInt32 >>> ((1 : Int32).toUInt32 &&& Int32.toUInt32 31)).toInt32) &&& 1431655765)).toUInt32 >>> ((2 : Int32).toUInt32 &&& Int32.toUInt32 31)).toInt32) &&& 858993459)).toUInt32 >>> ((4 : Int32).toUInt32 &&& Int32.toUInt32 31)).toInt32)) &&& 252645135).toUInt32 >>> ((8 : Int32).toUInt32 &&& Int32.toUInt32 31)).toInt32)))]) hF.1.1 hF.1.2.1 dJ7_bitCount_40 rfl hl (by decide) rfl (fun ls hl => ?_)
  refine lv_iload_n hF.1.1 hF.1.2.1 dJ7_bitCount_41 rfl (lv_at hl 0 rfl) ?_
  refine lv_iload_n hF.1.1 hF.1.2.1 dJ7_bitCount_42 rfl (lv_at hl 0 rfl) ?_
  refine lv_bipush (v := 16) hF.1.1 hF.1.2.1 dJ7_bitCount_43 (by decide) ?_
  refine lv_iushr (v := (((((((a1 - (((a1.toUInt32 >>> ((1 : Int32).toUInt32 &&& Int32.toUInt32 31)).toInt32) &&& 1431655765)) &&& 858993459) + ((((a1 - (((a1.toUInt32 >>> ((1 : Int32).toUInt32 &&& Int32.toUInt32 31)).toInt32) &&& 1431655765)).toUInt32 >>> ((2 : Int32).toUInt32 &&& Int32.toUInt32 31)).toInt32) &&& 858993459)) + (((((a1 - (((a1.toUInt32 >>> ((1 : Int32).toUInt32 &&& Int32.toUInt32 31)).toInt32) &&& 1431655765)) &&& 858993459) + ((((a1 - (((a1.toUInt32 >>> ((1 : Int32).toUInt32 &&& Int32.toUInt32 31)).toInt32) &&& 1431655765)).toUInt32 >>> ((2 : Int32).toUInt32 &&& Int32.toUInt32 31)).toInt32) &&& 858993459)).toUInt32 >>> ((4 : Int32).toUInt32 &&& Int32.toUInt32 31)).toInt32)) &&& 252645135) + (((((((a1 - (((a1.toUInt32 >>> ((1 : Int32).toUInt32 &&& Int32.toUInt32 31)).toInt32) &&& 1431655765)) &&& 858993459) + ((((a1 - (((a1.toUInt32 >>> ((1 : Int32).toUInt32 &&& Int32.toUInt32 31)).toInt32) &&& 1431655765)).toUInt32 >>> ((2 : Int32).toUInt32 &&& Int32.toUInt32 31)).toInt32) &&& 858993459)) + (((((a1 - (((a1.toUInt32 >>> ((1 : Int32).toUInt32 &&& Int32.toUInt32 31)).toInt32) &&& 1431655765)) &&& 858993459) + ((((a1 - (((a1.toUInt32 >>> ((1 : Int32).toUInt32 &&& Int32.toUInt32 31)).toInt32) &&& 1431655765)).toUInt32 >>> ((2 : Int32).toUInt32 &&& Int32.toUInt32 31)).toInt32) &&& 858993459)).toUInt32 >>> ((4 : Int32).toUInt32 &&& Int32.toUInt32 31)).toInt32)) &&& 252645135).toUInt32 >>> ((8 : Int32).toUInt32 &&& Int32.toUInt32 31)).toInt32)).toUInt32 >>> ((16 : Int32).toUInt32 &&& Int32.toUInt32 31)).toInt32) hF.1.1 hF.1.2.1 dJ7_bitCount_45 rfl ?_
  refine lv_iadd hF.1.1 hF.1.2.1 dJ7_bitCount_46 ?_
  refine lv_istore_n (lv' := [(0, .int (((((((a1 - (((a1.toUInt32 >>> ((1 : Int32).toUInt32 &&& Int32.toUInt32 31)).toInt32) &&& 1431655765)) &&& 858993459) + ((((a1 - (((a1.toUInt32 >>> ((1 : Int32).toUInt32 &&& Int32.toUInt32 31)).toInt32) &&& 1431655765)).toUInt32 >>> ((2 : Int32).toUInt32 &&& Int32.toUInt32 31)).toInt32) &&& 858993459)) + (((((a1 - (((a1.toUInt32 >>> ((1 : Int32).toUInt32 &&& Int32.toUInt32 31)).toInt32) &&& 1431655765)) &&& 858993459) + ((((a1 - (((a1.toUInt32 >>> ((1 : Int32).toUInt32 &&& Int32.toUInt32 31)).toInt32) &&& 1431655765)).toUInt32 >>> ((2 : Int32).toUInt32 &&& Int32.toUInt32 31)).toInt32) &&& 858993459)).toUInt32 >>> ((4 : Int32).toUInt32 &&& Int32.toUInt32 31)).toInt32)) &&& 252645135) + (((((((a1 - (((a1.toUInt32 >>> ((1 : Int32).toUInt32 &&& Int32.toUInt32 31)).toInt32) &&& 1431655765)) &&& 858993459) + ((((a1 - (((a1.toUInt32 >>> ((1 : Int32).toUInt32 &&& Int32.toUInt32 31)).toInt32) &&& 1431655765)).toUInt32 >>> ((2 : Int32).toUInt32 &&& Int32.toUInt32 31)).toInt32) &&& 858993459)) + (((((a1 - (((a1.toUInt32 >>> ((1 : Int32).toUInt32 &&& Int32.toUInt32 31)).toInt32) &&& 1431655765)) &&& 858993459) + ((((a1 - (((a1.toUInt32 >>> ((1 : Int32).toUInt32 &&& Int32.toUInt32 31)).toInt32) &&& 1431655765)).toUInt32 >>> ((2 : Int32).toUInt32 &&& Int32.toUInt32 31)).toInt32) &&& 858993459)).toUInt32 >>> ((4 : Int32).toUInt32 &&& Int32.toUInt32 31)).toInt32)) &&& 252645135).toUInt32 >>> ((8 : Int32).toUInt32 &&& Int32.toUInt32 31)).toInt32)) + ((((((((a1 - (((a1.toUInt32 >>> ((1 : Int32).toUInt32 &&& Int32.toUInt32 31)).toInt32) &&& 1431655765)) &&& 858993459) + ((((a1 - (((a1.toUInt32 >>> ((1 : Int32).toUInt32 &&& Int32.toUInt32 31)).toInt32) &&& 1431655765)).toUInt32 >>> ((2 : Int32).toUInt32 &&& Int32.toUInt32 31)).toInt32) &&& 858993459)) + (((((a1 - (((a1.toUInt32 >>> ((1 : Int32).toUInt32 &&& Int32.toUInt32 31)).toInt32) &&& 1431655765)) &&& 858993459) + ((((a1 - (((a1.toUInt32 >>> ((1 : Int32).toUInt32 &&& Int32.toUInt32 31)).toInt32) &&& 1431655765)).toUInt32 >>> ((2 : Int32).toUInt32 &&& Int32.toUInt32 31)).toInt32) &&& 858993459)).toUInt32 >>> ((4 : Int32).toUInt32 &&& Int32.toUInt32 31)).toInt32)) &&& 252645135) + (((((((a1 - (((a1.toUInt32 >>> ((1 : Int32).toUInt32 &&& Int32.toUInt32 31)).toInt32) &&& 1431655765)) &&& 858993459) + ((((a1 - (((a1.toUInt32 >>> ((1 : Int32).toUInt32 &&& Int32.toUInt32 31)).toInt32) &&& 1431655765)).toUInt32 >>> ((2 : Int32).toUInt32 &&& Int32.toUInt32 31)).toInt32) &&& 858993459)) + (((((a1 - (((a1.toUInt32 >>> ((1 : Int32).toUInt32 &&& Int32.toUInt32 31)).toInt32) &&& 1431655765)) &&& 858993459) + ((((a1 - (((a1.toUInt32 >>> ((1 : Int32).toUInt32 &&& Int32.toUInt32 31)).toInt32) &&& 1431655765)).toUInt32 >>> ((2 : Int32).toUInt32 &&& Int32.toUInt32 31)).toInt32) &&& 858993459)).toUInt32 >>> ((4 : Int32).toUInt32 &&& Int32.toUInt32 31)).toInt32)) &&& 252645135).toUInt32 >>> ((8 : Int32).toUInt32 &&& Int32.toUInt32 31)).toInt32)).toUInt32 >>> ((16 : Int32).toUInt32 &&& Int32.toUInt32 31)).toInt32)))]) hF.1.1 hF.1.2.1 dJ7_bitCount_47 rfl hl (by decide) rfl (fun ls hl => ?_)
  refine lv_iload_n hF.1.1 hF.1.2.1 dJ7_bitCount_48 rfl (lv_at hl 0 rfl) ?_
  refine lv_bipush (v := 63) hF.1.1 hF.1.2.1 dJ7_bitCount_49 (by decide) ?_
  refine lv_iand hF.1.1 hF.1.2.1 dJ7_bitCount_51 ?_
  exact g_iret hF hH ⟨((((((((a1 - (((a1.toUInt32 >>> ((1 : Int32).toUInt32 &&& Int32.toUInt32 31)).toInt32) &&& 1431655765)) &&& 858993459) + ((((a1 - (((a1.toUInt32 >>> ((1 : Int32).toUInt32 &&& Int32.toUInt32 31)).toInt32) &&& 1431655765)).toUInt32 >>> ((2 : Int32).toUInt32 &&& Int32.toUInt32 31)).toInt32) &&& 858993459)) + (((((a1 - (((a1.toUInt32 >>> ((1 : Int32).toUInt32 &&& Int32.toUInt32 31)).toInt32) &&& 1431655765)) &&& 858993459) + ((((a1 - (((a1.toUInt32 >>> ((1 : Int32).toUInt32 &&& Int32.toUInt32 31)).toInt32) &&& 1431655765)).toUInt32 >>> ((2 : Int32).toUInt32 &&& Int32.toUInt32 31)).toInt32) &&& 858993459)).toUInt32 >>> ((4 : Int32).toUInt32 &&& Int32.toUInt32 31)).toInt32)) &&& 252645135) + (((((((a1 - (((a1.toUInt32 >>> ((1 : Int32).toUInt32 &&& Int32.toUInt32 31)).toInt32) &&& 1431655765)) &&& 858993459) + ((((a1 - (((a1.toUInt32 >>> ((1 : Int32).toUInt32 &&& Int32.toUInt32 31)).toInt32) &&& 1431655765)).toUInt32 >>> ((2 : Int32).toUInt32 &&& Int32.toUInt32 31)).toInt32) &&& 858993459)) + (((((a1 - (((a1.toUInt32 >>> ((1 : Int32).toUInt32 &&& Int32.toUInt32 31)).toInt32) &&& 1431655765)) &&& 858993459) + ((((a1 - (((a1.toUInt32 >>> ((1 : Int32).toUInt32 &&& Int32.toUInt32 31)).toInt32) &&& 1431655765)).toUInt32 >>> ((2 : Int32).toUInt32 &&& Int32.toUInt32 31)).toInt32) &&& 858993459)).toUInt32 >>> ((4 : Int32).toUInt32 &&& Int32.toUInt32 31)).toInt32)) &&& 252645135).toUInt32 >>> ((8 : Int32).toUInt32 &&& Int32.toUInt32 31)).toInt32)) + ((((((((a1 - (((a1.toUInt32 >>> ((1 : Int32).toUInt32 &&& Int32.toUInt32 31)).toInt32) &&& 1431655765)) &&& 858993459) + ((((a1 - (((a1.toUInt32 >>> ((1 : Int32).toUInt32 &&& Int32.toUInt32 31)).toInt32) &&& 1431655765)).toUInt32 >>> ((2 : Int32).toUInt32 &&& Int32.toUInt32 31)).toInt32) &&& 858993459)) + (((((a1 - (((a1.toUInt32 >>> ((1 : Int32).toUInt32 &&& Int32.toUInt32 31)).toInt32) &&& 1431655765)) &&& 858993459) + ((((a1 - (((a1.toUInt32 >>> ((1 : Int32).toUInt32 &&& Int32.toUInt32 31)).toInt32) &&& 1431655765)).toUInt32 >>> ((2 : Int32).toUInt32 &&& Int32.toUInt32 31)).toInt32) &&& 858993459)).toUInt32 >>> ((4 : Int32).toUInt32 &&& Int32.toUInt32 31)).toInt32)) &&& 252645135) + (((((((a1 - (((a1.toUInt32 >>> ((1 : Int32).toUInt32 &&& Int32.toUInt32 31)).toInt32) &&& 1431655765)) &&& 858993459) + ((((a1 - (((a1.toUInt32 >>> ((1 : Int32).toUInt32 &&& Int32.toUInt32 31)).toInt32) &&& 1431655765)).toUInt32 >>> ((2 : Int32).toUInt32 &&& Int32.toUInt32 31)).toInt32) &&& 858993459)) + (((((a1 - (((a1.toUInt32 >>> ((1 : Int32).toUInt32 &&& Int32.toUInt32 31)).toInt32) &&& 1431655765)) &&& 858993459) + ((((a1 - (((a1.toUInt32 >>> ((1 : Int32).toUInt32 &&& Int32.toUInt32 31)).toInt32) &&& 1431655765)).toUInt32 >>> ((2 : Int32).toUInt32 &&& Int32.toUInt32 31)).toInt32) &&& 858993459)).toUInt32 >>> ((4 : Int32).toUInt32 &&& Int32.toUInt32 31)).toInt32)) &&& 252645135).toUInt32 >>> ((8 : Int32).toUInt32 &&& Int32.toUInt32 31)).toInt32)).toUInt32 >>> ((16 : Int32).toUInt32 &&& Int32.toUInt32 31)).toInt32)) &&& 63), rfl, rfl, hw⟩ dJ7_bitCount_52

def wp_X0_lowest (a1 : Int32) (Q : Int32 → Prop) : Prop := (wp_J7_numberOfTrailingZeros a1 (fun r_2 => (Q r_2)))
set_option maxHeartbeats 4000000 in
set_option maxRecDepth 100000 in
theorem met_X0_lowest (l : Launch) (hl0 : l.stackTraces = false) (d : g_D) (a1 : Int32) (Q : Int32 → Prop) (hw : wp_X0_lowest a1 Q) : g_Met l d yX0_lowest cX0_lowest 1 (Option.some FieldType.int) ({ frames := 1, cells := 0, slots := 0, locals := 21 } : Room) [.int a1] [] 0 0 (fun v w1 => ∃ (r : Int32), v = some (.int r) ∧ w1 = [] ∧ Q r) := by
  refine g_enter (by decide) (Nat.le_of_ble_eq_true rfl) ?_
  intro p e s m args below meth c A ls hF hH hl hin
  have hF : g_F p m c cX0_lowest 1 s args RX0 meth (Option.some FieldType.int) := hF
  have hl : lv_has ls 1 [(0, .int a1)] := hl
  unfold wp_X0_lowest at hw
  refine lv_iload_n hF.1.1 hF.1.2.1 dX0_lowest_0 rfl (lv_at hl 0 rfl) ?_
  refine g_cS [.int a1] 1 rfl hF (met_J7_numberOfTrailingZeros l hl0 d a1 _ hw) q480 q481 q103 q482 rfl rfl (by decide +kernel) ⟨Nat.le_of_ble_eq_true rfl, Nat.le_of_ble_eq_true rfl⟩ hH [] rfl rfl rfl hl.1 (Nat.le_of_ble_eq_true rfl) dX0_lowest_1 ⟨(by first | exact Nat.le_of_ble_eq_true rfl | omega | (dsimp only; omega)), (by first | exact Nat.le_of_ble_eq_true rfl | omega | (dsimp only; omega))⟩ (fun v w1 H locs hq hH => ?_)
  obtain ⟨r_2, rfl, rfl, hw⟩ := hq
  have hH : g_HS d A s [] H locs := hH
  refine W.eq (g2 := (F0 m 4 ls [.int r_2])) rfl ?_
  exact g_iret hF hH ⟨r_2, rfl, rfl, hw⟩ dX0_lowest_4

def wb_X0_isAny_36 (a1 : Int32) (f : Nat → Int32) (nn : Nat) (x4 : Int32) (K11 : Int32 → Int32 → Prop) (Q : Int32 → Prop) (x5 : Int32) (y0 : Int32) (y1 : Int32) : Prop := K11 (y0 ||| y1) (x5 + 1)
def wb_X0_isAny_11 (a1 : Int32) (f : Nat → Int32) (nn : Nat) (x4 : Int32) (Q : Int32 → Prop) : Nat → Int32 → Int32 → Prop
  | 0, _, _ => False
  | fu + 1, x2, x5 => ((x4 ≤ x5 → ((x2 = 0 ∨ x2 = 1) ∧ (Q x2))) ∧ (¬ x4 ≤ x5 → (vp_in x5 nn ∧ ((¬ a1 = (f x5.toNatClampNeg) → (wb_X0_isAny_36 a1 f nn x4 (wb_X0_isAny_11 a1 f nn x4 Q fu) Q x5 x2 0)) ∧ (a1 = (f x5.toNatClampNeg) → (wb_X0_isAny_36 a1 f nn x4 (wb_X0_isAny_11 a1 f nn x4 Q fu) Q x5 x2 1))))))
def wp_X0_isAny (a1 : Int32) (f : Nat → Int32) (nn : Nat) (Q : Int32 → Prop) : Prop := (∃ f11, wb_X0_isAny_11 a1 f nn (nI nn) Q f11 0 0)
set_option maxHeartbeats 4000000 in
set_option maxRecDepth 100000 in
theorem met_X0_isAny (l : Launch) (hl0 : l.stackTraces = false) (d : g_D) (a1 : Int32) (q : Nat) (f : Nat → Int32) (nn : Nat) (Q : Int32 → Prop) (hw : wp_X0_isAny a1 f nn Q) : g_Met l d yX0_isAny cX0_isAny 7 (Option.some FieldType.boolean) ({ frames := 0, cells := 0, slots := 0, locals := 0 } : Room) [.int a1, .ref q] [[(q, .inl (d.2.1 5, nn, .inl f))]] 0 0 (fun v w1 => ∃ (r : Int32), v = some (.int r) ∧ w1 = [[(q, .inl (d.2.1 5, nn, .inl f))]] ∧ Q r) := by
  refine g_enter (by decide) (Nat.le_of_ble_eq_true rfl) ?_
  intro p e s m args below meth c A ls hF hH hl hin
  have hF : g_F p m c cX0_isAny 7 s args RX0 meth (Option.some FieldType.boolean) := hF
  have hl : lv_has ls 7 [(0, .int a1), (1, .ref q)] := hl
  have bk_36 : ∀ (x4 : Int32) (K11 : Int32 → Int32 → Prop) (hK11 : ∀ (x2 : Int32) (x5 : Int32) (H : Heap) (locs : List Loc) (ls : Array Slot), g_HS d A s [[(q, .inl (d.2.1 5, nn, .inl f))]] H locs → lv_has ls 7 [(0, .int a1), (2, .int x2), (3, .ref q), (4, .int x4), (5, .int x5)] → K11 x2 x5 → W p l e ({ frames := 0, cells := 0, slots := 0, locals := 0 } : Room) s m args below meth c H locs 0 0 (g_E d (fun v w1 => ∃ (r : Int32), v = some (.int r) ∧ w1 = [[(q, .inl (d.2.1 5, nn, .inl f))]] ∧ Q r) A below args s 0 0) (F0 m 11 ls [])) (x5 : Int32) (y0 : Int32) (y1 : Int32) (H : Heap) (locs : List Loc) (ls : Array Slot), g_HS d A s [[(q, .inl (d.2.1 5, nn, .inl f))]] H locs → lv_has ls 7 [(0, .int a1), (3, .ref q), (4, .int x4), (5, .int x5)] → wb_X0_isAny_36 a1 f nn x4 K11 Q x5 y0 y1 → W p l e ({ frames := 0, cells := 0, slots := 0, locals := 0 } : Room) s m args below meth c H locs 0 0 (g_E d (fun v w1 => ∃ (r : Int32), v = some (.int r) ∧ w1 = [[(q, .inl (d.2.1 5, nn, .inl f))]] ∧ Q r) A below args s 0 0) (F0 m 36 ls [.int y1, .int y0]) := by
    intro x4 K11 hK11 x5 y0 y1 H locs ls hH hl hw
    unfold wb_X0_isAny_36 at hw
    refine lv_ior hF.1.1 hF.1.2.1 dX0_isAny_36 ?_
    refine lv_istore_n (lv' := [(2, .int (y0 ||| y1)), (0, .int a1), (3, .ref q), (4, .int x4), (5, .int x5)]) hF.1.1 hF.1.2.1 dX0_isAny_37 rfl hl (by decide) rfl (fun ls hl => ?_)
    refine lv_iinc (v := (x5 + 1)) (lv' := [(5, .int (x5 + 1)), (2, .int (y0 ||| y1)), (0, .int a1), (3, .ref q), (4, .int x4)]) hF.1.1 hF.1.2.1 dX0_isAny_38 hl (k := 4) rfl rfl (by decide) rfl (fun ls hl => ?_)
    refine lv_goto (tgt := 11) hF.1.1 hF.1.2.1 dX0_isAny_41 (by decide) ?_
    have hl := lv_sub hl (l' := [(0, .int a1), (2, .int (y0 ||| y1)), (3, .ref q), (4, .int x4), (5, .int (x5 + 1))]) [2, 1, 3, 4, 0] rfl
    exact hK11 (y0 ||| y1) (x5 + 1) _ _ _ hH hl hw
  have bk_11 : ∀ (x4 : Int32) (fu : Nat) (x2 : Int32) (x5 : Int32) (H : Heap) (locs : List Loc) (ls : Array Slot), g_HS d A s [[(q, .inl (d.2.1 5, nn, .inl f))]] H locs → lv_has ls 7 [(0, .int a1), (2, .int x2), (3, .ref q), (4, .int x4), (5, .int x5)] → wb_X0_isAny_11 a1 f nn x4 Q fu x2 x5 → W p l e ({ frames := 0, cells := 0, slots := 0, locals := 0 } : Room) s m args below meth c H locs 0 0 (g_E d (fun v w1 => ∃ (r : Int32), v = some (.int r) ∧ w1 = [[(q, .inl (d.2.1 5, nn, .inl f))]] ∧ Q r) A below args s 0 0) (F0 m 11 ls []) := by
    intro x4 fu
    induction fu with
    | zero => intro x2 x5 H locs ls hH hl hw; rw [wb_X0_isAny_11] at hw; exact hw.elim
    | succ fu ih =>
      intro x2 x5 H locs ls hH hl hw
      rw [wb_X0_isAny_11] at hw
      refine lv_iload hF.1.1 hF.1.2.1 dX0_isAny_11 (lv_at hl 4 rfl) ?_
      refine lv_iload hF.1.1 hF.1.2.1 dX0_isAny_13 (lv_at hl 3 rfl) ?_
      refine lv_icmp_ge (tgt := 44) hF.1.1 hF.1.2.1 dX0_isAny_15 (by decide) (fun c_4 => ?_) (fun c_4 => ?_)
      · have hw := hw.1 c_4
        refine lv_iload_n hF.1.1 hF.1.2.1 dX0_isAny_44 rfl (lv_at hl 1 rfl) ?_
        obtain ⟨hb_5, hw⟩ := hw
        exact g_zret hF (g_b01 hb_5) hH ⟨x2, rfl, rfl, hw⟩ dX0_isAny_45
      · have hw := hw.2 c_4
        refine lv_aload_n hF.1.1 hF.1.2.1 dX0_isAny_18 rfl (lv_at hl 2 rfl) ?_
        refine lv_iload hF.1.1 hF.1.2.1 dX0_isAny_19 (lv_at hl 4 rfl) ?_
        obtain ⟨hi_6, hw⟩ := hw
        refine g_cald hF hH 0 0 rfl rfl hi_6 dX0_isAny_21 ?_
        refine lv_istore (lv' := [(6, .int (f x5.toNatClampNeg)), (0, .int a1), (2, .int x2), (3, .ref q), (4, .int x4), (5, .int x5)]) hF.1.1 hF.1.2.1 dX0_isAny_22 hl (by decide) rfl (fun ls hl => ?_)
        refine lv_iload_n hF.1.1 hF.1.2.1 dX0_isAny_24 rfl (lv_at hl 2 rfl) ?_
        refine lv_iload_n hF.1.1 hF.1.2.1 dX0_isAny_25 rfl (lv_at hl 1 rfl) ?_
        refine lv_iload hF.1.1 hF.1.2.1 dX0_isAny_26 (lv_at hl 0 rfl) ?_
        refine lv_icmp_ne (tgt := 35) hF.1.1 hF.1.2.1 dX0_isAny_28 (by decide) (fun c_7 => ?_) (fun c_7 => ?_)
        · have hw := hw.1 c_7
          refine lv_iconst (v := 0) hF.1.1 hF.1.2.1 dX0_isAny_35 (by decide) ?_
          have hl := lv_sub hl (l' := [(0, .int a1), (3, .ref q), (4, .int x4), (5, .int x5)]) [1, 3, 4, 5] rfl
          exact bk_36 x4 (wb_X0_isAny_11 a1 f nn x4 Q fu) ih x5 x2 0 _ _ _ hH hl hw
        · have hw := hw.2 c_7
          refine lv_iconst (v := 1) hF.1.1 hF.1.2.1 dX0_isAny_31 (by decide) ?_
          refine lv_goto (tgt := 36) hF.1.1 hF.1.2.1 dX0_isAny_32 (by decide) ?_
          have hl := lv_sub hl (l' := [(0, .int a1), (3, .ref q), (4, .int x4), (5, .int x5)]) [1, 3, 4, 5] rfl
          exact bk_36 x4 (wb_X0_isAny_11 a1 f nn x4 Q fu) ih x5 x2 1 _ _ _ hH hl hw
  unfold wp_X0_isAny at hw
  refine lv_iconst (v := 0) hF.1.1 hF.1.2.1 dX0_isAny_0 (by decide) ?_
  refine lv_istore_n (lv' := [(2, .int 0), (0, .int a1), (1, .ref q)]) hF.1.1 hF.1.2.1 dX0_isAny_1 rfl hl (by decide) rfl (fun ls hl => ?_)
  refine lv_aload_n hF.1.1 hF.1.2.1 dX0_isAny_2 rfl (lv_at hl 2 rfl) ?_
  refine lv_astore_n (lv' := [(3, .ref q), (2, .int 0), (0, .int a1), (1, .ref q)]) hF.1.1 hF.1.2.1 dX0_isAny_3 rfl hl (by decide) rfl (fun ls hl => ?_)
  refine lv_aload_n hF.1.1 hF.1.2.1 dX0_isAny_4 rfl (lv_at hl 0 rfl) ?_
  refine g_alen (v := (nI nn)) (ty := .char) hF hH 0 0 5 rfl rfl rfl rfl dX0_isAny_5 ?_
  refine lv_istore (lv' := [(4, .int (nI nn)), (3, .ref q), (2, .int 0), (0, .int a1), (1, .ref q)]) hF.1.1 hF.1.2.1 dX0_isAny_6 hl (by decide) rfl (fun ls hl => ?_)
  refine lv_iconst (v := 0) hF.1.1 hF.1.2.1 dX0_isAny_8 (by decide) ?_
  refine lv_istore (lv' := [(5, .int 0), (4, .int (nI nn)), (3, .ref q), (2, .int 0), (0, .int a1), (1, .ref q)]) hF.1.1 hF.1.2.1 dX0_isAny_9 hl (by decide) rfl (fun ls hl => ?_)
  obtain ⟨f_8, hw⟩ := hw
  have hl := lv_sub hl (l' := [(0, .int a1), (2, .int 0), (3, .ref q), (4, .int (nI nn)), (5, .int 0)]) [4, 3, 2, 1, 0] rfl
  exact bk_11 (nI nn) f_8 0 0 _ _ _ hH hl hw

def wp_X1_init (Q : Prop) : Prop := Q
set_option maxHeartbeats 4000000 in
set_option maxRecDepth 100000 in
theorem met_X1_init (l : Launch) (hl0 : l.stackTraces = false) (d : g_D) (ob : Nat) (q : Nat) (Q : Prop) (hw : wp_X1_init Q) : g_Met l d yX1_init cX1_init 2 none ({ frames := 1, cells := 0, slots := 0, locals := 12 } : Room) [.ref ob, .ref q] [[(ob, .inr (1, [.null, .int 0]))]] 0 0 (fun v w1 => v = none ∧ w1 = [[(ob, .inr (1, [.ref q, .int 0]))]] ∧ Q) := by
  refine g_enter (by decide) (Nat.le_of_ble_eq_true rfl) ?_
  intro p e s m args below meth c A ls hF hH hl hin
  have hF : g_F p m c cX1_init 2 s args RX1 meth none := hF
  have hl : lv_has ls 2 [(0, .ref ob), (1, .ref q)] := hl
  have hin : meth.name = "<init>" := hin rfl
  unfold wp_X1_init at hw
  refine lv_aload_n hF.1.1 hF.1.2.1 dX1_init_0 rfl (lv_at hl 0 rfl) ?_
  refine W.objInit hF.1.1 hF.1.2.1 hF.1.2.2.2.1 (hF.1.2.2.2.2 _ q144) (hF.1.2.2.2.2 _ q137) (hF.1.2.2.2.2 _ q138) rfl (by rw [hF.1.2.2.1]; exact hl.1) rfl dX1_init_1 (Nat.le_of_ble_eq_true rfl) (Nat.le_of_ble_eq_true rfl) ?_
  refine W.eq (g2 := (F0 m 4 ls [])) rfl ?_
  refine lv_aload_n hF.1.1 hF.1.2.1 dX1_init_4 rfl (lv_at hl 0 rfl) ?_
  refine lv_aload_n hF.1.1 hF.1.2.1 dX1_init_5 rfl (lv_at hl 1 rfl) ?_
  refine g_putF (cs' := [[(ob, .inr (1, [.ref q, .int 0]))]]) (ch' := [(ob, .inr (1, [.ref q, .int 0]))]) (ty := (.object "java/lang/Object")) hF hin hH in_X1 rfl tyX1 tyX1_ok nmX1 0 0 rfl rfl 0 (by decide) q145 (fun _ h9 => h9) rfl rfl (by decide +kernel) rfl rfl (Nat.le_of_ble_eq_true rfl) dX1_init_6 rfl rfl (fun H locs hH => ?_)
  exact g_vret hF hH ⟨rfl, rfl, hw⟩ dX1_init_9

def wp_X1_init_2_4 (Q : Prop) : Prop := (wp_X1_init Q)
set_option maxHeartbeats 4000000 in
set_option maxRecDepth 100000 in
theorem met_X1_init_2_4 (l : Launch) (hl0 : l.stackTraces = false) (d : g_D) (ob : Nat) (Q : Prop) (hw : wp_X1_init_2_4 Q) : g_Met l d yX1_init_2 cX1_init_2 2 none ({ frames := 2, cells := 1, slots := 4, locals := 33 } : Room) [.ref ob, .int 4] [[(ob, .inr (1, [.null, .int 0]))]] 1 4 (fun v w1 => ∃ (q2 : Nat), v = none ∧ w1 = [[(ob, .inr (1, [.ref q2, .int 0]))], [(q2, .inl (d.2.1 4, 4, .inr (.inl (fun _ => 0))))]] ∧ Q) := by
  refine g_enter (by decide) (Nat.le_of_ble_eq_true rfl) ?_
  intro p e s m args below meth c A ls hF hH hl hin
  have hF : g_F p m c cX1_init_2 2 s args RX1 meth none := hF
  have hl : lv_has ls 2 [(0, .ref ob), (1, .int 4)] := hl
  have hin : meth.name = "<init>" := hin rfl
  unfold wp_X1_init_2_4 at hw
  refine lv_aload_n hF.1.1 hF.1.2.1 dX1_init_2_0 rfl (lv_at hl 0 rfl) ?_
  refine lv_iload_n hF.1.1 hF.1.2.1 dX1_init_2_1 rfl (lv_at hl 1 rfl) ?_
  refine g_newJ (N' := 4) hF hH q180 (by decide) rfl (by decide) (by first | exact Nat.le_of_ble_eq_true rfl | omega | (dsimp only; omega)) (by first | exact Nat.le_of_ble_eq_true rfl | omega | (dsimp only; omega)) dX1_init_2_2 (fun q_2 H hH => ?_)
  have hH : g_HS d A s [[(ob, .inr (1, [.null, .int 0]))], [(q_2, .inl (d.2.1 4, 4, .inr (.inl (fun _ => 0))))]] H _ := hH
  refine W.widen (k := 1) (n := 4) (by first | exact Nat.le_of_ble_eq_true rfl | omega | (dsimp only; omega)) (by first | exact Nat.le_of_ble_eq_true rfl | omega | (dsimp only; omega)) ?_
  refine g_cI [.ref q_2] 1 rfl hF (met_X1_init l hl0 d ob q_2 _ hw) q159 q142 q93 q143 rfl rfl rfl (by decide +kernel) ⟨Nat.le_of_ble_eq_true rfl, Nat.le_of_ble_eq_true rfl⟩ hH [0] rfl rfl rfl hl.1 (Nat.le_of_ble_eq_true rfl) dX1_init_2_4 ⟨(by first | exact Nat.le_of_ble_eq_true rfl | omega | (dsimp only; omega)), (by first | exact Nat.le_of_ble_eq_true rfl | omega | (dsimp only; omega))⟩ (fun v w1 H locs hq hH => ?_)
  obtain ⟨rfl, rfl, hw⟩ := hq
  have hH : g_HS d A s [[(q_2, .inl (d.2.1 4, 4, .inr (.inl (fun _ => 0))))], [(ob, .inr (1, [.ref q_2, .int 0]))]] H locs := hH
  refine W.eq (g2 := (F0 m 7 ls [])) rfl ?_
  have hH := hH.sub (cs' := [[(ob, .inr (1, [.ref q_2, .int 0]))], [(q_2, .inl (d.2.1 4, 4, .inr (.inl (fun _ => 0))))]]) [1, 0] rfl rfl
  exact g_vret hF hH ⟨q_2, rfl, rfl, hw⟩ dX1_init_2_7

def wp_X1_size_J (many : Int32) (f : Nat → Int64) (Q : Int32 → Prop) : Prop := (Q 4)
set_option maxHeartbeats 4000000 in
set_option maxRecDepth 100000 in
theorem met_X1_size_J (l : Launch) (hl0 : l.stackTraces = false) (d : g_D) (ob : Nat) (q : Nat) (many : Int32) (f : Nat → Int64) (Q : Int32 → Prop) (hw : wp_X1_size_J many f Q) : g_Met l d yX1_size cX1_size 1 (Option.some FieldType.int) ({ frames := 0, cells := 0, slots := 0, locals := 0 } : Room) [.ref ob] [[(ob, .inr (1, [.ref q, .int many]))], [(q, .inl (d.2.1 4, 4, .inr (.inl f)))]] 0 0 (fun v w1 => ∃ (r : Int32), v = some (.int r) ∧ w1 = [[(ob, .inr (1, [.ref q, .int many]))], [(q, .inl (d.2.1 4, 4, .inr (.inl f)))]] ∧ Q r) := by
  refine g_enter (by decide) (Nat.le_of_ble_eq_true rfl) ?_
  intro p e s m args below meth c A ls hF hH hl hin
  have hF : g_F p m c cX1_size 1 s args RX1 meth (Option.some FieldType.int) := hF
  have hl : lv_has ls 1 [(0, .ref ob)] := hl
  unfold wp_X1_size_J at hw
  refine lv_aload_n hF.1.1 hF.1.2.1 dX1_size_0 rfl (lv_at hl 0 rfl) ?_
  refine g_get (v := .ref q) hF hH in_X1 rfl 0 0 rfl rfl 0 (by decide) q145 (fun _ h9 => h9) rfl dX1_size_1 ?_
  refine g_instNo (C := "[J") (nm := "[B") hF hH q217 (by decide) (g_recvA hH 1 0 rfl rfl (g_nmJ hH)) dX1_size_4 ?_
  refine lv_if_eq (tgt := 19) hF.1.1 hF.1.2.1 dX1_size_7 (by decide) (fun _ => ?_) (fun z => absurd z (by decide))
  refine lv_aload_n hF.1.1 hF.1.2.1 dX1_size_19 rfl (lv_at hl 0 rfl) ?_
  refine g_get (v := .ref q) hF hH in_X1 rfl 0 0 rfl rfl 0 (by decide) q145 (fun _ h9 => h9) rfl dX1_size_20 ?_
  refine g_instNo (C := "[J") (nm := "[S") hF hH q218 (by decide) (g_recvA hH 1 0 rfl rfl (g_nmJ hH)) dX1_size_23 ?_
  refine lv_if_eq (tgt := 40) hF.1.1 hF.1.2.1 dX1_size_26 (by decide) (fun _ => ?_) (fun z => absurd z (by decide))
  refine lv_aload_n hF.1.1 hF.1.2.1 dX1_size_40 rfl (lv_at hl 0 rfl) ?_
  refine g_get (v := .ref q) hF hH in_X1 rfl 0 0 rfl rfl 0 (by decide) q145 (fun _ h9 => h9) rfl dX1_size_41 ?_
  refine g_castE hF q219 (g_recvA hH 1 0 rfl rfl (g_nmJ hH)) dX1_size_44 ?_
  refine g_alen (v := 4) (ty := .long) hF hH 1 0 4 rfl rfl rfl rfl dX1_size_47 ?_
  exact g_iret hF hH ⟨4, rfl, rfl, hw⟩ dX1_size_48

def wp_X1_at_B (a1 : Int32) (many : Int32) (f : Nat → Int32) (Q : Int64 → Prop) : Prop := (vp_in a1 10 ∧ (Q ((f a1.toNatClampNeg).toInt64)))
set_option maxHeartbeats 4000000 in
set_option maxRecDepth 100000 in
theorem met_X1_at_B (l : Launch) (hl0 : l.stackTraces = false) (d : g_D) (ob : Nat) (a1 : Int32) (q : Nat) (many : Int32) (f : Nat → Int32) (Q : Int64 → Prop) (hw : wp_X1_at_B a1 many f Q) : g_Met l d yX1_at cX1_at 2 (Option.some FieldType.long) ({ frames := 0, cells := 0, slots := 0, locals := 0 } : Room) [.ref ob, .int a1] [[(ob, .inr (1, [.ref q, .int many]))], [(q, .inl (d.2.1 2, 10, .inl f))]] 0 0 (fun v w1 => ∃ (r : Int64), v = some (.long r) ∧ w1 = [[(ob, .inr (1, [.ref q, .int many]))], [(q, .inl (d.2.1 2, 10, .inl f))]] ∧ Q r) := by
  refine g_enter (by decide) (Nat.le_of_ble_eq_true rfl) ?_
  intro p e s m args below meth c A ls hF hH hl hin
  have hF : g_F p m c cX1_at 2 s args RX1 meth (Option.some FieldType.long) := hF
  have hl : lv_has ls 2 [(0, .ref ob), (1, .int a1)] := hl
  unfold wp_X1_at_B at hw
  refine lv_aload_n hF.1.1 hF.1.2.1 dX1_at_0 rfl (lv_at hl 0 rfl) ?_
  refine g_get (v := .ref q) hF hH in_X1 rfl 0 0 rfl rfl 0 (by decide) q145 (fun _ h9 => h9) rfl dX1_at_1 ?_
  refine g_instE hF q217 (g_recvA hH 1 0 rfl rfl (g_nmB hH)) dX1_at_4 ?_
  refine lv_if_eq (tgt := 21) hF.1.1 hF.1.2.1 dX1_at_7 (by decide) (fun z => absurd z (by decide)) (fun _ => ?_)
  refine lv_aload_n hF.1.1 hF.1.2.1 dX1_at_10 rfl (lv_at hl 0 rfl) ?_
  refine g_get (v := .ref q) hF hH in_X1 rfl 0 0 rfl rfl 0 (by decide) q145 (fun _ h9 => h9) rfl dX1_at_11 ?_
  refine g_castE hF q217 (g_recvA hH 1 0 rfl rfl (g_nmB hH)) dX1_at_14 ?_
  refine lv_iload_n hF.1.1 hF.1.2.1 dX1_at_17 rfl (lv_at hl 1 rfl) ?_
  obtain ⟨hi_2, hw⟩ := hw
  refine g_bald hF hH 1 0 rfl rfl hi_2 dX1_at_18 ?_
  refine lv_i2l (v := ((f a1.toNatClampNeg).toInt64)) hF.1.1 hF.1.2.1 dX1_at_19 rfl ?_
  exact g_lret hF hH ⟨((f a1.toNatClampNeg).toInt64), rfl, rfl, hw⟩ dX1_at_20

def wp_X1_at_S (a1 : Int32) (many : Int32) (f : Nat → Int32) (nn : Nat) (Q : Int64 → Prop) : Prop := (vp_in a1 nn ∧ (Q ((f a1.toNatClampNeg).toInt64)))
set_option maxHeartbeats 4000000 in
set_option maxRecDepth 100000 in
theorem met_X1_at_S (l : Launch) (hl0 : l.stackTraces = false) (d : g_D) (ob : Nat) (a1 : Int32) (q : Nat) (many : Int32) (f : Nat → Int32) (nn : Nat) (Q : Int64 → Prop) (hw : wp_X1_at_S a1 many f nn Q) : g_Met l d yX1_at cX1_at 2 (Option.some FieldType.long) ({ frames := 0, cells := 0, slots := 0, locals := 0 } : Room) [.ref ob, .int a1] [[(ob, .inr (1, [.ref q, .int many]))], [(q, .inl (d.2.1 3, nn, .inl f))]] 0 0 (fun v w1 => ∃ (r : Int64), v = some (.long r) ∧ w1 = [[(ob, .inr (1, [.ref q, .int many]))], [(q, .inl (d.2.1 3, nn, .inl f))]] ∧ Q r) := by
  refine g_enter (by decide) (Nat.le_of_ble_eq_true rfl) ?_
  intro p e s m args below meth c A ls hF hH hl hin
  have hF : g_F p m c cX1_at 2 s args RX1 meth (Option.some FieldType.long) := hF
  have hl : lv_has ls 2 [(0, .ref ob), (1, .int a1)] := hl
  unfold wp_X1_at_S at hw
  refine lv_aload_n hF.1.1 hF.1.2.1 dX1_at_0 rfl (lv_at hl 0 rfl) ?_
  refine g_get (v := .ref q) hF hH in_X1 rfl 0 0 rfl rfl 0 (by decide) q145 (fun _ h9 => h9) rfl dX1_at_1 ?_
  refine g_instNo (C := "[S") (nm := "[B") hF hH q217 (by decide) (g_recvA hH 1 0 rfl rfl (g_nmS hH)) dX1_at_4 ?_
  refine lv_if_eq (tgt := 21) hF.1.1 hF.1.2.1 dX1_at_7 (by decide) (fun _ => ?_) (fun z => absurd z (by decide))
  refine lv_aload_n hF.1.1 hF.1.2.1 dX1_at_21 rfl (lv_at hl 0 rfl) ?_
  refine g_get (v := .ref q) hF hH in_X1 rfl 0 0 rfl rfl 0 (by decide) q145 (fun _ h9 => h9) rfl dX1_at_22 ?_
  refine g_instE hF q218 (g_recvA hH 1 0 rfl rfl (g_nmS hH)) dX1_at_25 ?_
  refine lv_if_eq (tgt := 44) hF.1.1 hF.1.2.1 dX1_at_28 (by decide) (fun z => absurd z (by decide)) (fun _ => ?_)
  refine lv_aload_n hF.1.1 hF.1.2.1 dX1_at_31 rfl (lv_at hl 0 rfl) ?_
  refine g_get (v := .ref q) hF hH in_X1 rfl 0 0 rfl rfl 0 (by decide) q145 (fun _ h9 => h9) rfl dX1_at_32 ?_
  refine g_castE hF q218 (g_recvA hH 1 0 rfl rfl (g_nmS hH)) dX1_at_35 ?_
  refine lv_iload_n hF.1.1 hF.1.2.1 dX1_at_38 rfl (lv_at hl 1 rfl) ?_
  obtain ⟨hi_2, hw⟩ := hw
  refine g_sald hF hH 1 0 rfl rfl hi_2 dX1_at_39 ?_
  refine lv_i2l (v := ((f a1.toNatClampNeg).toInt64)) hF.1.1 hF.1.2.1 dX1_at_40 rfl ?_
  refine lv_goto (tgt := 53) hF.1.1 hF.1.2.1 dX1_at_41 (by decide) ?_
  exact g_lret hF hH ⟨((f a1.toNatClampNeg).toInt64), rfl, rfl, hw⟩ dX1_at_53

def wp_X1_at_J (a1 : Int32) (many : Int32) (f : Nat → Int64) (Q : Int64 → Prop) : Prop := (vp_in a1 4 ∧ (Q (f a1.toNatClampNeg)))
set_option maxHeartbeats 4000000 in
set_option maxRecDepth 100000 in
theorem met_X1_at_J (l : Launch) (hl0 : l.stackTraces = false) (d : g_D) (ob : Nat) (a1 : Int32) (q : Nat) (many : Int32) (f : Nat → Int64) (Q : Int64 → Prop) (hw : wp_X1_at_J a1 many f Q) : g_Met l d yX1_at cX1_at 2 (Option.some FieldType.long) ({ frames := 0, cells := 0, slots := 0, locals := 0 } : Room) [.ref ob, .int a1] [[(ob, .inr (1, [.ref q, .int many]))], [(q, .inl (d.2.1 4, 4, .inr (.inl f)))]] 0 0 (fun v w1 => ∃ (r : Int64), v = some (.long r) ∧ w1 = [[(ob, .inr (1, [.ref q, .int many]))], [(q, .inl (d.2.1 4, 4, .inr (.inl f)))]] ∧ Q r) := by
  refine g_enter (by decide) (Nat.le_of_ble_eq_true rfl) ?_
  intro p e s m args below meth c A ls hF hH hl hin
  have hF : g_F p m c cX1_at 2 s args RX1 meth (Option.some FieldType.long) := hF
  have hl : lv_has ls 2 [(0, .ref ob), (1, .int a1)] := hl
  unfold wp_X1_at_J at hw
  refine lv_aload_n hF.1.1 hF.1.2.1 dX1_at_0 rfl (lv_at hl 0 rfl) ?_
  refine g_get (v := .ref q) hF hH in_X1 rfl 0 0 rfl rfl 0 (by decide) q145 (fun _ h9 => h9) rfl dX1_at_1 ?_
  refine g_instNo (C := "[J") (nm := "[B") hF hH q217 (by decide) (g_recvA hH 1 0 rfl rfl (g_nmJ hH)) dX1_at_4 ?_
  refine lv_if_eq (tgt := 21) hF.1.1 hF.1.2.1 dX1_at_7 (by decide) (fun _ => ?_) (fun z => absurd z (by decide))
  refine lv_aload_n hF.1.1 hF.1.2.1 dX1_at_21 rfl (lv_at hl 0 rfl) ?_
  refine g_get (v := .ref q) hF hH in_X1 rfl 0 0 rfl rfl 0 (by decide) q145 (fun _ h9 => h9) rfl dX1_at_22 ?_
  refine g_instNo (C := "[J") (nm := "[S") hF hH q218 (by decide) (g_recvA hH 1 0 rfl rfl (g_nmJ hH)) dX1_at_25 ?_
  refine lv_if_eq (tgt := 44) hF.1.1 hF.1.2.1 dX1_at_28 (by decide) (fun _ => ?_) (fun z => absurd z (by decide))
  refine lv_aload_n hF.1.1 hF.1.2.1 dX1_at_44 rfl (lv_at hl 0 rfl) ?_
  refine g_get (v := .ref q) hF hH in_X1 rfl 0 0 rfl rfl 0 (by decide) q145 (fun _ h9 => h9) rfl dX1_at_45 ?_
  refine g_castE hF q219 (g_recvA hH 1 0 rfl rfl (g_nmJ hH)) dX1_at_48 ?_
  refine lv_iload_n hF.1.1 hF.1.2.1 dX1_at_51 rfl (lv_at hl 1 rfl) ?_
  obtain ⟨hi_2, hw⟩ := hw
  refine g_lald hF hH 1 0 rfl rfl hi_2 dX1_at_52 ?_
  exact g_lret hF hH ⟨(f a1.toNatClampNeg), rfl, rfl, hw⟩ dX1_at_53

def wp_X1_put_B (a1 : Int32) (a2 : Int64) (many : Int32) (f : Nat → Int32) (Q : (Nat → Int32) → Prop) : Prop := (vp_in a1 10 ∧ (Q (upd f a1.toNatClampNeg (vp_nar .byte ((a2.toInt32).toInt8.toInt32)))))
set_option maxHeartbeats 4000000 in
set_option maxRecDepth 100000 in
theorem met_X1_put_B (l : Launch) (hl0 : l.stackTraces = false) (d : g_D) (ob : Nat) (a1 : Int32) (a2 : Int64) (q : Nat) (many : Int32) (f : Nat → Int32) (Q : (Nat → Int32) → Prop) (hw : wp_X1_put_B a1 a2 many f Q) : g_Met l d yX1_put cX1_put 4 none ({ frames := 0, cells := 0, slots := 0, locals := 0 } : Room) [.ref ob, .int a1, .long a2] [[(ob, .inr (1, [.ref q, .int many]))], [(q, .inl (d.2.1 2, 10, .inl f))]] 0 0 (fun v w1 => ∃ (f2 : Nat → Int32), v = none ∧ w1 = [[(ob, .inr (1, [.ref q, .int many]))], [(q, .inl (d.2.1 2, 10, .inl f2))]] ∧ Q f2) := by
  refine g_enter (by decide) (Nat.le_of_ble_eq_true rfl) ?_
  intro p e s m args below meth c A ls hF hH hl hin
  have hF : g_F p m c cX1_put 4 s args RX1 meth none := hF
  have hl : lv_has ls 4 [(0, .ref ob), (1, .int a1), (2, .long a2)] := hl
  unfold wp_X1_put_B at hw
  refine lv_aload_n hF.1.1 hF.1.2.1 dX1_put_0 rfl (lv_at hl 0 rfl) ?_
  refine g_get (v := .ref q) hF hH in_X1 rfl 0 0 rfl rfl 0 (by decide) q145 (fun _ h9 => h9) rfl dX1_put_1 ?_
  refine g_instE hF q217 (g_recvA hH 1 0 rfl rfl (g_nmB hH)) dX1_put_4 ?_
  refine lv_if_eq (tgt := 25) hF.1.1 hF.1.2.1 dX1_put_7 (by decide) (fun z => absurd z (by decide)) (fun _ => ?_)
  refine lv_aload_n hF.1.1 hF.1.2.1 dX1_put_10 rfl (lv_at hl 0 rfl) ?_
  refine g_get (v := .ref q) hF hH in_X1 rfl 0 0 rfl rfl 0 (by decide) q145 (fun _ h9 => h9) rfl dX1_put_11 ?_
  refine g_castE hF q217 (g_recvA hH 1 0 rfl rfl (g_nmB hH)) dX1_put_14 ?_
  refine lv_iload_n hF.1.1 hF.1.2.1 dX1_put_17 rfl (lv_at hl 1 rfl) ?_
  refine lv_lload_n hF.1.1 hF.1.2.1 dX1_put_18 rfl (lv_at hl 2 rfl) ?_
  refine lv_l2i (v := (a2.toInt32)) hF.1.1 hF.1.2.1 dX1_put_19 rfl ?_
  refine lv_i2b (v := ((a2.toInt32).toInt8.toInt32)) hF.1.1 hF.1.2.1 dX1_put_20 rfl ?_
  obtain ⟨hi_2, hw⟩ := hw
  refine g_bast (cs' := [[(ob, .inr (1, [.ref q, .int many]))], [(q, .inl (d.2.1 2, 10, .inl (upd f a1.toNatClampNeg (vp_nar .byte ((a2.toInt32).toInt8.toInt32)))))]]) (ch' := [(q, .inl (d.2.1 2, 10, .inl (upd f a1.toNatClampNeg (vp_nar .byte ((a2.toInt32).toInt8.toInt32)))))]) hF hH 1 0 rfl rfl hi_2 dX1_put_21 rfl rfl (fun H locs hH => ?_)
  refine lv_goto (tgt := 60) hF.1.1 hF.1.2.1 dX1_put_22 (by decide) ?_
  exact g_vret hF hH ⟨(upd f a1.toNatClampNeg (vp_nar .byte ((a2.toInt32).toInt8.toInt32))), rfl, rfl, hw⟩ dX1_put_60

def wp_X1_put_S (a1 : Int32) (a2 : Int64) (many : Int32) (f : Nat → Int32) (nn : Nat) (Q : (Nat → Int32) → Prop) : Prop := (vp_in a1 nn ∧ (Q (upd f a1.toNatClampNeg (vp_nar .short ((a2.toInt32).toInt16.toInt32)))))
set_option maxHeartbeats 4000000 in
set_option maxRecDepth 100000 in
theorem met_X1_put_S (l : Launch) (hl0 : l.stackTraces = false) (d : g_D) (ob : Nat) (a1 : Int32) (a2 : Int64) (q : Nat) (many : Int32) (f : Nat → Int32) (nn : Nat) (Q : (Nat → Int32) → Prop) (hw : wp_X1_put_S a1 a2 many f nn Q) : g_Met l d yX1_put cX1_put 4 none ({ frames := 0, cells := 0, slots := 0, locals := 0 } : Room) [.ref ob, .int a1, .long a2] [[(ob, .inr (1, [.ref q, .int many]))], [(q, .inl (d.2.1 3, nn, .inl f))]] 0 0 (fun v w1 => ∃ (f2 : Nat → Int32), v = none ∧ w1 = [[(ob, .inr (1, [.ref q, .int many]))], [(q, .inl (d.2.1 3, nn, .inl f2))]] ∧ Q f2) := by
  refine g_enter (by decide) (Nat.le_of_ble_eq_true rfl) ?_
  intro p e s m args below meth c A ls hF hH hl hin
  have hF : g_F p m c cX1_put 4 s args RX1 meth none := hF
  have hl : lv_has ls 4 [(0, .ref ob), (1, .int a1), (2, .long a2)] := hl
  unfold wp_X1_put_S at hw
  refine lv_aload_n hF.1.1 hF.1.2.1 dX1_put_0 rfl (lv_at hl 0 rfl) ?_
  refine g_get (v := .ref q) hF hH in_X1 rfl 0 0 rfl rfl 0 (by decide) q145 (fun _ h9 => h9) rfl dX1_put_1 ?_
  refine g_instNo (C := "[S") (nm := "[B") hF hH q217 (by decide) (g_recvA hH 1 0 rfl rfl (g_nmS hH)) dX1_put_4 ?_
  refine lv_if_eq (tgt := 25) hF.1.1 hF.1.2.1 dX1_put_7 (by decide) (fun _ => ?_) (fun z => absurd z (by decide))
  refine lv_aload_n hF.1.1 hF.1.2.1 dX1_put_25 rfl (lv_at hl 0 rfl) ?_
  refine g_get (v := .ref q) hF hH in_X1 rfl 0 0 rfl rfl 0 (by decide) q145 (fun _ h9 => h9) rfl dX1_put_26 ?_
  refine g_instE hF q218 (g_recvA hH 1 0 rfl rfl (g_nmS hH)) dX1_put_29 ?_
  refine lv_if_eq (tgt := 50) hF.1.1 hF.1.2.1 dX1_put_32 (by decide) (fun z => absurd z (by decide)) (fun _ => ?_)
  refine lv_aload_n hF.1.1 hF.1.2.1 dX1_put_35 rfl (lv_at hl 0 rfl) ?_
  refine g_get (v := .ref q) hF hH in_X1 rfl 0 0 rfl rfl 0 (by decide) q145 (fun _ h9 => h9) rfl dX1_put_36 ?_
  refine g_castE hF q218 (g_recvA hH 1 0 rfl rfl (g_nmS hH)) dX1_put_39 ?_
  refine lv_iload_n hF.1.1 hF.1.2.1 dX1_put_42 rfl (lv_at hl 1 rfl) ?_
  refine lv_lload_n hF.1.1 hF.1.2.1 dX1_put_43 rfl (lv_at hl 2 rfl) ?_
  refine lv_l2i (v := (a2.toInt32)) hF.1.1 hF.1.2.1 dX1_put_44 rfl ?_
  refine lv_i2s (v := ((a2.toInt32).toInt16.toInt32)) hF.1.1 hF.1.2.1 dX1_put_45 rfl ?_
  obtain ⟨hi_2, hw⟩ := hw
  refine g_sast (cs' := [[(ob, .inr (1, [.ref q, .int many]))], [(q, .inl (d.2.1 3, nn, .inl (upd f a1.toNatClampNeg (vp_nar .short ((a2.toInt32).toInt16.toInt32)))))]]) (ch' := [(q, .inl (d.2.1 3, nn, .inl (upd f a1.toNatClampNeg (vp_nar .short ((a2.toInt32).toInt16.toInt32)))))]) hF hH 1 0 rfl rfl hi_2 dX1_put_46 rfl rfl (fun H locs hH => ?_)
  refine lv_goto (tgt := 60) hF.1.1 hF.1.2.1 dX1_put_47 (by decide) ?_
  exact g_vret hF hH ⟨(upd f a1.toNatClampNeg (vp_nar .short ((a2.toInt32).toInt16.toInt32))), rfl, rfl, hw⟩ dX1_put_60

def wp_X1_put_J (a1 : Int32) (a2 : Int64) (many : Int32) (f : Nat → Int64) (Q : (Nat → Int64) → Prop) : Prop := (vp_in a1 4 ∧ (Q (vp_updL f a1.toNatClampNeg a2)))
set_option maxHeartbeats 4000000 in
set_option maxRecDepth 100000 in
theorem met_X1_put_J (l : Launch) (hl0 : l.stackTraces = false) (d : g_D) (ob : Nat) (a1 : Int32) (a2 : Int64) (q : Nat) (many : Int32) (f : Nat → Int64) (Q : (Nat → Int64) → Prop) (hw : wp_X1_put_J a1 a2 many f Q) : g_Met l d yX1_put cX1_put 4 none ({ frames := 0, cells := 0, slots := 0, locals := 0 } : Room) [.ref ob, .int a1, .long a2] [[(ob, .inr (1, [.ref q, .int many]))], [(q, .inl (d.2.1 4, 4, .inr (.inl f)))]] 0 0 (fun v w1 => ∃ (f2 : Nat → Int64), v = none ∧ w1 = [[(ob, .inr (1, [.ref q, .int many]))], [(q, .inl (d.2.1 4, 4, .inr (.inl f2)))]] ∧ Q f2) := by
  refine g_enter (by decide) (Nat.le_of_ble_eq_true rfl) ?_
  intro p e s m args below meth c A ls hF hH hl hin
  have hF : g_F p m c cX1_put 4 s args RX1 meth none := hF
  have hl : lv_has ls 4 [(0, .ref ob), (1, .int a1), (2, .long a2)] := hl
  unfold wp_X1_put_J at hw
  refine lv_aload_n hF.1.1 hF.1.2.1 dX1_put_0 rfl (lv_at hl 0 rfl) ?_
  refine g_get (v := .ref q) hF hH in_X1 rfl 0 0 rfl rfl 0 (by decide) q145 (fun _ h9 => h9) rfl dX1_put_1 ?_
  refine g_instNo (C := "[J") (nm := "[B") hF hH q217 (by decide) (g_recvA hH 1 0 rfl rfl (g_nmJ hH)) dX1_put_4 ?_
  refine lv_if_eq (tgt := 25) hF.1.1 hF.1.2.1 dX1_put_7 (by decide) (fun _ => ?_) (fun z => absurd z (by decide))
  refine lv_aload_n hF.1.1 hF.1.2.1 dX1_put_25 rfl (lv_at hl 0 rfl) ?_
  refine g_get (v := .ref q) hF hH in_X1 rfl 0 0 rfl rfl 0 (by decide) q145 (fun _ h9 => h9) rfl dX1_put_26 ?_
  refine g_instNo (C := "[J") (nm := "[S") hF hH q218 (by decide) (g_recvA hH 1 0 rfl rfl (g_nmJ hH)) dX1_put_29 ?_
  refine lv_if_eq (tgt := 50) hF.1.1 hF.1.2.1 dX1_put_32 (by decide) (fun _ => ?_) (fun z => absurd z (by decide))
  refine lv_aload_n hF.1.1 hF.1.2.1 dX1_put_50 rfl (lv_at hl 0 rfl) ?_
  refine g_get (v := .ref q) hF hH in_X1 rfl 0 0 rfl rfl 0 (by decide) q145 (fun _ h9 => h9) rfl dX1_put_51 ?_
  refine g_castE hF q219 (g_recvA hH 1 0 rfl rfl (g_nmJ hH)) dX1_put_54 ?_
  refine lv_iload_n hF.1.1 hF.1.2.1 dX1_put_57 rfl (lv_at hl 1 rfl) ?_
  refine lv_lload_n hF.1.1 hF.1.2.1 dX1_put_58 rfl (lv_at hl 2 rfl) ?_
  obtain ⟨hi_2, hw⟩ := hw
  refine g_last (cs' := [[(ob, .inr (1, [.ref q, .int many]))], [(q, .inl (d.2.1 4, 4, .inr (.inl (vp_updL f a1.toNatClampNeg a2))))]]) (ch' := [(q, .inl (d.2.1 4, 4, .inr (.inl (vp_updL f a1.toNatClampNeg a2))))]) hF hH 1 0 rfl rfl hi_2 dX1_put_59 rfl rfl (fun H locs hH => ?_)
  exact g_vret hF hH ⟨(vp_updL f a1.toNatClampNeg a2), rfl, rfl, hw⟩ dX1_put_60

def wp_X1_set_S (a1 : Int32) (a2 : Int64) (many : Int32) (f : Nat → Int32) (nn : Nat) (Q : (Nat → Int32) → Prop) : Prop := (wp_X1_put_S a1 a2 many f nn (fun n_2 => (Q n_2)))
set_option maxHeartbeats 4000000 in
set_option maxRecDepth 100000 in
theorem met_X1_set_S (l : Launch) (hl0 : l.stackTraces = false) (d : g_D) (ob : Nat) (a1 : Int32) (a2 : Int64) (q : Nat) (many : Int32) (f : Nat → Int32) (nn : Nat) (Q : (Nat → Int32) → Prop) (hw : wp_X1_set_S a1 a2 many f nn Q) : g_Met l d yX1_set cX1_set 4 none ({ frames := 9, cells := 0, slots := 0, locals := 10323 } : Room) [.ref ob, .int a1, .long a2] [[(ob, .inr (1, [.ref q, .int many]))], [(q, .inl (d.2.1 3, nn, .inl f))]] 0 0 (fun v w1 => ∃ (f2 : Nat → Int32), v = none ∧ w1 = [[(ob, .inr (1, [.ref q, .int many]))], [(q, .inl (d.2.1 3, nn, .inl f2))]] ∧ Q f2) := by
  refine g_enter (by decide) (Nat.le_of_ble_eq_true rfl) ?_
  intro p e s m args below meth c A ls hF hH hl hin
  have hF : g_F p m c cX1_set 4 s args RX1 meth none := hF
  have hl : lv_has ls 4 [(0, .ref ob), (1, .int a1), (2, .long a2)] := hl
  unfold wp_X1_set_S at hw
  refine lv_aload_n hF.1.1 hF.1.2.1 dX1_set_0 rfl (lv_at hl 0 rfl) ?_
  refine lv_iload_n hF.1.1 hF.1.2.1 dX1_set_1 rfl (lv_at hl 1 rfl) ?_
  refine lv_lload_n hF.1.1 hF.1.2.1 dX1_set_2 rfl (lv_at hl 2 rfl) ?_
  refine g_cV [.int a1, .long a2] 2 rfl hF (met_X1_put_S l hl0 d ob a1 a2 q many f nn _ hw) q228 q230 qs1 q93 q231 rfl rfl (by decide +kernel) ⟨Nat.le_of_ble_eq_true rfl, Nat.le_of_ble_eq_true rfl⟩ hH [0, 1] rfl rfl rfl 0 0 rfl rfl rfl hl.1 (Nat.le_of_ble_eq_true rfl) dX1_set_3 ⟨(by first | exact Nat.le_of_ble_eq_true rfl | omega | (dsimp only; omega)), (by first | exact Nat.le_of_ble_eq_true rfl | omega | (dsimp only; omega))⟩ (fun v w1 H locs hq hH => ?_)
  obtain ⟨n_2, rfl, rfl, hw⟩ := hq
  have hH : g_HS d A s [[(ob, .inr (1, [.ref q, .int many]))], [(q, .inl (d.2.1 3, nn, .inl n_2))]] H locs := hH
  refine W.eq (g2 := (F0 m 6 ls [])) rfl ?_
  exact g_vret hF hH ⟨n_2, rfl, rfl, hw⟩ dX1_set_6

def wp_X1_clear (many : Int32) (Q : Int32 → Int32 → Prop) : Prop := (Q many 0)
set_option maxHeartbeats 4000000 in
set_option maxRecDepth 100000 in
theorem met_X1_clear (l : Launch) (hl0 : l.stackTraces = false) (d : g_D) (ob : Nat) (q : Nat) (many : Int32) (Q : Int32 → Int32 → Prop) (hw : wp_X1_clear many Q) : g_Met l d yX1_clear cX1_clear 2 (Option.some FieldType.int) ({ frames := 0, cells := 0, slots := 0, locals := 0 } : Room) [.ref ob] [[(ob, .inr (1, [.ref q, .int many]))]] 0 0 (fun v w1 => ∃ (r : Int32) (many2 : Int32), v = some (.int r) ∧ w1 = [[(ob, .inr (1, [.ref q, .int many2]))]] ∧ Q r many2) := by
  refine g_enter (by decide) (Nat.le_of_ble_eq_true rfl) ?_
  intro p e s m args below meth c A ls hF hH hl hin
  have hF : g_F p m c cX1_clear 2 s args RX1 meth (Option.some FieldType.int) := hF
  have hl : lv_has ls 2 [(0, .ref ob)] := hl
  unfold wp_X1_clear at hw
  refine lv_aload_n hF.1.1 hF.1.2.1 dX1_clear_0 rfl (lv_at hl 0 rfl) ?_
  refine g_get (v := .int many) hF hH in_X1 rfl 0 0 rfl rfl 1 (by decide) q147 (fun _ h9 => h9) rfl dX1_clear_1 ?_
  refine lv_istore_n (lv' := [(1, .int many), (0, .ref ob)]) hF.1.1 hF.1.2.1 dX1_clear_4 rfl hl (by decide) rfl (fun ls hl => ?_)
  refine lv_aload_n hF.1.1 hF.1.2.1 dX1_clear_5 rfl (lv_at hl 1 rfl) ?_
  refine lv_iconst (v := 0) hF.1.1 hF.1.2.1 dX1_clear_6 (by decide) ?_
  refine g_put (cs' := [[(ob, .inr (1, [.ref q, .int 0]))]]) (ch' := [(ob, .inr (1, [.ref q, .int 0]))]) (ty := .int) hF hH in_X1 rfl tyX1 tyX1_ok nmX1 0 0 rfl rfl 1 (by decide) q147 (fun _ h9 => h9) rfl (by decide +kernel) rfl rfl (Nat.le_of_ble_eq_true rfl) dX1_clear_7 rfl rfl (fun H locs hH => ?_)
  refine lv_iload_n hF.1.1 hF.1.2.1 dX1_clear_10 rfl (lv_at hl 0 rfl) ?_
  exact g_iret hF hH ⟨many, 0, rfl, rfl, hw⟩ dX1_clear_11

def wp_X1_removeLast_J (many : Int32) (f : Nat → Int64) (Q : Int64 → Int32 → Prop) : Prop := (wp_X1_at_J (many - 1) (many - 1) f (fun r_2 => (Q r_2 (many - 1))))
set_option maxHeartbeats 4000000 in
set_option maxRecDepth 100000 in
theorem met_X1_removeLast_J (l : Launch) (hl0 : l.stackTraces = false) (d : g_D) (ob : Nat) (q : Nat) (many : Int32) (f : Nat → Int64) (Q : Int64 → Int32 → Prop) (hw : wp_X1_removeLast_J many f Q) : g_Met l d yX1_removeLast cX1_removeLast 1 (Option.some FieldType.long) ({ frames := 1, cells := 0, slots := 0, locals := 21 } : Room) [.ref ob] [[(ob, .inr (1, [.ref q, .int many]))], [(q, .inl (d.2.1 4, 4, .inr (.inl f)))]] 0 0 (fun v w1 => ∃ (r : Int64) (many2 : Int32), v = some (.long r) ∧ w1 = [[(ob, .inr (1, [.ref q, .int many2]))], [(q, .inl (d.2.1 4, 4, .inr (.inl f)))]] ∧ Q r many2) := by
  refine g_enter (by decide) (Nat.le_of_ble_eq_true rfl) ?_
  intro p e s m args below meth c A ls hF hH hl hin
  have hF : g_F p m c cX1_removeLast 1 s args RX1 meth (Option.some FieldType.long) := hF
  have hl : lv_has ls 1 [(0, .ref ob)] := hl
  unfold wp_X1_removeLast_J at hw
  refine lv_aload_n hF.1.1 hF.1.2.1 dX1_removeLast_0 rfl (lv_at hl 0 rfl) ?_
  refine lv_dup hF.1.1 hF.1.2.1 dX1_removeLast_1 rfl ?_
  refine g_get (v := .int many) hF hH in_X1 rfl 0 0 rfl rfl 1 (by decide) q147 (fun _ h9 => h9) rfl dX1_removeLast_2 ?_
  refine lv_iconst (v := 1) hF.1.1 hF.1.2.1 dX1_removeLast_5 (by decide) ?_
  refine lv_isub hF.1.1 hF.1.2.1 dX1_removeLast_6 ?_
  refine g_put (cs' := [[(ob, .inr (1, [.ref q, .int (many - 1)]))], [(q, .inl (d.2.1 4, 4, .inr (.inl f)))]]) (ch' := [(ob, .inr (1, [.ref q, .int (many - 1)]))]) (ty := .int) hF hH in_X1 rfl tyX1 tyX1_ok nmX1 0 0 rfl rfl 1 (by decide) q147 (fun _ h9 => h9) rfl (by decide +kernel) rfl rfl (Nat.le_of_ble_eq_true rfl) dX1_removeLast_7 rfl rfl (fun H locs hH => ?_)
  refine lv_aload_n hF.1.1 hF.1.2.1 dX1_removeLast_10 rfl (lv_at hl 0 rfl) ?_
  refine lv_aload_n hF.1.1 hF.1.2.1 dX1_removeLast_11 rfl (lv_at hl 0 rfl) ?_
  refine g_get (v := .int (many - 1)) hF hH in_X1 rfl 0 0 rfl rfl 1 (by decide) q147 (fun _ h9 => h9) rfl dX1_removeLast_12 ?_
  refine g_cV [.int (many - 1)] 1 rfl hF (met_X1_at_J l hl0 d ob (many - 1) q (many - 1) f _ hw) q224 q225 q226 q93 q227 rfl rfl (by decide +kernel) ⟨Nat.le_of_ble_eq_true rfl, Nat.le_of_ble_eq_true rfl⟩ hH [0, 1] rfl rfl rfl 0 0 rfl rfl rfl hl.1 (Nat.le_of_ble_eq_true rfl) dX1_removeLast_15 ⟨(by first | exact Nat.le_of_ble_eq_true rfl | omega | (dsimp only; omega)), (by first | exact Nat.le_of_ble_eq_true rfl | omega | (dsimp only; omega))⟩ (fun v w1 H locs hq hH => ?_)
  obtain ⟨r_2, rfl, rfl, hw⟩ := hq
  have hH : g_HS d A s [[(ob, .inr (1, [.ref q, .int (many - 1)]))], [(q, .inl (d.2.1 4, 4, .inr (.inl f)))]] H locs := hH
  refine W.eq (g2 := (F0 m 18 ls [.long r_2])) rfl ?_
  exact g_lret hF hH ⟨r_2, (many - 1), rfl, rfl, hw⟩ dX1_removeLast_18

def wb_X1_removeFirst_J_2 (many_ : Int32) (Q : Int32 → (Nat → Int64) → Prop) : Nat → Int32 → (Nat → Int64) → Prop
  | 0, _, _ => False
  | fu + 1, x1, f_ => ((many_ ≤ x1 → (Q (many_ - 1) f_)) ∧ (¬ many_ ≤ x1 → (wp_X1_at_J x1 many_ f_ (fun r_5 => (wp_X1_put_J (x1 - 1) r_5 many_ f_ (fun n_6 => (wb_X1_removeFirst_J_2 many_ Q fu) (x1 + 1) n_6))))))
def wp_X1_removeFirst_J (many : Int32) (f : Nat → Int64) (Q : Int32 → (Nat → Int64) → Prop) : Prop := (∃ f2, wb_X1_removeFirst_J_2 many Q f2 1 f)
set_option maxHeartbeats 4000000 in
set_option maxRecDepth 100000 in
theorem met_X1_removeFirst_J (l : Launch) (hl0 : l.stackTraces = false) (d : g_D) (ob : Nat) (q : Nat) (many : Int32) (f : Nat → Int64) (Q : Int32 → (Nat → Int64) → Prop) (hw : wp_X1_removeFirst_J many f Q) : g_Met l d yX1_removeFirst cX1_removeFirst 2 none ({ frames := 9, cells := 0, slots := 0, locals := 10323 } : Room) [.ref ob] [[(ob, .inr (1, [.ref q, .int many]))], [(q, .inl (d.2.1 4, 4, .inr (.inl f)))]] 0 0 (fun v w1 => ∃ (many2 : Int32) (f2 : Nat → Int64), v = none ∧ w1 = [[(ob, .inr (1, [.ref q, .int many2]))], [(q, .inl (d.2.1 4, 4, .inr (.inl f2)))]] ∧ Q many2 f2) := by
  refine g_enter (by decide) (Nat.le_of_ble_eq_true rfl) ?_
  intro p e s m args below meth c A ls hF hH hl hin
  have hF : g_F p m c cX1_removeFirst 2 s args RX1 meth none := hF
  have hl : lv_has ls 2 [(0, .ref ob)] := hl
  have bk_2 : ∀ (many_ : Int32) (fu : Nat) (x1 : Int32) (f_ : Nat → Int64) (H : Heap) (locs : List Loc) (ls : Array Slot), g_HS d A s [[(ob, .inr (1, [.ref q, .int many_]))], [(q, .inl (d.2.1 4, 4, .inr (.inl f_)))]] H locs → lv_has ls 2 [(0, .ref ob), (1, .int x1)] → wb_X1_removeFirst_J_2 many_ Q fu x1 f_ → W p l e ({ frames := 9, cells := 0, slots := 0, locals := 10323 } : Room) s m args below meth c H locs 0 0 (g_E d (fun v w1 => ∃ (many2 : Int32) (f2 : Nat → Int64), v = none ∧ w1 = [[(ob, .inr (1, [.ref q, .int many2]))], [(q, .inl (d.2.1 4, 4, .inr (.inl f2)))]] ∧ Q many2 f2) A below args s 0 0) (F0 m 2 ls []) := by
    intro many_ fu
    induction fu with
    | zero => intro x1 f_ H locs ls hH hl hw; rw [wb_X1_removeFirst_J_2] at hw; exact hw.elim
    | succ fu ih =>
      intro x1 f_ H locs ls hH hl hw
      rw [wb_X1_removeFirst_J_2] at hw
      refine lv_iload_n hF.1.1 hF.1.2.1 dX1_removeFirst_2 rfl (lv_at hl 1 rfl) ?_
      refine lv_aload_n hF.1.1 hF.1.2.1 dX1_removeFirst_3 rfl (lv_at hl 0 rfl) ?_
      refine g_get (v := .int many_) hF hH in_X1 rfl 0 0 rfl rfl 1 (by decide) q147 (fun _ h9 => h9) rfl dX1_removeFirst_4 ?_
      refine lv_icmp_ge (tgt := 28) hF.1.1 hF.1.2.1 dX1_removeFirst_7 (by decide) (fun c_4 => ?_) (fun c_4 => ?_)
      · have hw := hw.1 c_4
        refine lv_aload_n hF.1.1 hF.1.2.1 dX1_removeFirst_28 rfl (lv_at hl 0 rfl) ?_
        refine lv_dup hF.1.1 hF.1.2.1 dX1_removeFirst_29 rfl ?_
        refine g_get (v := .int many_) hF hH in_X1 rfl 0 0 rfl rfl 1 (by decide) q147 (fun _ h9 => h9) rfl dX1_removeFirst_30 ?_
        refine lv_iconst (v := 1) hF.1.1 hF.1.2.1 dX1_removeFirst_33 (by decide) ?_
        refine lv_isub hF.1.1 hF.1.2.1 dX1_removeFirst_34 ?_
        refine g_put (cs' := [[(ob, .inr (1, [.ref q, .int (many_ - 1)]))], [(q, .inl (d.2.1 4, 4, .inr (.inl f_)))]]) (ch' := [(ob, .inr (1, [.ref q, .int (many_ - 1)]))]) (ty := .int) hF hH in_X1 rfl tyX1 tyX1_ok nmX1 0 0 rfl rfl 1 (by decide) q147 (fun _ h9 => h9) rfl (by decide +kernel) rfl rfl (Nat.le_of_ble_eq_true rfl) dX1_removeFirst_35 rfl rfl (fun H locs hH => ?_)
        exact g_vret hF hH ⟨(many_ - 1), f_, rfl, rfl, hw⟩ dX1_removeFirst_38
      · have hw := hw.2 c_4
        refine lv_aload_n hF.1.1 hF.1.2.1 dX1_removeFirst_10 rfl (lv_at hl 0 rfl) ?_
        refine lv_iload_n hF.1.1 hF.1.2.1 dX1_removeFirst_11 rfl (lv_at hl 1 rfl) ?_
        refine lv_iconst (v := 1) hF.1.1 hF.1.2.1 dX1_removeFirst_12 (by decide) ?_
        refine lv_isub hF.1.1 hF.1.2.1 dX1_removeFirst_13 ?_
        refine lv_aload_n hF.1.1 hF.1.2.1 dX1_removeFirst_14 rfl (lv_at hl 0 rfl) ?_
        refine lv_iload_n hF.1.1 hF.1.2.1 dX1_removeFirst_15 rfl (lv_at hl 1 rfl) ?_
        refine g_cV [.int x1] 1 rfl hF (met_X1_at_J l hl0 d ob x1 q many_ f_ _ hw) q224 q225 q226 q93 q227 rfl rfl (by decide +kernel) ⟨Nat.le_of_ble_eq_true rfl, Nat.le_of_ble_eq_true rfl⟩ hH [0, 1] rfl rfl rfl 0 0 rfl rfl rfl hl.1 (Nat.le_of_ble_eq_true rfl) dX1_removeFirst_16 ⟨(by first | exact Nat.le_of_ble_eq_true rfl | omega | (dsimp only; omega)), (by first | exact Nat.le_of_ble_eq_true rfl | omega | (dsimp only; omega))⟩ (fun v w1 H locs hq hH => ?_)
        obtain ⟨r_5, rfl, rfl, hw⟩ := hq
        have hH : g_HS d A s [[(ob, .inr (1, [.ref q, .int many_]))], [(q, .inl (d.2.1 4, 4, .inr (.inl f_)))]] H locs := hH
        refine W.eq (g2 := (F0 m 19 ls [.long r_5, .int (x1 - 1), .ref ob])) rfl ?_
        refine g_cV [.int (x1 - 1), .long r_5] 2 rfl hF (met_X1_put_J l hl0 d ob (x1 - 1) r_5 q many_ f_ _ hw) q228 q230 qs1 q93 q231 rfl rfl (by decide +kernel) ⟨Nat.le_of_ble_eq_true rfl, Nat.le_of_ble_eq_true rfl⟩ hH [0, 1] rfl rfl rfl 0 0 rfl rfl rfl hl.1 (Nat.le_of_ble_eq_true rfl) dX1_removeFirst_19 ⟨(by first | exact Nat.le_of_ble_eq_true rfl | omega | (dsimp only; omega)), (by first | exact Nat.le_of_ble_eq_true rfl | omega | (dsimp only; omega))⟩ (fun v w1 H locs hq hH => ?_)
        obtain ⟨n_6, rfl, rfl, hw⟩ := hq
        have hH : g_HS d A s [[(ob, .inr (1, [.ref q, .int many_]))], [(q, .inl (d.2.1 4, 4, .inr (.inl n_6)))]] H locs := hH
        refine W.eq (g2 := (F0 m 22 ls [])) rfl ?_
        refine lv_iinc (v := (x1 + 1)) (lv' := [(1, .int (x1 + 1)), (0, .ref ob)]) hF.1.1 hF.1.2.1 dX1_removeFirst_22 hl (k := 1) rfl rfl (by decide) rfl (fun ls hl => ?_)
        refine lv_goto (tgt := 2) hF.1.1 hF.1.2.1 dX1_removeFirst_25 (by decide) ?_
        have hl := lv_sub hl (l' := [(0, .ref ob), (1, .int (x1 + 1))]) [1, 0] rfl
        exact ih (x1 + 1) n_6 _ _ _ hH hl hw
  unfold wp_X1_removeFirst_J at hw
  refine lv_iconst (v := 1) hF.1.1 hF.1.2.1 dX1_removeFirst_0 (by decide) ?_
  refine lv_istore_n (lv' := [(1, .int 1), (0, .ref ob)]) hF.1.1 hF.1.2.1 dX1_removeFirst_1 rfl hl (by decide) rfl (fun ls hl => ?_)
  obtain ⟨f_7, hw⟩ := hw
  have hl := lv_sub hl (l' := [(0, .ref ob), (1, .int 1)]) [1, 0] rfl
  exact bk_2 many f_7 1 f _ _ _ hH hl hw

def wb_X1_place_B_2 (a1 : Int64) (many : Int32) (f : Nat → Int32) (Q : Int32 → Prop) : Nat → Int32 → Prop
  | 0, _ => False
  | fu + 1, x3 => ((many ≤ x3 → (Q (-1))) ∧ (¬ many ≤ x3 → (wp_X1_at_B x3 many f (fun r_5 => ((¬ (lg_cmp r_5 a1) = 0 → (wb_X1_place_B_2 a1 many f Q fu) (x3 + 1)) ∧ ((lg_cmp r_5 a1) = 0 → (Q x3)))))))
def wp_X1_place_B (a1 : Int64) (many : Int32) (f : Nat → Int32) (Q : Int32 → Prop) : Prop := (∃ f2, wb_X1_place_B_2 a1 many f Q f2 0)
set_option maxHeartbeats 4000000 in
set_option maxRecDepth 100000 in
theorem met_X1_place_B (l : Launch) (hl0 : l.stackTraces = false) (d : g_D) (ob : Nat) (a1 : Int64) (q : Nat) (many : Int32) (f : Nat → Int32) (Q : Int32 → Prop) (hw : wp_X1_place_B a1 many f Q) : g_Met l d yX1_place cX1_place 4 (Option.some FieldType.int) ({ frames := 1, cells := 0, slots := 0, locals := 21 } : Room) [.ref ob, .long a1] [[(ob, .inr (1, [.ref q, .int many]))], [(q, .inl (d.2.1 2, 10, .inl f))]] 0 0 (fun v w1 => ∃ (r : Int32), v = some (.int r) ∧ w1 = [[(ob, .inr (1, [.ref q, .int many]))], [(q, .inl (d.2.1 2, 10, .inl f))]] ∧ Q r) := by
  refine g_enter (by decide) (Nat.le_of_ble_eq_true rfl) ?_
  intro p e s m args below meth c A ls hF hH hl hin
  have hF : g_F p m c cX1_place 4 s args RX1 meth (Option.some FieldType.int) := hF
  have hl : lv_has ls 4 [(0, .ref ob), (1, .long a1)] := hl
  have bk_2 : ∀ (fu : Nat) (x3 : Int32) (H : Heap) (locs : List Loc) (ls : Array Slot), g_HS d A s [[(ob, .inr (1, [.ref q, .int many]))], [(q, .inl (d.2.1 2, 10, .inl f))]] H locs → lv_has ls 4 [(0, .ref ob), (1, .long a1), (3, .int x3)] → wb_X1_place_B_2 a1 many f Q fu x3 → W p l e ({ frames := 1, cells := 0, slots := 0, locals := 21 } : Room) s m args below meth c H locs 0 0 (g_E d (fun v w1 => ∃ (r : Int32), v = some (.int r) ∧ w1 = [[(ob, .inr (1, [.ref q, .int many]))], [(q, .inl (d.2.1 2, 10, .inl f))]] ∧ Q r) A below args s 0 0) (F0 m 2 ls []) := by
    intro fu
    induction fu with
    | zero => intro x3 H locs ls hH hl hw; rw [wb_X1_place_B_2] at hw; exact hw.elim
    | succ fu ih =>
      intro x3 H locs ls hH hl hw
      rw [wb_X1_place_B_2] at hw
      refine lv_iload_n hF.1.1 hF.1.2.1 dX1_place_2 rfl (lv_at hl 2 rfl) ?_
      refine lv_aload_n hF.1.1 hF.1.2.1 dX1_place_3 rfl (lv_at hl 0 rfl) ?_
      refine g_get (v := .int many) hF hH in_X1 rfl 0 0 rfl rfl 1 (by decide) q147 (fun _ h9 => h9) rfl dX1_place_4 ?_
      refine lv_icmp_ge (tgt := 28) hF.1.1 hF.1.2.1 dX1_place_7 (by decide) (fun c_4 => ?_) (fun c_4 => ?_)
      · have hw := hw.1 c_4
        refine lv_iconst (v := (-1)) hF.1.1 hF.1.2.1 dX1_place_28 (by decide) ?_
        exact g_iret hF hH ⟨(-1), rfl, rfl, hw⟩ dX1_place_29
      · have hw := hw.2 c_4
        refine lv_aload_n hF.1.1 hF.1.2.1 dX1_place_10 rfl (lv_at hl 0 rfl) ?_
        refine lv_iload_n hF.1.1 hF.1.2.1 dX1_place_11 rfl (lv_at hl 2 rfl) ?_
        refine g_cV [.int x3] 1 rfl hF (met_X1_at_B l hl0 d ob x3 q many f _ hw) q224 q225 q226 q93 q227 rfl rfl (by decide +kernel) ⟨Nat.le_of_ble_eq_true rfl, Nat.le_of_ble_eq_true rfl⟩ hH [0, 1] rfl rfl rfl 0 0 rfl rfl rfl hl.1 (Nat.le_of_ble_eq_true rfl) dX1_place_12 ⟨(by first | exact Nat.le_of_ble_eq_true rfl | omega | (dsimp only; omega)), (by first | exact Nat.le_of_ble_eq_true rfl | omega | (dsimp only; omega))⟩ (fun v w1 H locs hq hH => ?_)
        obtain ⟨r_5, rfl, rfl, hw⟩ := hq
        have hH : g_HS d A s [[(ob, .inr (1, [.ref q, .int many]))], [(q, .inl (d.2.1 2, 10, .inl f))]] H locs := hH
        refine W.eq (g2 := (F0 m 15 ls [.long r_5])) rfl ?_
        refine lv_lload_n hF.1.1 hF.1.2.1 dX1_place_15 rfl (lv_at hl 1 rfl) ?_
        refine W.lcmp hF.1.1 hF.1.2.1 dX1_place_16 ?_
        refine lv_if_ne (tgt := 22) hF.1.1 hF.1.2.1 dX1_place_17 (by decide) (fun c_6 => ?_) (fun c_6 => ?_)
        · have hw := hw.1 c_6
          refine lv_iinc (v := (x3 + 1)) (lv' := [(3, .int (x3 + 1)), (0, .ref ob), (1, .long a1)]) hF.1.1 hF.1.2.1 dX1_place_22 hl (k := 2) rfl rfl (by decide) rfl (fun ls hl => ?_)
          refine lv_goto (tgt := 2) hF.1.1 hF.1.2.1 dX1_place_25 (by decide) ?_
          have hl := lv_sub hl (l' := [(0, .ref ob), (1, .long a1), (3, .int (x3 + 1))]) [1, 2, 0] rfl
          exact ih (x3 + 1) _ _ _ hH hl hw
        · have hw := hw.2 c_6
          refine lv_iload_n hF.1.1 hF.1.2.1 dX1_place_20 rfl (lv_at hl 2 rfl) ?_
          exact g_iret hF hH ⟨x3, rfl, rfl, hw⟩ dX1_place_21
  unfold wp_X1_place_B at hw
  refine lv_iconst (v := 0) hF.1.1 hF.1.2.1 dX1_place_0 (by decide) ?_
  refine lv_istore_n (lv' := [(3, .int 0), (0, .ref ob), (1, .long a1)]) hF.1.1 hF.1.2.1 dX1_place_1 rfl hl (by decide) rfl (fun ls hl => ?_)
  obtain ⟨f_7, hw⟩ := hw
  have hl := lv_sub hl (l' := [(0, .ref ob), (1, .long a1), (3, .int 0)]) [1, 2, 0] rfl
  exact bk_2 f_7 0 _ _ _ hH hl hw

def wp_X2_init (a1 : Int32) (Q : Prop) : Prop := Q
set_option maxHeartbeats 4000000 in
set_option maxRecDepth 100000 in
theorem met_X2_init (l : Launch) (hl0 : l.stackTraces = false) (d : g_D) (ob : Nat) (a1 : Int32) (Q : Prop) (hw : wp_X2_init a1 Q) : g_Met l d yX2_init cX2_init 2 none ({ frames := 1, cells := 1, slots := 10, locals := 12 } : Room) [.ref ob, .int a1] [[(ob, .inr (2, [.int 0, .null]))]] 1 10 (fun v w1 => ∃ (q2 : Nat), v = none ∧ w1 = [[(ob, .inr (2, [.int a1, .ref q2]))], [(q2, .inl (d.2.1 0, 10, .inl (fun _ => 0)))]] ∧ Q) := by
  refine g_enter (by decide) (Nat.le_of_ble_eq_true rfl) ?_
  intro p e s m args below meth c A ls hF hH hl hin
  have hF : g_F p m c cX2_init 2 s args RX2 meth none := hF
  have hl : lv_has ls 2 [(0, .ref ob), (1, .int a1)] := hl
  have hin : meth.name = "<init>" := hin rfl
  unfold wp_X2_init at hw
  refine lv_aload_n hF.1.1 hF.1.2.1 dX2_init_0 rfl (lv_at hl 0 rfl) ?_
  refine W.objInit hF.1.1 hF.1.2.1 hF.1.2.2.2.1 (hF.1.2.2.2.2 _ q165) (hF.1.2.2.2.2 _ q137) (hF.1.2.2.2.2 _ q138) rfl (by rw [hF.1.2.2.1]; exact hl.1) rfl dX2_init_1 (Nat.le_of_ble_eq_true rfl) (Nat.le_of_ble_eq_true rfl) ?_
  refine W.eq (g2 := (F0 m 4 ls [])) rfl ?_
  refine lv_aload_n hF.1.1 hF.1.2.1 dX2_init_4 rfl (lv_at hl 0 rfl) ?_
  refine lv_bipush (v := 10) hF.1.1 hF.1.2.1 dX2_init_5 (by decide) ?_
  refine g_newI (N' := 10) hF hH q181 (by decide) rfl (by decide) (by first | exact Nat.le_of_ble_eq_true rfl | omega | (dsimp only; omega)) (by first | exact Nat.le_of_ble_eq_true rfl | omega | (dsimp only; omega)) dX2_init_7 (fun q_2 H hH => ?_)
  have hH : g_HS d A s [[(ob, .inr (2, [.int 0, .null]))], [(q_2, .inl (d.2.1 0, 10, .inl (fun _ => 0)))]] H _ := hH
  refine W.widen (k := 1) (n := 10) (by first | exact Nat.le_of_ble_eq_true rfl | omega | (dsimp only; omega)) (by first | exact Nat.le_of_ble_eq_true rfl | omega | (dsimp only; omega)) ?_
  refine g_putF (cs' := [[(ob, .inr (2, [.int 0, .ref q_2]))], [(q_2, .inl (d.2.1 0, 10, .inl (fun _ => 0)))]]) (ch' := [(ob, .inr (2, [.int 0, .ref q_2]))]) (ty := (.array (.int))) hF hin hH in_X2 rfl tyX2 tyX2_ok nmX2 0 0 rfl rfl 1 (by decide) q170 (fun _ h9 => h9) rfl rfl (by decide +kernel) rfl rfl (Nat.le_of_ble_eq_true rfl) dX2_init_9 rfl rfl (fun H locs hH => ?_)
  refine lv_aload_n hF.1.1 hF.1.2.1 dX2_init_12 rfl (lv_at hl 0 rfl) ?_
  refine lv_iload_n hF.1.1 hF.1.2.1 dX2_init_13 rfl (lv_at hl 1 rfl) ?_
  refine g_putF (cs' := [[(ob, .inr (2, [.int a1, .ref q_2]))], [(q_2, .inl (d.2.1 0, 10, .inl (fun _ => 0)))]]) (ch' := [(ob, .inr (2, [.int a1, .ref q_2]))]) (ty := .int) hF hin hH in_X2 rfl tyX2 tyX2_ok nmX2 0 0 rfl rfl 0 (by decide) q166 (fun _ h9 => h9) rfl rfl (by decide +kernel) rfl rfl (Nat.le_of_ble_eq_true rfl) dX2_init_14 rfl rfl (fun H locs hH => ?_)
  exact g_vret hF hH ⟨q_2, rfl, rfl, hw⟩ dX2_init_17

def wp_X2_linked (a1 : Int32) (a2 : Int32) (n : Int32) (near : Nat → Int32) (Q : Int32 → Prop) : Prop := (vp_in a1 10 ∧ (wp_X0_has (near a1.toNatClampNeg) a2 (fun r_4 => ((r_4 = 0 ∨ r_4 = 1) ∧ (Q r_4)))))
set_option maxHeartbeats 4000000 in
set_option maxRecDepth 100000 in
theorem met_X2_linked (l : Launch) (hl0 : l.stackTraces = false) (d : g_D) (ob : Nat) (a1 : Int32) (a2 : Int32) (n : Int32) (q : Nat) (near : Nat → Int32) (Q : Int32 → Prop) (hw : wp_X2_linked a1 a2 n near Q) : g_Met l d yX2_linked cX2_linked 3 (Option.some FieldType.boolean) ({ frames := 1, cells := 0, slots := 0, locals := 21 } : Room) [.ref ob, .int a1, .int a2] [[(ob, .inr (2, [.int n, .ref q]))], [(q, .inl (d.2.1 0, 10, .inl near))]] 0 0 (fun v w1 => ∃ (r : Int32), v = some (.int r) ∧ w1 = [[(ob, .inr (2, [.int n, .ref q]))], [(q, .inl (d.2.1 0, 10, .inl near))]] ∧ Q r) := by
  refine g_enter (by decide) (Nat.le_of_ble_eq_true rfl) ?_
  intro p e s m args below meth c A ls hF hH hl hin
  have hF : g_F p m c cX2_linked 3 s args RX2 meth (Option.some FieldType.boolean) := hF
  have hl : lv_has ls 3 [(0, .ref ob), (1, .int a1), (2, .int a2)] := hl
  unfold wp_X2_linked at hw
  refine lv_aload_n hF.1.1 hF.1.2.1 dX2_linked_0 rfl (lv_at hl 0 rfl) ?_
  refine g_get (v := .ref q) hF hH in_X2 rfl 0 0 rfl rfl 1 (by decide) q170 (fun _ h9 => h9) rfl dX2_linked_1 ?_
  refine lv_iload_n hF.1.1 hF.1.2.1 dX2_linked_4 rfl (lv_at hl 1 rfl) ?_
  obtain ⟨hi_3, hw⟩ := hw
  refine g_iald hF hH 1 0 rfl rfl hi_3 dX2_linked_5 ?_
  refine lv_iload_n hF.1.1 hF.1.2.1 dX2_linked_6 rfl (lv_at hl 2 rfl) ?_
  refine g_cSN [.int (near a1.toNatClampNeg), .int a2] 2 rfl hF (met_X0_has l hl0 d (near a1.toNatClampNeg) a2 _ hw) q240 q241 q92 q242 rfl rfl (by decide +kernel) ⟨Nat.le_of_ble_eq_true rfl, Nat.le_of_ble_eq_true rfl⟩ hH [] rfl rfl rfl hl.1 (Nat.le_of_ble_eq_true rfl) dX2_linked_7 ⟨(by first | exact Nat.le_of_ble_eq_true rfl | omega | (dsimp only; omega)), (by first | exact Nat.le_of_ble_eq_true rfl | omega | (dsimp only; omega))⟩ (fun v w1 H locs hq hH => ?_)
  obtain ⟨r_4, rfl, rfl, hw⟩ := hq
  have hH : g_HS d A s [[(ob, .inr (2, [.int n, .ref q]))], [(q, .inl (d.2.1 0, 10, .inl near))]] H locs := hH
  refine W.eq (g2 := (F0 m 10 ls [.int r_4])) rfl ?_
  obtain ⟨hb_5, hw⟩ := hw
  exact g_zret hF (g_b01 hb_5) hH ⟨r_4, rfl, rfl, hw⟩ dX2_linked_10

def wb_X2_set_34 (a1 : Int32) (a2 : Int32) (a3 : Int32) (n : Int32) (Q : (Nat → Int32) → Prop) (y2 : Int32) (near_ : Nat → Int32) : Prop := (vp_in a1 10 ∧ ((a3 = 0 → (vp_in a2 10 ∧ (vp_in a2 10 ∧ (Q (upd (upd near_ a1.toNatClampNeg y2) a2.toNatClampNeg (((upd near_ a1.toNatClampNeg y2) a2.toNatClampNeg) &&& (((1 : Int32) <<< (a1 &&& 31)) ^^^ (-1)))))))) ∧ (¬ a3 = 0 → (vp_in a2 10 ∧ (vp_in a2 10 ∧ (Q (upd (upd near_ a1.toNatClampNeg y2) a2.toNatClampNeg (((upd near_ a1.toNatClampNeg y2) a2.toNatClampNeg) ||| ((1 : Int32) <<< (a1 &&& 31))))))))))
def wp_X2_set (a1 : Int32) (a2 : Int32) (a3 : Int32) (n : Int32) (near : Nat → Int32) (Q : (Nat → Int32) → Prop) : Prop := ((a3 = 0 → (vp_in a1 10 ∧ (wb_X2_set_34 a1 a2 a3 n Q ((near a1.toNatClampNeg) &&& (((1 : Int32) <<< (a2 &&& 31)) ^^^ (-1))) near))) ∧ (¬ a3 = 0 → (vp_in a1 10 ∧ (wb_X2_set_34 a1 a2 a3 n Q ((near a1.toNatClampNeg) ||| ((1 : Int32) <<< (a2 &&& 31))) near))))
set_option maxHeartbeats 4000000 in
set_option maxRecDepth 100000 in
theorem met_X2_set (l : Launch) (hl0 : l.stackTraces = false) (d : g_D) (ob : Nat) (a1 : Int32) (a2 : Int32) (a3 : Int32) (n : Int32) (q : Nat) (near : Nat → Int32) (Q : (Nat → Int32) → Prop) (hw : wp_X2_set a1 a2 a3 n near Q) : g_Met l d yX2_set cX2_set 4 none ({ frames := 0, cells := 0, slots := 0, locals := 0 } : Room) [.ref ob, .int a1, .int a2, .int a3] [[(ob, .inr (2, [.int n, .ref q]))], [(q, .inl (d.2.1 0, 10, .inl near))]] 0 0 (fun v w1 => ∃ (near2 : Nat → Int32), v = none ∧ w1 = [[(ob, .inr (2, [.int n, .ref q]))], [(q, .inl (d.2.1 0, 10, .inl near2))]] ∧ Q near2) := by
  refine g_enter (by decide) (Nat.le_of_ble_eq_true rfl) ?_
  intro p e s m args below meth c A ls hF hH hl hin
  have hF : g_F p m c cX2_set 4 s args RX2 meth none := hF
  have hl : lv_has ls 4 [(0, .ref ob), (1, .int a1), (2, .int a2), (3, .int a3)] := hl
  have bk_34 : ∀ (y2 : Int32) (near_ : Nat → Int32) (H : Heap) (locs : List Loc) (ls : Array Slot), g_HS d A s [[(ob, .inr (2, [.int n, .ref q]))], [(q, .inl (d.2.1 0, 10, .inl near_))]] H locs → lv_has ls 4 [(0, .ref ob), (1, .int a1), (2, .int a2), (3, .int a3)] → wb_X2_set_34 a1 a2 a3 n Q y2 near_ → W p l e ({ frames := 0, cells := 0, slots := 0, locals := 0 } : Room) s m args below meth c H locs 0 0 (g_E d (fun v w1 => ∃ (near2 : Nat → Int32), v = none ∧ w1 = [[(ob, .inr (2, [.int n, .ref q]))], [(q, .inl (d.2.1 0, 10, .inl near2))]] ∧ Q near2) A below args s 0 0) (F0 m 34 ls [.int y2, .int a1, .ref q]) := by
    intro y2 near_ H locs ls hH hl hw
    unfold wb_X2_set_34 at hw
    obtain ⟨hi_10, hw⟩ := hw
    refine g_iast (cs' := [[(ob, .inr (2, [.int n, .ref q]))], [(q, .inl (d.2.1 0, 10, .inl (upd near_ a1.toNatClampNeg y2)))]]) (ch' := [(q, .inl (d.2.1 0, 10, .inl (upd near_ a1.toNatClampNeg y2)))]) hF hH 1 0 rfl rfl hi_10 dX2_set_34 rfl rfl (fun H locs hH => ?_)
    refine lv_aload_n hF.1.1 hF.1.2.1 dX2_set_35 rfl (lv_at hl 0 rfl) ?_
    refine g_get (v := .ref q) hF hH in_X2 rfl 0 0 rfl rfl 1 (by decide) q170 (fun _ h9 => h9) rfl dX2_set_36 ?_
    refine lv_iload_n hF.1.1 hF.1.2.1 dX2_set_39 rfl (lv_at hl 2 rfl) ?_
    refine lv_iload_n hF.1.1 hF.1.2.1 dX2_set_40 rfl (lv_at hl 3 rfl) ?_
    refine lv_if_eq (tgt := 57) hF.1.1 hF.1.2.1 dX2_set_41 (by decide) (fun c_11 => ?_) (fun c_11 => ?_)
    · have hw := hw.1 c_11
      refine lv_aload_n hF.1.1 hF.1.2.1 dX2_set_57 rfl (lv_at hl 0 rfl) ?_
      refine g_get (v := .ref q) hF hH in_X2 rfl 0 0 rfl rfl 1 (by decide) q170 (fun _ h9 => h9) rfl dX2_set_58 ?_
      refine lv_iload_n hF.1.1 hF.1.2.1 dX2_set_61 rfl (lv_at hl 2 rfl) ?_
      obtain ⟨hi_12, hw⟩ := hw
      refine g_iald hF hH 1 0 rfl rfl hi_12 dX2_set_62 ?_
      refine lv_iconst (v := 1) hF.1.1 hF.1.2.1 dX2_set_63 (by decide) ?_
      refine lv_iload_n hF.1.1 hF.1.2.1 dX2_set_64 rfl (lv_at hl 1 rfl) ?_
      refine lv_ishl hF.1.1 hF.1.2.1 dX2_set_65 ?_
      refine lv_iconst (v := (-1)) hF.1.1 hF.1.2.1 dX2_set_66 (by decide) ?_
      refine lv_ixor hF.1.1 hF.1.2.1 dX2_set_67 ?_
      refine lv_iand hF.1.1 hF.1.2.1 dX2_set_68 ?_
      obtain ⟨hi_13, hw⟩ := hw
      refine g_iast (cs' := [[(ob, .inr (2, [.int n, .ref q]))], [(q, .inl (d.2.1 0, 10, .inl (upd (upd near_ a1.toNatClampNeg y2) a2.toNatClampNeg (((upd near_ a1.toNatClampNeg y2) a2.toNatClampNeg) &&& (((1 : Int32) <<< (a1 &&& 31)) ^^^ (-1))))))]]) (ch' := [(q, .inl (d.2.1 0, 10, .inl (upd (upd near_ a1.toNatClampNeg y2) a2.toNatClampNeg (((upd near_ a1.toNatClampNeg y2) a2.toNatClampNeg) &&& (((1 : Int32) <<< (a1 &&& 31)) ^^^ (-1))))))]) hF hH 1 0 rfl rfl hi_13 dX2_set_69 rfl rfl (fun H locs hH => ?_)
      exact g_vret hF hH ⟨(upd (upd near_ a1.toNatClampNeg y2) a2.toNatClampNeg (((upd near_ a1.toNatClampNeg y2) a2.toNatClampNeg) &&& (((1 : Int32) <<< (a1 &&& 31)) ^^^ (-1)))), rfl, rfl, hw⟩ dX2_set_70
    · have hw := hw.2 c_11
      refine lv_aload_n hF.1.1 hF.1.2.1 dX2_set_44 rfl (lv_at hl 0 rfl) ?_
      refine g_get (v := .ref q) hF hH in_X2 rfl 0 0 rfl rfl 1 (by decide) q170 (fun _ h9 => h9) rfl dX2_set_45 ?_
      refine lv_iload_n hF.1.1 hF.1.2.1 dX2_set_48 rfl (lv_at hl 2 rfl) ?_
      obtain ⟨hi_14, hw⟩ := hw
      refine g_iald hF hH 1 0 rfl rfl hi_14 dX2_set_49 ?_
      refine lv_iconst (v := 1) hF.1.1 hF.1.2.1 dX2_set_50 (by decide) ?_
      refine lv_iload_n hF.1.1 hF.1.2.1 dX2_set_51 rfl (lv_at hl 1 rfl) ?_
      refine lv_ishl hF.1.1 hF.1.2.1 dX2_set_52 ?_
      refine lv_ior hF.1.1 hF.1.2.1 dX2_set_53 ?_
      refine lv_goto (tgt := 69) hF.1.1 hF.1.2.1 dX2_set_54 (by decide) ?_
      obtain ⟨hi_15, hw⟩ := hw
      refine g_iast (cs' := [[(ob, .inr (2, [.int n, .ref q]))], [(q, .inl (d.2.1 0, 10, .inl (upd (upd near_ a1.toNatClampNeg y2) a2.toNatClampNeg (((upd near_ a1.toNatClampNeg y2) a2.toNatClampNeg) ||| ((1 : Int32) <<< (a1 &&& 31))))))]]) (ch' := [(q, .inl (d.2.1 0, 10, .inl (upd (upd near_ a1.toNatClampNeg y2) a2.toNatClampNeg (((upd near_ a1.toNatClampNeg y2) a2.toNatClampNeg) ||| ((1 : Int32) <<< (a1 &&& 31))))))]) hF hH 1 0 rfl rfl hi_15 dX2_set_69 rfl rfl (fun H locs hH => ?_)
      exact g_vret hF hH ⟨(upd (upd near_ a1.toNatClampNeg y2) a2.toNatClampNeg (((upd near_ a1.toNatClampNeg y2) a2.toNatClampNeg) ||| ((1 : Int32) <<< (a1 &&& 31)))), rfl, rfl, hw⟩ dX2_set_70
  unfold wp_X2_set at hw
  refine lv_aload_n hF.1.1 hF.1.2.1 dX2_set_0 rfl (lv_at hl 0 rfl) ?_
  refine g_get (v := .ref q) hF hH in_X2 rfl 0 0 rfl rfl 1 (by decide) q170 (fun _ h9 => h9) rfl dX2_set_1 ?_
  refine lv_iload_n hF.1.1 hF.1.2.1 dX2_set_4 rfl (lv_at hl 1 rfl) ?_
  refine lv_iload_n hF.1.1 hF.1.2.1 dX2_set_5 rfl (lv_at hl 3 rfl) ?_
  refine lv_if_eq (tgt := 22) hF.1.1 hF.1.2.1 dX2_set_6 (by decide) (fun c_16 => ?_) (fun c_16 => ?_)
  · have hw := hw.1 c_16
    refine lv_aload_n hF.1.1 hF.1.2.1 dX2_set_22 rfl (lv_at hl 0 rfl) ?_
    refine g_get (v := .ref q) hF hH in_X2 rfl 0 0 rfl rfl 1 (by decide) q170 (fun _ h9 => h9) rfl dX2_set_23 ?_
    refine lv_iload_n hF.1.1 hF.1.2.1 dX2_set_26 rfl (lv_at hl 1 rfl) ?_
    obtain ⟨hi_17, hw⟩ := hw
    refine g_iald hF hH 1 0 rfl rfl hi_17 dX2_set_27 ?_
    refine lv_iconst (v := 1) hF.1.1 hF.1.2.1 dX2_set_28 (by decide) ?_
    refine lv_iload_n hF.1.1 hF.1.2.1 dX2_set_29 rfl (lv_at hl 2 rfl) ?_
    refine lv_ishl hF.1.1 hF.1.2.1 dX2_set_30 ?_
    refine lv_iconst (v := (-1)) hF.1.1 hF.1.2.1 dX2_set_31 (by decide) ?_
    refine lv_ixor hF.1.1 hF.1.2.1 dX2_set_32 ?_
    refine lv_iand hF.1.1 hF.1.2.1 dX2_set_33 ?_
    exact bk_34 ((near a1.toNatClampNeg) &&& (((1 : Int32) <<< (a2 &&& 31)) ^^^ (-1))) near _ _ _ hH hl hw
  · have hw := hw.2 c_16
    refine lv_aload_n hF.1.1 hF.1.2.1 dX2_set_9 rfl (lv_at hl 0 rfl) ?_
    refine g_get (v := .ref q) hF hH in_X2 rfl 0 0 rfl rfl 1 (by decide) q170 (fun _ h9 => h9) rfl dX2_set_10 ?_
    refine lv_iload_n hF.1.1 hF.1.2.1 dX2_set_13 rfl (lv_at hl 1 rfl) ?_
    obtain ⟨hi_18, hw⟩ := hw
    refine g_iald hF hH 1 0 rfl rfl hi_18 dX2_set_14 ?_
    refine lv_iconst (v := 1) hF.1.1 hF.1.2.1 dX2_set_15 (by decide) ?_
    refine lv_iload_n hF.1.1 hF.1.2.1 dX2_set_16 rfl (lv_at hl 2 rfl) ?_
    refine lv_ishl hF.1.1 hF.1.2.1 dX2_set_17 ?_
    refine lv_ior hF.1.1 hF.1.2.1 dX2_set_18 ?_
    refine lv_goto (tgt := 34) hF.1.1 hF.1.2.1 dX2_set_19 (by decide) ?_
    exact bk_34 ((near a1.toNatClampNeg) ||| ((1 : Int32) <<< (a2 &&& 31))) near _ _ _ hH hl hw

def wb_X2_init_2_54 (x5 : Int32) (v_vertices : Int32) (K17 : Int64 → Int32 → (Nat → Int32) → Prop) (K29 : Int64 → Int32 → (Nat → Int32) → Prop) (Q : Int32 → (Nat → Int32) → Prop) (x3 : Int64) (x6 : Int32) (y1 : Int32) (y2 : Int32) (y3 : Int32) (v_q_1 : Nat → Int32) : Prop := (wp_X2_set y1 y2 y3 v_vertices v_q_1 (fun n_6 => K29 (x3 >>> ((1 : Int32).toInt64 &&& 63)) (x6 + 1) n_6))
def wb_X2_init_2_29 (x5 : Int32) (v_vertices : Int32) (K17 : Int64 → Int32 → (Nat → Int32) → Prop) (Q : Int32 → (Nat → Int32) → Prop) : Nat → Int64 → Int32 → (Nat → Int32) → Prop
  | 0, _, _, _ => False
  | fu + 1, x3, x6, v_q_1 => ((x5 ≤ x6 → K17 x3 (x5 + 1) v_q_1) ∧ (¬ x5 ≤ x6 → ((¬ (lg_cmp (x3 &&& 1) 1) = 0 → (wb_X2_init_2_54 x5 v_vertices K17 (wb_X2_init_2_29 x5 v_vertices K17 Q fu) Q x3 x6 x5 x6 0 v_q_1)) ∧ ((lg_cmp (x3 &&& 1) 1) = 0 → (wb_X2_init_2_54 x5 v_vertices K17 (wb_X2_init_2_29 x5 v_vertices K17 Q fu) Q x3 x6 x5 x6 1 v_q_1)))))
def wb_X2_init_2_17 (v_vertices : Int32) (Q : Int32 → (Nat → Int32) → Prop) : Nat → Int64 → Int32 → (Nat → Int32) → Prop
  | 0, _, _, _ => False
  | fu + 1, x3, x5, v_q_1 => ((v_vertices ≤ x5 → (Q v_vertices v_q_1)) ∧ (¬ v_vertices ≤ x5 → (∃ f29, wb_X2_init_2_29 x5 v_vertices (wb_X2_init_2_17 v_vertices Q fu) Q f29 x3 0 v_q_1)))
def wp_X2_init_2 (a1 : Int64) (Q : Int32 → (Nat → Int32) → Prop) : Prop := (wp_X2_init ((a1 &&& 15).toInt32) (∃ f17, wb_X2_init_2_17 ((a1 &&& 15).toInt32) Q f17 (a1 >>> ((4 : Int32).toInt64 &&& 63)) 0 (fun _ => 0)))
set_option maxHeartbeats 4000000 in
set_option maxRecDepth 100000 in
theorem met_X2_init_2 (l : Launch) (hl0 : l.stackTraces = false) (d : g_D) (ob : Nat) (a1 : Int64) (Q : Int32 → (Nat → Int32) → Prop) (hw : wp_X2_init_2 a1 Q) : g_Met l d yX2_init_2 cX2_init_2 7 none ({ frames := 2, cells := 1, slots := 10, locals := 33 } : Room) [.ref ob, .long a1] [[(ob, .inr (2, [.int 0, .null]))]] 1 10 (fun v w1 => ∃ (q2 : Nat) (n2 : Int32) (near2 : Nat → Int32), v = none ∧ w1 = [[(ob, .inr (2, [.int n2, .ref q2]))], [(q2, .inl (d.2.1 0, 10, .inl near2))]] ∧ Q n2 near2) := by
  refine g_enter (by decide) (Nat.le_of_ble_eq_true rfl) ?_
  intro p e s m args below meth c A ls hF hH hl hin
  have hF : g_F p m c cX2_init_2 7 s args RX2 meth none := hF
  have hl : lv_has ls 7 [(0, .ref ob), (1, .long a1)] := hl
  have hin : meth.name = "<init>" := hin rfl
  have bk_54 : ∀ (x5 : Int32) (v_vertices : Int32) (K17 : Int64 → Int32 → (Nat → Int32) → Prop) (hK17 : ∀ (q_1 : Nat) (x3 : Int64) (x5 : Int32) (v_q_1 : Nat → Int32) (H : Heap) (locs : List Loc) (ls : Array Slot), g_HS d A s [[(ob, .inr (2, [.int v_vertices, .ref q_1]))], [(q_1, .inl (d.2.1 0, 10, .inl v_q_1))]] H locs → lv_has ls 7 [(0, .ref ob), (3, .long x3), (5, .int x5)] → K17 x3 x5 v_q_1 → W p l e ({ frames := 2, cells := 1, slots := 10, locals := 33 } : Room) s m args below meth c H locs 1 10 (g_E d (fun v w1 => ∃ (q2 : Nat) (n2 : Int32) (near2 : Nat → Int32), v = none ∧ w1 = [[(ob, .inr (2, [.int n2, .ref q2]))], [(q2, .inl (d.2.1 0, 10, .inl near2))]] ∧ Q n2 near2) A below args s 1 10) (F0 m 17 ls [])) (K29 : Int64 → Int32 → (Nat → Int32) → Prop) (hK29 : ∀ (q_1 : Nat) (x3 : Int64) (x6 : Int32) (v_q_1 : Nat → Int32) (H : Heap) (locs : List Loc) (ls : Array Slot), g_HS d A s [[(ob, .inr (2, [.int v_vertices, .ref q_1]))], [(q_1, .inl (d.2.1 0, 10, .inl v_q_1))]] H locs → lv_has ls 7 [(0, .ref ob), (3, .long x3), (5, .int x5), (6, .int x6)] → K29 x3 x6 v_q_1 → W p l e ({ frames := 2, cells := 1, slots := 10, locals := 33 } : Room) s m args below meth c H locs 1 10 (g_E d (fun v w1 => ∃ (q2 : Nat) (n2 : Int32) (near2 : Nat → Int32), v = none ∧ w1 = [[(ob, .inr (2, [.int n2, .ref q2]))], [(q2, .inl (d.2.1 0, 10, .inl near2))]] ∧ Q n2 near2) A below args s 1 10) (F0 m 29 ls [])) (q_1 : Nat) (x3 : Int64) (x6 : Int32) (y1 : Int32) (y2 : Int32) (y3 : Int32) (v_q_1 : Nat → Int32) (H : Heap) (locs : List Loc) (ls : Array Slot), g_HS d A s [[(ob, .inr (2, [.int v_vertices, .ref q_1]))], [(q_1, .inl (d.2.1 0, 10, .inl v_q_1))]] H locs → lv_has ls 7 [(0, .ref ob), (3, .long x3), (5, .int x5), (6, .int x6)] → wb_X2_init_2_54 x5 v_vertices K17 K29 Q x3 x6 y1 y2 y3 v_q_1 → W p l e ({ frames := 2, cells := 1, slots := 10, locals := 33 } : Room) s m args below meth c H locs 1 10 (g_E d (fun v w1 => ∃ (q2 : Nat) (n2 : Int32) (near2 : Nat → Int32), v = none ∧ w1 = [[(ob, .inr (2, [.int n2, .ref q2]))], [(q2, .inl (d.2.1 0, 10, .inl near2))]] ∧ Q n2 near2) A below args s 1 10) (F0 m 54 ls [.int y3, .int y2, .int y1, .ref ob]) := by
    intro x5 v_vertices K17 hK17 K29 hK29 q_1 x3 x6 y1 y2 y3 v_q_1 H locs ls hH hl hw
    unfold wb_X2_init_2_54 at hw
    refine g_cV [.int y1, .int y2, .int y3] 3 rfl hF (met_X2_set l hl0 d ob y1 y2 y3 v_vertices q_1 v_q_1 _ hw) q799 q365 q366 q94 q367 rfl rfl (by decide +kernel) ⟨Nat.le_of_ble_eq_true rfl, Nat.le_of_ble_eq_true rfl⟩ hH [0, 1] rfl rfl rfl 0 0 rfl rfl rfl hl.1 (Nat.le_of_ble_eq_true rfl) dX2_init_2_54 ⟨(by first | exact Nat.le_of_ble_eq_true rfl | omega | (dsimp only; omega)), (by first | exact Nat.le_of_ble_eq_true rfl | omega | (dsimp only; omega))⟩ (fun v w1 H locs hq hH => ?_)
    obtain ⟨n_6, rfl, rfl, hw⟩ := hq
    have hH : g_HS d A s [[(ob, .inr (2, [.int v_vertices, .ref q_1]))], [(q_1, .inl (d.2.1 0, 10, .inl n_6))]] H locs := hH
    refine W.eq (g2 := (F0 m 57 ls [])) rfl ?_
    refine lv_lload_n hF.1.1 hF.1.2.1 dX2_init_2_57 rfl (lv_at hl 1 rfl) ?_
    refine lv_iconst (v := 1) hF.1.1 hF.1.2.1 dX2_init_2_58 (by decide) ?_
    refine lv_lshr (v := (x3 >>> ((1 : Int32).toInt64 &&& 63))) hF.1.1 hF.1.2.1 dX2_init_2_59 rfl ?_
    refine lv_lstore_n (lv' := [(3, .long (x3 >>> ((1 : Int32).toInt64 &&& 63))), (0, .ref ob), (5, .int x5), (6, .int x6)]) hF.1.1 hF.1.2.1 dX2_init_2_60 rfl hl (by decide) rfl (fun ls hl => ?_)
    refine lv_iinc (v := (x6 + 1)) (lv' := [(6, .int (x6 + 1)), (3, .long (x3 >>> ((1 : Int32).toInt64 &&& 63))), (0, .ref ob), (5, .int x5)]) hF.1.1 hF.1.2.1 dX2_init_2_61 hl (k := 3) rfl rfl (by decide) rfl (fun ls hl => ?_)
    refine lv_goto (tgt := 29) hF.1.1 hF.1.2.1 dX2_init_2_64 (by decide) ?_
    have hl := lv_sub hl (l' := [(0, .ref ob), (3, .long (x3 >>> ((1 : Int32).toInt64 &&& 63))), (5, .int x5), (6, .int (x6 + 1))]) [2, 1, 3, 0] rfl
    exact hK29 q_1 (x3 >>> ((1 : Int32).toInt64 &&& 63)) (x6 + 1) n_6 _ _ _ hH hl hw
  have bk_29 : ∀ (x5 : Int32) (v_vertices : Int32) (K17 : Int64 → Int32 → (Nat → Int32) → Prop) (hK17 : ∀ (q_1 : Nat) (x3 : Int64) (x5 : Int32) (v_q_1 : Nat → Int32) (H : Heap) (locs : List Loc) (ls : Array Slot), g_HS d A s [[(ob, .inr (2, [.int v_vertices, .ref q_1]))], [(q_1, .inl (d.2.1 0, 10, .inl v_q_1))]] H locs → lv_has ls 7 [(0, .ref ob), (3, .long x3), (5, .int x5)] → K17 x3 x5 v_q_1 → W p l e ({ frames := 2, cells := 1, slots := 10, locals := 33 } : Room) s m args below meth c H locs 1 10 (g_E d (fun v w1 => ∃ (q2 : Nat) (n2 : Int32) (near2 : Nat → Int32), v = none ∧ w1 = [[(ob, .inr (2, [.int n2, .ref q2]))], [(q2, .inl (d.2.1 0, 10, .inl near2))]] ∧ Q n2 near2) A below args s 1 10) (F0 m 17 ls [])) (fu : Nat) (q_1 : Nat) (x3 : Int64) (x6 : Int32) (v_q_1 : Nat → Int32) (H : Heap) (locs : List Loc) (ls : Array Slot), g_HS d A s [[(ob, .inr (2, [.int v_vertices, .ref q_1]))], [(q_1, .inl (d.2.1 0, 10, .inl v_q_1))]] H locs → lv_has ls 7 [(0, .ref ob), (3, .long x3), (5, .int x5), (6, .int x6)] → wb_X2_init_2_29 x5 v_vertices K17 Q fu x3 x6 v_q_1 → W p l e ({ frames := 2, cells := 1, slots := 10, locals := 33 } : Room) s m args below meth c H locs 1 10 (g_E d (fun v w1 => ∃ (q2 : Nat) (n2 : Int32) (near2 : Nat → Int32), v = none ∧ w1 = [[(ob, .inr (2, [.int n2, .ref q2]))], [(q2, .inl (d.2.1 0, 10, .inl near2))]] ∧ Q n2 near2) A below args s 1 10) (F0 m 29 ls []) := by
    intro x5 v_vertices K17 hK17 fu
    induction fu with
    | zero => intro q_1 x3 x6 v_q_1 H locs ls hH hl hw; rw [wb_X2_init_2_29] at hw; exact hw.elim
    | succ fu ih =>
      intro q_1 x3 x6 v_q_1 H locs ls hH hl hw
      rw [wb_X2_init_2_29] at hw
      refine lv_iload hF.1.1 hF.1.2.1 dX2_init_2_29 (lv_at hl 3 rfl) ?_
      refine lv_iload hF.1.1 hF.1.2.1 dX2_init_2_31 (lv_at hl 2 rfl) ?_
      refine lv_icmp_ge (tgt := 67) hF.1.1 hF.1.2.1 dX2_init_2_33 (by decide) (fun c_7 => ?_) (fun c_7 => ?_)
      · have hw := hw.1 c_7
        refine lv_iinc (v := (x5 + 1)) (lv' := [(5, .int (x5 + 1)), (0, .ref ob), (3, .long x3), (6, .int x6)]) hF.1.1 hF.1.2.1 dX2_init_2_67 hl (k := 2) rfl rfl (by decide) rfl (fun ls hl => ?_)
        refine lv_goto (tgt := 17) hF.1.1 hF.1.2.1 dX2_init_2_70 (by decide) ?_
        have hl := lv_sub hl (l' := [(0, .ref ob), (3, .long x3), (5, .int (x5 + 1))]) [1, 2, 0] rfl
        exact hK17 q_1 x3 (x5 + 1) v_q_1 _ _ _ hH hl hw
      · have hw := hw.2 c_7
        refine lv_aload_n hF.1.1 hF.1.2.1 dX2_init_2_36 rfl (lv_at hl 0 rfl) ?_
        refine lv_iload hF.1.1 hF.1.2.1 dX2_init_2_37 (lv_at hl 2 rfl) ?_
        refine lv_iload hF.1.1 hF.1.2.1 dX2_init_2_39 (lv_at hl 3 rfl) ?_
        refine lv_lload_n hF.1.1 hF.1.2.1 dX2_init_2_41 rfl (lv_at hl 1 rfl) ?_
        refine lv_lconst (v := 1) hF.1.1 hF.1.2.1 dX2_init_2_42 rfl ?_
        refine lv_land hF.1.1 hF.1.2.1 dX2_init_2_43 ?_
        refine lv_lconst (v := 1) hF.1.1 hF.1.2.1 dX2_init_2_44 rfl ?_
        refine W.lcmp hF.1.1 hF.1.2.1 dX2_init_2_45 ?_
        refine lv_if_ne (tgt := 53) hF.1.1 hF.1.2.1 dX2_init_2_46 (by decide) (fun c_8 => ?_) (fun c_8 => ?_)
        · have hw := hw.1 c_8
          refine lv_iconst (v := 0) hF.1.1 hF.1.2.1 dX2_init_2_53 (by decide) ?_
          exact bk_54 x5 v_vertices K17 hK17 (wb_X2_init_2_29 x5 v_vertices K17 Q fu) ih q_1 x3 x6 x5 x6 0 v_q_1 _ _ _ hH hl hw
        · have hw := hw.2 c_8
          refine lv_iconst (v := 1) hF.1.1 hF.1.2.1 dX2_init_2_49 (by decide) ?_
          refine lv_goto (tgt := 54) hF.1.1 hF.1.2.1 dX2_init_2_50 (by decide) ?_
          exact bk_54 x5 v_vertices K17 hK17 (wb_X2_init_2_29 x5 v_vertices K17 Q fu) ih q_1 x3 x6 x5 x6 1 v_q_1 _ _ _ hH hl hw
  have bk_17 : ∀ (v_vertices : Int32) (fu : Nat) (q_1 : Nat) (x3 : Int64) (x5 : Int32) (v_q_1 : Nat → Int32) (H : Heap) (locs : List Loc) (ls : Array Slot), g_HS d A s [[(ob, .inr (2, [.int v_vertices, .ref q_1]))], [(q_1, .inl (d.2.1 0, 10, .inl v_q_1))]] H locs → lv_has ls 7 [(0, .ref ob), (3, .long x3), (5, .int x5)] → wb_X2_init_2_17 v_vertices Q fu x3 x5 v_q_1 → W p l e ({ frames := 2, cells := 1, slots := 10, locals := 33 } : Room) s m args below meth c H locs 1 10 (g_E d (fun v w1 => ∃ (q2 : Nat) (n2 : Int32) (near2 : Nat → Int32), v = none ∧ w1 = [[(ob, .inr (2, [.int n2, .ref q2]))], [(q2, .inl (d.2.1 0, 10, .inl near2))]] ∧ Q n2 near2) A below args s 1 10) (F0 m 17 ls []) := by
    intro v_vertices fu
    induction fu with
    | zero => intro q_1 x3 x5 v_q_1 H locs ls hH hl hw; rw [wb_X2_init_2_17] at hw; exact hw.elim
    | succ fu ih =>
      intro q_1 x3 x5 v_q_1 H locs ls hH hl hw
      rw [wb_X2_init_2_17] at hw
      refine lv_iload hF.1.1 hF.1.2.1 dX2_init_2_17 (lv_at hl 2 rfl) ?_
      refine lv_aload_n hF.1.1 hF.1.2.1 dX2_init_2_19 rfl (lv_at hl 0 rfl) ?_
      refine g_get (v := .int v_vertices) hF hH in_X2 rfl 0 0 rfl rfl 0 (by decide) q166 (fun _ h9 => h9) rfl dX2_init_2_20 ?_
      refine lv_icmp_ge (tgt := 73) hF.1.1 hF.1.2.1 dX2_init_2_23 (by decide) (fun c_9 => ?_) (fun c_9 => ?_)
      · have hw := hw.1 c_9
        exact g_vret hF hH ⟨q_1, v_vertices, v_q_1, rfl, rfl, hw⟩ dX2_init_2_73
      · have hw := hw.2 c_9
        refine lv_iconst (v := 0) hF.1.1 hF.1.2.1 dX2_init_2_26 (by decide) ?_
        refine lv_istore (lv' := [(6, .int 0), (0, .ref ob), (3, .long x3), (5, .int x5)]) hF.1.1 hF.1.2.1 dX2_init_2_27 hl (by decide) rfl (fun ls hl => ?_)
        obtain ⟨f_10, hw⟩ := hw
        have hl := lv_sub hl (l' := [(0, .ref ob), (3, .long x3), (5, .int x5), (6, .int 0)]) [1, 2, 3, 0] rfl
        exact bk_29 x5 v_vertices (wb_X2_init_2_17 v_vertices Q fu) ih f_10 q_1 x3 0 v_q_1 _ _ _ hH hl hw
  unfold wp_X2_init_2 at hw
  refine lv_aload_n hF.1.1 hF.1.2.1 dX2_init_2_0 rfl (lv_at hl 0 rfl) ?_
  refine lv_lload_n hF.1.1 hF.1.2.1 dX2_init_2_1 rfl (lv_at hl 1 rfl) ?_
  refine lv_ldc2 hF.1.1 hF.1.2.1 hF.1.2.2.2.1 (hF.1.2.2.2.2 _ q797) dX2_init_2_2 ?_
  refine lv_land hF.1.1 hF.1.2.1 dX2_init_2_5 ?_
  refine lv_l2i (v := ((a1 &&& 15).toInt32)) hF.1.1 hF.1.2.1 dX2_init_2_6 rfl ?_
  refine g_cI [.int ((a1 &&& 15).toInt32)] 1 rfl hF (met_X2_init l hl0 d ob ((a1 &&& 15).toInt32) _ hw) q798 q163 q94 q164 rfl rfl rfl (by decide +kernel) ⟨Nat.le_of_ble_eq_true rfl, Nat.le_of_ble_eq_true rfl⟩ hH [0] rfl rfl rfl hl.1 (Nat.le_of_ble_eq_true rfl) dX2_init_2_7 ⟨(by first | exact Nat.le_of_ble_eq_true rfl | omega | (dsimp only; omega)), (by first | exact Nat.le_of_ble_eq_true rfl | omega | (dsimp only; omega))⟩ (fun v w1 H locs hq hH => ?_)
  obtain ⟨q_11, rfl, rfl, hw⟩ := hq
  have hH : g_HS d A s [[(ob, .inr (2, [.int ((a1 &&& 15).toInt32), .ref q_11]))], [(q_11, .inl (d.2.1 0, 10, .inl (fun _ => 0)))]] H locs := hH
  refine W.eq (g2 := (F0 m 10 ls [])) rfl ?_
  refine W.widen (k := 1) (n := 10) (by first | exact Nat.le_of_ble_eq_true rfl | omega | (dsimp only; omega)) (by first | exact Nat.le_of_ble_eq_true rfl | omega | (dsimp only; omega)) ?_
  refine lv_lload_n hF.1.1 hF.1.2.1 dX2_init_2_10 rfl (lv_at hl 1 rfl) ?_
  refine lv_iconst (v := 4) hF.1.1 hF.1.2.1 dX2_init_2_11 (by decide) ?_
  refine lv_lshr (v := (a1 >>> ((4 : Int32).toInt64 &&& 63))) hF.1.1 hF.1.2.1 dX2_init_2_12 rfl ?_
  refine lv_lstore_n (lv' := [(3, .long (a1 >>> ((4 : Int32).toInt64 &&& 63))), (0, .ref ob), (1, .long a1)]) hF.1.1 hF.1.2.1 dX2_init_2_13 rfl hl (by decide) rfl (fun ls hl => ?_)
  refine lv_iconst (v := 0) hF.1.1 hF.1.2.1 dX2_init_2_14 (by decide) ?_
  refine lv_istore (lv' := [(5, .int 0), (3, .long (a1 >>> ((4 : Int32).toInt64 &&& 63))), (0, .ref ob), (1, .long a1)]) hF.1.1 hF.1.2.1 dX2_init_2_15 hl (by decide) rfl (fun ls hl => ?_)
  obtain ⟨f_12, hw⟩ := hw
  have hl := lv_sub hl (l' := [(0, .ref ob), (3, .long (a1 >>> ((4 : Int32).toInt64 &&& 63))), (5, .int 0)]) [2, 1, 0] rfl
  exact bk_17 ((a1 &&& 15).toInt32) f_12 q_11 (a1 >>> ((4 : Int32).toInt64 &&& 63)) 0 (fun _ => 0) _ _ _ hH hl hw

def wb_X2_packed_41 (n : Int32) (near : Nat → Int32) (x3 : Int32) (K9 : Int64 → Int32 → Prop) (K18 : Int64 → Int32 → Prop) (Q : Int64 → Prop) (x4 : Int32) (y0 : Int64) (y1 : Int64) : Prop := K18 (y0 ||| y1) (x4 + (-1))
def wb_X2_packed_18 (n : Int32) (near : Nat → Int32) (x3 : Int32) (K9 : Int64 → Int32 → Prop) (Q : Int64 → Prop) : Nat → Int64 → Int32 → Prop
  | 0, _, _ => False
  | fu + 1, x1, x4 => ((x4 < 0 → K9 x1 (x3 + (-1))) ∧ (¬ x4 < 0 → (wp_X2_linked x3 x4 n near (fun r_6 => ((r_6 = 0 → (wb_X2_packed_41 n near x3 K9 (wb_X2_packed_18 n near x3 K9 Q fu) Q x4 (x1 <<< ((1 : Int32).toInt64 &&& 63)) 0)) ∧ (¬ r_6 = 0 → (wb_X2_packed_41 n near x3 K9 (wb_X2_packed_18 n near x3 K9 Q fu) Q x4 (x1 <<< ((1 : Int32).toInt64 &&& 63)) 1)))))))
def wb_X2_packed_9 (n : Int32) (near : Nat → Int32) (Q : Int64 → Prop) : Nat → Int64 → Int32 → Prop
  | 0, _, _ => False
  | fu + 1, x1, x3 => ((x3 < 0 → (Q ((x1 <<< ((4 : Int32).toInt64 &&& 63)) ||| (n.toInt64)))) ∧ (¬ x3 < 0 → (∃ f18, wb_X2_packed_18 n near x3 (wb_X2_packed_9 n near Q fu) Q f18 x1 (x3 - 1))))
def wp_X2_packed (n : Int32) (near : Nat → Int32) (Q : Int64 → Prop) : Prop := (∃ f9, wb_X2_packed_9 n near Q f9 0 (n - 1))
set_option maxHeartbeats 4000000 in
set_option maxRecDepth 100000 in
theorem met_X2_packed (l : Launch) (hl0 : l.stackTraces = false) (d : g_D) (ob : Nat) (n : Int32) (q : Nat) (near : Nat → Int32) (Q : Int64 → Prop) (hw : wp_X2_packed n near Q) : g_Met l d yX2_packed cX2_packed 5 (Option.some FieldType.long) ({ frames := 2, cells := 0, slots := 0, locals := 43 } : Room) [.ref ob] [[(ob, .inr (2, [.int n, .ref q]))], [(q, .inl (d.2.1 0, 10, .inl near))]] 0 0 (fun v w1 => ∃ (r : Int64), v = some (.long r) ∧ w1 = [[(ob, .inr (2, [.int n, .ref q]))], [(q, .inl (d.2.1 0, 10, .inl near))]] ∧ Q r) := by
  refine g_enter (by decide) (Nat.le_of_ble_eq_true rfl) ?_
  intro p e s m args below meth c A ls hF hH hl hin
  have hF : g_F p m c cX2_packed 5 s args RX2 meth (Option.some FieldType.long) := hF
  have hl : lv_has ls 5 [(0, .ref ob)] := hl
  have bk_41 : ∀ (x3 : Int32) (K9 : Int64 → Int32 → Prop) (hK9 : ∀ (x1 : Int64) (x3 : Int32) (H : Heap) (locs : List Loc) (ls : Array Slot), g_HS d A s [[(ob, .inr (2, [.int n, .ref q]))], [(q, .inl (d.2.1 0, 10, .inl near))]] H locs → lv_has ls 5 [(0, .ref ob), (1, .long x1), (3, .int x3)] → K9 x1 x3 → W p l e ({ frames := 2, cells := 0, slots := 0, locals := 43 } : Room) s m args below meth c H locs 0 0 (g_E d (fun v w1 => ∃ (r : Int64), v = some (.long r) ∧ w1 = [[(ob, .inr (2, [.int n, .ref q]))], [(q, .inl (d.2.1 0, 10, .inl near))]] ∧ Q r) A below args s 0 0) (F0 m 9 ls [])) (K18 : Int64 → Int32 → Prop) (hK18 : ∀ (x1 : Int64) (x4 : Int32) (H : Heap) (locs : List Loc) (ls : Array Slot), g_HS d A s [[(ob, .inr (2, [.int n, .ref q]))], [(q, .inl (d.2.1 0, 10, .inl near))]] H locs → lv_has ls 5 [(0, .ref ob), (1, .long x1), (3, .int x3), (4, .int x4)] → K18 x1 x4 → W p l e ({ frames := 2, cells := 0, slots := 0, locals := 43 } : Room) s m args below meth c H locs 0 0 (g_E d (fun v w1 => ∃ (r : Int64), v = some (.long r) ∧ w1 = [[(ob, .inr (2, [.int n, .ref q]))], [(q, .inl (d.2.1 0, 10, .inl near))]] ∧ Q r) A below args s 0 0) (F0 m 18 ls [])) (x4 : Int32) (y0 : Int64) (y1 : Int64) (H : Heap) (locs : List Loc) (ls : Array Slot), g_HS d A s [[(ob, .inr (2, [.int n, .ref q]))], [(q, .inl (d.2.1 0, 10, .inl near))]] H locs → lv_has ls 5 [(0, .ref ob), (3, .int x3), (4, .int x4)] → wb_X2_packed_41 n near x3 K9 K18 Q x4 y0 y1 → W p l e ({ frames := 2, cells := 0, slots := 0, locals := 43 } : Room) s m args below meth c H locs 0 0 (g_E d (fun v w1 => ∃ (r : Int64), v = some (.long r) ∧ w1 = [[(ob, .inr (2, [.int n, .ref q]))], [(q, .inl (d.2.1 0, 10, .inl near))]] ∧ Q r) A below args s 0 0) (F0 m 41 ls [.long y1, .long y0]) := by
    intro x3 K9 hK9 K18 hK18 x4 y0 y1 H locs ls hH hl hw
    unfold wb_X2_packed_41 at hw
    refine lv_lor hF.1.1 hF.1.2.1 dX2_packed_41 ?_
    refine lv_lstore_n (lv' := [(1, .long (y0 ||| y1)), (0, .ref ob), (3, .int x3), (4, .int x4)]) hF.1.1 hF.1.2.1 dX2_packed_42 rfl hl (by decide) rfl (fun ls hl => ?_)
    refine lv_iinc (v := (x4 + (-1))) (lv' := [(4, .int (x4 + (-1))), (1, .long (y0 ||| y1)), (0, .ref ob), (3, .int x3)]) hF.1.1 hF.1.2.1 dX2_packed_43 hl (k := 3) rfl rfl (by decide) rfl (fun ls hl => ?_)
    refine lv_goto (tgt := 18) hF.1.1 hF.1.2.1 dX2_packed_46 (by decide) ?_
    have hl := lv_sub hl (l' := [(0, .ref ob), (1, .long (y0 ||| y1)), (3, .int x3), (4, .int (x4 + (-1)))]) [2, 1, 3, 0] rfl
    exact hK18 (y0 ||| y1) (x4 + (-1)) _ _ _ hH hl hw
  have bk_18 : ∀ (x3 : Int32) (K9 : Int64 → Int32 → Prop) (hK9 : ∀ (x1 : Int64) (x3 : Int32) (H : Heap) (locs : List Loc) (ls : Array Slot), g_HS d A s [[(ob, .inr (2, [.int n, .ref q]))], [(q, .inl (d.2.1 0, 10, .inl near))]] H locs → lv_has ls 5 [(0, .ref ob), (1, .long x1), (3, .int x3)] → K9 x1 x3 → W p l e ({ frames := 2, cells := 0, slots := 0, locals := 43 } : Room) s m args below meth c H locs 0 0 (g_E d (fun v w1 => ∃ (r : Int64), v = some (.long r) ∧ w1 = [[(ob, .inr (2, [.int n, .ref q]))], [(q, .inl (d.2.1 0, 10, .inl near))]] ∧ Q r) A below args s 0 0) (F0 m 9 ls [])) (fu : Nat) (x1 : Int64) (x4 : Int32) (H : Heap) (locs : List Loc) (ls : Array Slot), g_HS d A s [[(ob, .inr (2, [.int n, .ref q]))], [(q, .inl (d.2.1 0, 10, .inl near))]] H locs → lv_has ls 5 [(0, .ref ob), (1, .long x1), (3, .int x3), (4, .int x4)] → wb_X2_packed_18 n near x3 K9 Q fu x1 x4 → W p l e ({ frames := 2, cells := 0, slots := 0, locals := 43 } : Room) s m args below meth c H locs 0 0 (g_E d (fun v w1 => ∃ (r : Int64), v = some (.long r) ∧ w1 = [[(ob, .inr (2, [.int n, .ref q]))], [(q, .inl (d.2.1 0, 10, .inl near))]] ∧ Q r) A below args s 0 0) (F0 m 18 ls []) := by
    intro x3 K9 hK9 fu
    induction fu with
    | zero => intro x1 x4 H locs ls hH hl hw; rw [wb_X2_packed_18] at hw; exact hw.elim
    | succ fu ih =>
      intro x1 x4 H locs ls hH hl hw
      rw [wb_X2_packed_18] at hw
      refine lv_iload hF.1.1 hF.1.2.1 dX2_packed_18 (lv_at hl 3 rfl) ?_
      refine lv_if_lt (tgt := 49) hF.1.1 hF.1.2.1 dX2_packed_20 (by decide) (fun c_5 => ?_) (fun c_5 => ?_)
      · have hw := hw.1 c_5
        refine lv_iinc (v := (x3 + (-1))) (lv' := [(3, .int (x3 + (-1))), (0, .ref ob), (1, .long x1), (4, .int x4)]) hF.1.1 hF.1.2.1 dX2_packed_49 hl (k := 2) rfl rfl (by decide) rfl (fun ls hl => ?_)
        refine lv_goto (tgt := 9) hF.1.1 hF.1.2.1 dX2_packed_52 (by decide) ?_
        have hl := lv_sub hl (l' := [(0, .ref ob), (1, .long x1), (3, .int (x3 + (-1)))]) [1, 2, 0] rfl
        exact hK9 x1 (x3 + (-1)) _ _ _ hH hl hw
      · have hw := hw.2 c_5
        refine lv_lload_n hF.1.1 hF.1.2.1 dX2_packed_23 rfl (lv_at hl 1 rfl) ?_
        refine lv_iconst (v := 1) hF.1.1 hF.1.2.1 dX2_packed_24 (by decide) ?_
        refine lv_lshl (v := (x1 <<< ((1 : Int32).toInt64 &&& 63))) hF.1.1 hF.1.2.1 dX2_packed_25 rfl ?_
        refine lv_aload_n hF.1.1 hF.1.2.1 dX2_packed_26 rfl (lv_at hl 0 rfl) ?_
        refine lv_iload_n hF.1.1 hF.1.2.1 dX2_packed_27 rfl (lv_at hl 2 rfl) ?_
        refine lv_iload hF.1.1 hF.1.2.1 dX2_packed_28 (lv_at hl 3 rfl) ?_
        refine g_cV [.int x3, .int x4] 2 rfl hF (met_X2_linked l hl0 d ob x3 x4 n q near _ hw) q236 q237 q238 q94 q239 rfl rfl (by decide +kernel) ⟨Nat.le_of_ble_eq_true rfl, Nat.le_of_ble_eq_true rfl⟩ hH [0, 1] rfl rfl rfl 0 0 rfl rfl rfl hl.1 (Nat.le_of_ble_eq_true rfl) dX2_packed_30 ⟨(by first | exact Nat.le_of_ble_eq_true rfl | omega | (dsimp only; omega)), (by first | exact Nat.le_of_ble_eq_true rfl | omega | (dsimp only; omega))⟩ (fun v w1 H locs hq hH => ?_)
        obtain ⟨r_6, rfl, rfl, hw⟩ := hq
        have hH : g_HS d A s [[(ob, .inr (2, [.int n, .ref q]))], [(q, .inl (d.2.1 0, 10, .inl near))]] H locs := hH
        refine W.eq (g2 := (F0 m 33 ls [.int r_6, .long (x1 <<< ((1 : Int32).toInt64 &&& 63))])) rfl ?_
        refine lv_if_eq (tgt := 40) hF.1.1 hF.1.2.1 dX2_packed_33 (by decide) (fun c_7 => ?_) (fun c_7 => ?_)
        · have hw := hw.1 c_7
          refine lv_lconst (v := 0) hF.1.1 hF.1.2.1 dX2_packed_40 rfl ?_
          have hl := lv_sub hl (l' := [(0, .ref ob), (3, .int x3), (4, .int x4)]) [0, 2, 3] rfl
          exact bk_41 x3 K9 hK9 (wb_X2_packed_18 n near x3 K9 Q fu) ih x4 (x1 <<< ((1 : Int32).toInt64 &&& 63)) 0 _ _ _ hH hl hw
        · have hw := hw.2 c_7
          refine lv_lconst (v := 1) hF.1.1 hF.1.2.1 dX2_packed_36 rfl ?_
          refine lv_goto (tgt := 41) hF.1.1 hF.1.2.1 dX2_packed_37 (by decide) ?_
          have hl := lv_sub hl (l' := [(0, .ref ob), (3, .int x3), (4, .int x4)]) [0, 2, 3] rfl
          exact bk_41 x3 K9 hK9 (wb_X2_packed_18 n near x3 K9 Q fu) ih x4 (x1 <<< ((1 : Int32).toInt64 &&& 63)) 1 _ _ _ hH hl hw
  have bk_9 : ∀ (fu : Nat) (x1 : Int64) (x3 : Int32) (H : Heap) (locs : List Loc) (ls : Array Slot), g_HS d A s [[(ob, .inr (2, [.int n, .ref q]))], [(q, .inl (d.2.1 0, 10, .inl near))]] H locs → lv_has ls 5 [(0, .ref ob), (1, .long x1), (3, .int x3)] → wb_X2_packed_9 n near Q fu x1 x3 → W p l e ({ frames := 2, cells := 0, slots := 0, locals := 43 } : Room) s m args below meth c H locs 0 0 (g_E d (fun v w1 => ∃ (r : Int64), v = some (.long r) ∧ w1 = [[(ob, .inr (2, [.int n, .ref q]))], [(q, .inl (d.2.1 0, 10, .inl near))]] ∧ Q r) A below args s 0 0) (F0 m 9 ls []) := by
    intro fu
    induction fu with
    | zero => intro x1 x3 H locs ls hH hl hw; rw [wb_X2_packed_9] at hw; exact hw.elim
    | succ fu ih =>
      intro x1 x3 H locs ls hH hl hw
      rw [wb_X2_packed_9] at hw
      refine lv_iload_n hF.1.1 hF.1.2.1 dX2_packed_9 rfl (lv_at hl 2 rfl) ?_
      refine lv_if_lt (tgt := 55) hF.1.1 hF.1.2.1 dX2_packed_10 (by decide) (fun c_8 => ?_) (fun c_8 => ?_)
      · have hw := hw.1 c_8
        refine lv_lload_n hF.1.1 hF.1.2.1 dX2_packed_55 rfl (lv_at hl 1 rfl) ?_
        refine lv_iconst (v := 4) hF.1.1 hF.1.2.1 dX2_packed_56 (by decide) ?_
        refine lv_lshl (v := (x1 <<< ((4 : Int32).toInt64 &&& 63))) hF.1.1 hF.1.2.1 dX2_packed_57 rfl ?_
        refine lv_aload_n hF.1.1 hF.1.2.1 dX2_packed_58 rfl (lv_at hl 0 rfl) ?_
        refine g_get (v := .int n) hF hH in_X2 rfl 0 0 rfl rfl 0 (by decide) q166 (fun _ h9 => h9) rfl dX2_packed_59 ?_
        refine lv_i2l (v := (n.toInt64)) hF.1.1 hF.1.2.1 dX2_packed_62 rfl ?_
        refine lv_lor hF.1.1 hF.1.2.1 dX2_packed_63 ?_
        exact g_lret hF hH ⟨((x1 <<< ((4 : Int32).toInt64 &&& 63)) ||| (n.toInt64)), rfl, rfl, hw⟩ dX2_packed_64
      · have hw := hw.2 c_8
        refine lv_iload_n hF.1.1 hF.1.2.1 dX2_packed_13 rfl (lv_at hl 2 rfl) ?_
        refine lv_iconst (v := 1) hF.1.1 hF.1.2.1 dX2_packed_14 (by decide) ?_
        refine lv_isub hF.1.1 hF.1.2.1 dX2_packed_15 ?_
        refine lv_istore (lv' := [(4, .int (x3 - 1)), (0, .ref ob), (1, .long x1), (3, .int x3)]) hF.1.1 hF.1.2.1 dX2_packed_16 hl (by decide) rfl (fun ls hl => ?_)
        obtain ⟨f_9, hw⟩ := hw
        have hl := lv_sub hl (l' := [(0, .ref ob), (1, .long x1), (3, .int x3), (4, .int (x3 - 1))]) [1, 2, 3, 0] rfl
        exact bk_18 x3 (wb_X2_packed_9 n near Q fu) ih f_9 x1 (x3 - 1) _ _ _ hH hl hw
  unfold wp_X2_packed at hw
  refine lv_lconst (v := 0) hF.1.1 hF.1.2.1 dX2_packed_0 rfl ?_
  refine lv_lstore_n (lv' := [(1, .long 0), (0, .ref ob)]) hF.1.1 hF.1.2.1 dX2_packed_1 rfl hl (by decide) rfl (fun ls hl => ?_)
  refine lv_aload_n hF.1.1 hF.1.2.1 dX2_packed_2 rfl (lv_at hl 1 rfl) ?_
  refine g_get (v := .int n) hF hH in_X2 rfl 0 0 rfl rfl 0 (by decide) q166 (fun _ h9 => h9) rfl dX2_packed_3 ?_
  refine lv_iconst (v := 1) hF.1.1 hF.1.2.1 dX2_packed_6 (by decide) ?_
  refine lv_isub hF.1.1 hF.1.2.1 dX2_packed_7 ?_
  refine lv_istore_n (lv' := [(3, .int (n - 1)), (1, .long 0), (0, .ref ob)]) hF.1.1 hF.1.2.1 dX2_packed_8 rfl hl (by decide) rfl (fun ls hl => ?_)
  obtain ⟨f_10, hw⟩ := hw
  have hl := lv_sub hl (l' := [(0, .ref ob), (1, .long 0), (3, .int (n - 1))]) [2, 1, 0] rfl
  exact bk_9 f_10 0 (n - 1) _ _ _ hH hl hw

def wb_X2_join_40 (a1 : Int32) (a2 : Int32) (n : Int32) (K2 : Int32 → (Nat → Int32) → Prop) (Q : (Nat → Int32) → Prop) (x3 : Int32) (y1 : Int32) (y2 : Int32) (y3 : Int32) (near_ : Nat → Int32) : Prop := (vp_in y1 10 ∧ K2 (x3 + 1) (upd near_ y1.toNatClampNeg (y2 ||| y3)))
def wb_X2_join_2 (a1 : Int32) (a2 : Int32) (n : Int32) (Q : (Nat → Int32) → Prop) : Nat → Int32 → (Nat → Int32) → Prop
  | 0, _, _ => False
  | fu + 1, x3, near_ => ((10 ≤ x3 → (Q near_)) ∧ (¬ 10 ≤ x3 → (vp_in x3 10 ∧ (wp_X0_has a1 x3 (fun r_11 => ((r_11 = 0 → (wp_X0_has a2 x3 (fun r_13 => ((r_13 = 0 → (wb_X2_join_40 a1 a2 n (wb_X2_join_2 a1 a2 n Q fu) Q x3 x3 (near_ x3.toNatClampNeg) 0 near_)) ∧ (¬ r_13 = 0 → (wb_X2_join_40 a1 a2 n (wb_X2_join_2 a1 a2 n Q fu) Q x3 x3 (near_ x3.toNatClampNeg) a1 near_)))))) ∧ (¬ r_11 = 0 → (wb_X2_join_40 a1 a2 n (wb_X2_join_2 a1 a2 n Q fu) Q x3 x3 (near_ x3.toNatClampNeg) a2 near_))))))))
def wp_X2_join (a1 : Int32) (a2 : Int32) (n : Int32) (near : Nat → Int32) (Q : (Nat → Int32) → Prop) : Prop := (∃ f2, wb_X2_join_2 a1 a2 n Q f2 0 near)
set_option maxHeartbeats 4000000 in
set_option maxRecDepth 100000 in
theorem met_X2_join (l : Launch) (hl0 : l.stackTraces = false) (d : g_D) (ob : Nat) (a1 : Int32) (a2 : Int32) (n : Int32) (q : Nat) (near : Nat → Int32) (Q : (Nat → Int32) → Prop) (hw : wp_X2_join a1 a2 n near Q) : g_Met l d yX2_join cX2_join 4 none ({ frames := 1, cells := 0, slots := 0, locals := 21 } : Room) [.ref ob, .int a1, .int a2] [[(ob, .inr (2, [.int n, .ref q]))], [(q, .inl (d.2.1 0, 10, .inl near))]] 0 0 (fun v w1 => ∃ (near2 : Nat → Int32), v = none ∧ w1 = [[(ob, .inr (2, [.int n, .ref q]))], [(q, .inl (d.2.1 0, 10, .inl near2))]] ∧ Q near2) := by
  refine g_enter (by decide) (Nat.le_of_ble_eq_true rfl) ?_
  intro p e s m args below meth c A ls hF hH hl hin
  have hF : g_F p m c cX2_join 4 s args RX2 meth none := hF
  have hl : lv_has ls 4 [(0, .ref ob), (1, .int a1), (2, .int a2)] := hl
  have bk_40 : ∀ (K2 : Int32 → (Nat → Int32) → Prop) (hK2 : ∀ (x3 : Int32) (near_ : Nat → Int32) (H : Heap) (locs : List Loc) (ls : Array Slot), g_HS d A s [[(ob, .inr (2, [.int n, .ref q]))], [(q, .inl (d.2.1 0, 10, .inl near_))]] H locs → lv_has ls 4 [(0, .ref ob), (1, .int a1), (2, .int a2), (3, .int x3)] → K2 x3 near_ → W p l e ({ frames := 1, cells := 0, slots := 0, locals := 21 } : Room) s m args below meth c H locs 0 0 (g_E d (fun v w1 => ∃ (near2 : Nat → Int32), v = none ∧ w1 = [[(ob, .inr (2, [.int n, .ref q]))], [(q, .inl (d.2.1 0, 10, .inl near2))]] ∧ Q near2) A below args s 0 0) (F0 m 2 ls [])) (x3 : Int32) (y1 : Int32) (y2 : Int32) (y3 : Int32) (near_ : Nat → Int32) (H : Heap) (locs : List Loc) (ls : Array Slot), g_HS d A s [[(ob, .inr (2, [.int n, .ref q]))], [(q, .inl (d.2.1 0, 10, .inl near_))]] H locs → lv_has ls 4 [(0, .ref ob), (1, .int a1), (2, .int a2), (3, .int x3)] → wb_X2_join_40 a1 a2 n K2 Q x3 y1 y2 y3 near_ → W p l e ({ frames := 1, cells := 0, slots := 0, locals := 21 } : Room) s m args below meth c H locs 0 0 (g_E d (fun v w1 => ∃ (near2 : Nat → Int32), v = none ∧ w1 = [[(ob, .inr (2, [.int n, .ref q]))], [(q, .inl (d.2.1 0, 10, .inl near2))]] ∧ Q near2) A below args s 0 0) (F0 m 40 ls [.int y3, .int y2, .int y1, .ref q]) := by
    intro K2 hK2 x3 y1 y2 y3 near_ H locs ls hH hl hw
    unfold wb_X2_join_40 at hw
    refine lv_ior hF.1.1 hF.1.2.1 dX2_join_40 ?_
    obtain ⟨hi_8, hw⟩ := hw
    refine g_iast (cs' := [[(ob, .inr (2, [.int n, .ref q]))], [(q, .inl (d.2.1 0, 10, .inl (upd near_ y1.toNatClampNeg (y2 ||| y3))))]]) (ch' := [(q, .inl (d.2.1 0, 10, .inl (upd near_ y1.toNatClampNeg (y2 ||| y3))))]) hF hH 1 0 rfl rfl hi_8 dX2_join_41 rfl rfl (fun H locs hH => ?_)
    refine lv_iinc (v := (x3 + 1)) (lv' := [(3, .int (x3 + 1)), (0, .ref ob), (1, .int a1), (2, .int a2)]) hF.1.1 hF.1.2.1 dX2_join_42 hl (k := 3) rfl rfl (by decide) rfl (fun ls hl => ?_)
    refine lv_goto (tgt := 2) hF.1.1 hF.1.2.1 dX2_join_45 (by decide) ?_
    have hl := lv_sub hl (l' := [(0, .ref ob), (1, .int a1), (2, .int a2), (3, .int (x3 + 1))]) [1, 2, 3, 0] rfl
    exact hK2 (x3 + 1) (upd near_ y1.toNatClampNeg (y2 ||| y3)) _ _ _ hH hl hw
  have bk_2 : ∀ (fu : Nat) (x3 : Int32) (near_ : Nat → Int32) (H : Heap) (locs : List Loc) (ls : Array Slot), g_HS d A s [[(ob, .inr (2, [.int n, .ref q]))], [(q, .inl (d.2.1 0, 10, .inl near_))]] H locs → lv_has ls 4 [(0, .ref ob), (1, .int a1), (2, .int a2), (3, .int x3)] → wb_X2_join_2 a1 a2 n Q fu x3 near_ → W p l e ({ frames := 1, cells := 0, slots := 0, locals := 21 } : Room) s m args below meth c H locs 0 0 (g_E d (fun v w1 => ∃ (near2 : Nat → Int32), v = none ∧ w1 = [[(ob, .inr (2, [.int n, .ref q]))], [(q, .inl (d.2.1 0, 10, .inl near2))]] ∧ Q near2) A below args s 0 0) (F0 m 2 ls []) := by
    intro fu
    induction fu with
    | zero => intro x3 near_ H locs ls hH hl hw; rw [wb_X2_join_2] at hw; exact hw.elim
    | succ fu ih =>
      intro x3 near_ H locs ls hH hl hw
      rw [wb_X2_join_2] at hw
      refine lv_iload_n hF.1.1 hF.1.2.1 dX2_join_2 rfl (lv_at hl 3 rfl) ?_
      refine lv_bipush (v := 10) hF.1.1 hF.1.2.1 dX2_join_3 (by decide) ?_
      refine lv_icmp_ge (tgt := 48) hF.1.1 hF.1.2.1 dX2_join_5 (by decide) (fun c_9 => ?_) (fun c_9 => ?_)
      · have hw := hw.1 c_9
        exact g_vret hF hH ⟨near_, rfl, rfl, hw⟩ dX2_join_48
      · have hw := hw.2 c_9
        refine lv_aload_n hF.1.1 hF.1.2.1 dX2_join_8 rfl (lv_at hl 0 rfl) ?_
        refine g_get (v := .ref q) hF hH in_X2 rfl 0 0 rfl rfl 1 (by decide) q170 (fun _ h9 => h9) rfl dX2_join_9 ?_
        refine lv_iload_n hF.1.1 hF.1.2.1 dX2_join_12 rfl (lv_at hl 3 rfl) ?_
        refine lv_dup2_11 hF.1.1 hF.1.2.1 dX2_join_13 rfl rfl ?_
        obtain ⟨hi_10, hw⟩ := hw
        refine g_iald hF hH 1 0 rfl rfl hi_10 dX2_join_14 ?_
        refine lv_iload_n hF.1.1 hF.1.2.1 dX2_join_15 rfl (lv_at hl 1 rfl) ?_
        refine lv_iload_n hF.1.1 hF.1.2.1 dX2_join_16 rfl (lv_at hl 3 rfl) ?_
        refine g_cSN [.int a1, .int x3] 2 rfl hF (met_X0_has l hl0 d a1 x3 _ hw) q240 q241 q92 q242 rfl rfl (by decide +kernel) ⟨Nat.le_of_ble_eq_true rfl, Nat.le_of_ble_eq_true rfl⟩ hH [] rfl rfl rfl hl.1 (Nat.le_of_ble_eq_true rfl) dX2_join_17 ⟨(by first | exact Nat.le_of_ble_eq_true rfl | omega | (dsimp only; omega)), (by first | exact Nat.le_of_ble_eq_true rfl | omega | (dsimp only; omega))⟩ (fun v w1 H locs hq hH => ?_)
        obtain ⟨r_11, rfl, rfl, hw⟩ := hq
        have hH : g_HS d A s [[(ob, .inr (2, [.int n, .ref q]))], [(q, .inl (d.2.1 0, 10, .inl near_))]] H locs := hH
        refine W.eq (g2 := (F0 m 20 ls [.int r_11, .int (near_ x3.toNatClampNeg), .int x3, .ref q])) rfl ?_
        refine lv_if_eq (tgt := 27) hF.1.1 hF.1.2.1 dX2_join_20 (by decide) (fun c_12 => ?_) (fun c_12 => ?_)
        · have hw := hw.1 c_12
          refine lv_iload_n hF.1.1 hF.1.2.1 dX2_join_27 rfl (lv_at hl 2 rfl) ?_
          refine lv_iload_n hF.1.1 hF.1.2.1 dX2_join_28 rfl (lv_at hl 3 rfl) ?_
          refine g_cSN [.int a2, .int x3] 2 rfl hF (met_X0_has l hl0 d a2 x3 _ hw) q240 q241 q92 q242 rfl rfl (by decide +kernel) ⟨Nat.le_of_ble_eq_true rfl, Nat.le_of_ble_eq_true rfl⟩ hH [] rfl rfl rfl hl.1 (Nat.le_of_ble_eq_true rfl) dX2_join_29 ⟨(by first | exact Nat.le_of_ble_eq_true rfl | omega | (dsimp only; omega)), (by first | exact Nat.le_of_ble_eq_true rfl | omega | (dsimp only; omega))⟩ (fun v w1 H locs hq hH => ?_)
          obtain ⟨r_13, rfl, rfl, hw⟩ := hq
          have hH : g_HS d A s [[(ob, .inr (2, [.int n, .ref q]))], [(q, .inl (d.2.1 0, 10, .inl near_))]] H locs := hH
          refine W.eq (g2 := (F0 m 32 ls [.int r_13, .int (near_ x3.toNatClampNeg), .int x3, .ref q])) rfl ?_
          refine lv_if_eq (tgt := 39) hF.1.1 hF.1.2.1 dX2_join_32 (by decide) (fun c_14 => ?_) (fun c_14 => ?_)
          · have hw := hw.1 c_14
            refine lv_iconst (v := 0) hF.1.1 hF.1.2.1 dX2_join_39 (by decide) ?_
            exact bk_40 (wb_X2_join_2 a1 a2 n Q fu) ih x3 x3 (near_ x3.toNatClampNeg) 0 near_ _ _ _ hH hl hw
          · have hw := hw.2 c_14
            refine lv_iload_n hF.1.1 hF.1.2.1 dX2_join_35 rfl (lv_at hl 1 rfl) ?_
            refine lv_goto (tgt := 40) hF.1.1 hF.1.2.1 dX2_join_36 (by decide) ?_
            exact bk_40 (wb_X2_join_2 a1 a2 n Q fu) ih x3 x3 (near_ x3.toNatClampNeg) a1 near_ _ _ _ hH hl hw
        · have hw := hw.2 c_12
          refine lv_iload_n hF.1.1 hF.1.2.1 dX2_join_23 rfl (lv_at hl 2 rfl) ?_
          refine lv_goto (tgt := 40) hF.1.1 hF.1.2.1 dX2_join_24 (by decide) ?_
          exact bk_40 (wb_X2_join_2 a1 a2 n Q fu) ih x3 x3 (near_ x3.toNatClampNeg) a2 near_ _ _ _ hH hl hw
  unfold wp_X2_join at hw
  refine lv_iconst (v := 0) hF.1.1 hF.1.2.1 dX2_join_0 (by decide) ?_
  refine lv_istore_n (lv' := [(3, .int 0), (0, .ref ob), (1, .int a1), (2, .int a2)]) hF.1.1 hF.1.2.1 dX2_join_1 rfl hl (by decide) rfl (fun ls hl => ?_)
  obtain ⟨f_15, hw⟩ := hw
  have hl := lv_sub hl (l' := [(0, .ref ob), (1, .int a1), (2, .int a2), (3, .int 0)]) [1, 2, 3, 0] rfl
  exact bk_2 f_15 0 near _ _ _ hH hl hw

def wp_X2_all (n : Int32) (Q : Int32 → Prop) : Prop := (Q (((1 : Int32) <<< (n &&& 31)) - 1))
set_option maxHeartbeats 4000000 in
set_option maxRecDepth 100000 in
theorem met_X2_all (l : Launch) (hl0 : l.stackTraces = false) (d : g_D) (ob : Nat) (n : Int32) (q : Nat) (Q : Int32 → Prop) (hw : wp_X2_all n Q) : g_Met l d yX2_all cX2_all 1 (Option.some FieldType.int) ({ frames := 0, cells := 0, slots := 0, locals := 0 } : Room) [.ref ob] [[(ob, .inr (2, [.int n, .ref q]))]] 0 0 (fun v w1 => ∃ (r : Int32), v = some (.int r) ∧ w1 = [[(ob, .inr (2, [.int n, .ref q]))]] ∧ Q r) := by
  refine g_enter (by decide) (Nat.le_of_ble_eq_true rfl) ?_
  intro p e s m args below meth c A ls hF hH hl hin
  have hF : g_F p m c cX2_all 1 s args RX2 meth (Option.some FieldType.int) := hF
  have hl : lv_has ls 1 [(0, .ref ob)] := hl
  unfold wp_X2_all at hw
  refine lv_iconst (v := 1) hF.1.1 hF.1.2.1 dX2_all_0 (by decide) ?_
  refine lv_aload_n hF.1.1 hF.1.2.1 dX2_all_1 rfl (lv_at hl 0 rfl) ?_
  refine g_get (v := .int n) hF hH in_X2 rfl 0 0 rfl rfl 0 (by decide) q166 (fun _ h9 => h9) rfl dX2_all_2 ?_
  refine lv_ishl hF.1.1 hF.1.2.1 dX2_all_5 ?_
  refine lv_iconst (v := 1) hF.1.1 hF.1.2.1 dX2_all_6 (by decide) ?_
  refine lv_isub hF.1.1 hF.1.2.1 dX2_all_7 ?_
  exact g_iret hF hH ⟨(((1 : Int32) <<< (n &&& 31)) - 1), rfl, rfl, hw⟩ dX2_all_8

def wb_X2_edges_4 (n : Int32) (near : Nat → Int32) (Q : Int32 → Prop) : Nat → Int32 → Int32 → Prop
  | 0, _, _ => False
  | fu + 1, x1, x2 => ((n ≤ x2 → (Q (x1 / 2))) ∧ (¬ n ≤ x2 → (vp_in x2 10 ∧ (wp_J7_bitCount (near x2.toNatClampNeg) (fun r_6 => (wb_X2_edges_4 n near Q fu) (x1 + r_6) (x2 + 1))))))
def wp_X2_edges (n : Int32) (near : Nat → Int32) (Q : Int32 → Prop) : Prop := (∃ f4, wb_X2_edges_4 n near Q f4 0 0)
set_option maxHeartbeats 4000000 in
set_option maxRecDepth 100000 in
theorem met_X2_edges (l : Launch) (hl0 : l.stackTraces = false) (d : g_D) (ob : Nat) (n : Int32) (q : Nat) (near : Nat → Int32) (Q : Int32 → Prop) (hw : wp_X2_edges n near Q) : g_Met l d yX2_edges cX2_edges 3 (Option.some FieldType.int) ({ frames := 1, cells := 0, slots := 0, locals := 20 } : Room) [.ref ob] [[(ob, .inr (2, [.int n, .ref q]))], [(q, .inl (d.2.1 0, 10, .inl near))]] 0 0 (fun v w1 => ∃ (r : Int32), v = some (.int r) ∧ w1 = [[(ob, .inr (2, [.int n, .ref q]))], [(q, .inl (d.2.1 0, 10, .inl near))]] ∧ Q r) := by
  refine g_enter (by decide) (Nat.le_of_ble_eq_true rfl) ?_
  intro p e s m args below meth c A ls hF hH hl hin
  have hF : g_F p m c cX2_edges 3 s args RX2 meth (Option.some FieldType.int) := hF
  have hl : lv_has ls 3 [(0, .ref ob)] := hl
  have bk_4 : ∀ (fu : Nat) (x1 : Int32) (x2 : Int32) (H : Heap) (locs : List Loc) (ls : Array Slot), g_HS d A s [[(ob, .inr (2, [.int n, .ref q]))], [(q, .inl (d.2.1 0, 10, .inl near))]] H locs → lv_has ls 3 [(0, .ref ob), (1, .int x1), (2, .int x2)] → wb_X2_edges_4 n near Q fu x1 x2 → W p l e ({ frames := 1, cells := 0, slots := 0, locals := 20 } : Room) s m args below meth c H locs 0 0 (g_E d (fun v w1 => ∃ (r : Int32), v = some (.int r) ∧ w1 = [[(ob, .inr (2, [.int n, .ref q]))], [(q, .inl (d.2.1 0, 10, .inl near))]] ∧ Q r) A below args s 0 0) (F0 m 4 ls []) := by
    intro fu
    induction fu with
    | zero => intro x1 x2 H locs ls hH hl hw; rw [wb_X2_edges_4] at hw; exact hw.elim
    | succ fu ih =>
      intro x1 x2 H locs ls hH hl hw
      rw [wb_X2_edges_4] at hw
      refine lv_iload_n hF.1.1 hF.1.2.1 dX2_edges_4 rfl (lv_at hl 2 rfl) ?_
      refine lv_aload_n hF.1.1 hF.1.2.1 dX2_edges_5 rfl (lv_at hl 0 rfl) ?_
      refine g_get (v := .int n) hF hH in_X2 rfl 0 0 rfl rfl 0 (by decide) q166 (fun _ h9 => h9) rfl dX2_edges_6 ?_
      refine lv_icmp_ge (tgt := 30) hF.1.1 hF.1.2.1 dX2_edges_9 (by decide) (fun c_4 => ?_) (fun c_4 => ?_)
      · have hw := hw.1 c_4
        refine lv_iload_n hF.1.1 hF.1.2.1 dX2_edges_30 rfl (lv_at hl 1 rfl) ?_
        refine lv_iconst (v := 2) hF.1.1 hF.1.2.1 dX2_edges_31 (by decide) ?_
        refine lv_idiv hF.1.1 hF.1.2.1 dX2_edges_32 (by decide) ?_
        exact g_iret hF hH ⟨(x1 / 2), rfl, rfl, hw⟩ dX2_edges_33
      · have hw := hw.2 c_4
        refine lv_iload_n hF.1.1 hF.1.2.1 dX2_edges_12 rfl (lv_at hl 1 rfl) ?_
        refine lv_aload_n hF.1.1 hF.1.2.1 dX2_edges_13 rfl (lv_at hl 0 rfl) ?_
        refine g_get (v := .ref q) hF hH in_X2 rfl 0 0 rfl rfl 1 (by decide) q170 (fun _ h9 => h9) rfl dX2_edges_14 ?_
        refine lv_iload_n hF.1.1 hF.1.2.1 dX2_edges_17 rfl (lv_at hl 2 rfl) ?_
        obtain ⟨hi_5, hw⟩ := hw
        refine g_iald hF hH 1 0 rfl rfl hi_5 dX2_edges_18 ?_
        refine g_cS [.int (near x2.toNatClampNeg)] 1 rfl hF (met_J7_bitCount l hl0 d (near x2.toNatClampNeg) _ hw) q372 q373 q103 q374 rfl rfl (by decide +kernel) ⟨Nat.le_of_ble_eq_true rfl, Nat.le_of_ble_eq_true rfl⟩ hH [] rfl rfl rfl hl.1 (Nat.le_of_ble_eq_true rfl) dX2_edges_19 ⟨(by first | exact Nat.le_of_ble_eq_true rfl | omega | (dsimp only; omega)), (by first | exact Nat.le_of_ble_eq_true rfl | omega | (dsimp only; omega))⟩ (fun v w1 H locs hq hH => ?_)
        obtain ⟨r_6, rfl, rfl, hw⟩ := hq
        have hH : g_HS d A s [[(ob, .inr (2, [.int n, .ref q]))], [(q, .inl (d.2.1 0, 10, .inl near))]] H locs := hH
        refine W.eq (g2 := (F0 m 22 ls [.int r_6, .int x1])) rfl ?_
        refine lv_iadd hF.1.1 hF.1.2.1 dX2_edges_22 ?_
        refine lv_istore_n (lv' := [(1, .int (x1 + r_6)), (0, .ref ob), (2, .int x2)]) hF.1.1 hF.1.2.1 dX2_edges_23 rfl hl (by decide) rfl (fun ls hl => ?_)
        refine lv_iinc (v := (x2 + 1)) (lv' := [(2, .int (x2 + 1)), (1, .int (x1 + r_6)), (0, .ref ob)]) hF.1.1 hF.1.2.1 dX2_edges_24 hl (k := 2) rfl rfl (by decide) rfl (fun ls hl => ?_)
        refine lv_goto (tgt := 4) hF.1.1 hF.1.2.1 dX2_edges_27 (by decide) ?_
        have hl := lv_sub hl (l' := [(0, .ref ob), (1, .int (x1 + r_6)), (2, .int (x2 + 1))]) [2, 1, 0] rfl
        exact ih (x1 + r_6) (x2 + 1) _ _ _ hH hl hw
  unfold wp_X2_edges at hw
  refine lv_iconst (v := 0) hF.1.1 hF.1.2.1 dX2_edges_0 (by decide) ?_
  refine lv_istore_n (lv' := [(1, .int 0), (0, .ref ob)]) hF.1.1 hF.1.2.1 dX2_edges_1 rfl hl (by decide) rfl (fun ls hl => ?_)
  refine lv_iconst (v := 0) hF.1.1 hF.1.2.1 dX2_edges_2 (by decide) ?_
  refine lv_istore_n (lv' := [(2, .int 0), (1, .int 0), (0, .ref ob)]) hF.1.1 hF.1.2.1 dX2_edges_3 rfl hl (by decide) rfl (fun ls hl => ?_)
  obtain ⟨f_7, hw⟩ := hw
  have hl := lv_sub hl (l' := [(0, .ref ob), (1, .int 0), (2, .int 0)]) [2, 1, 0] rfl
  exact bk_4 f_7 0 0 _ _ _ hH hl hw

def wb_X2_splitters_49 (a1 : Int32) (n : Int32) (near : Nat → Int32) (K4 : Int32 → Int32 → Prop) (Q : Int32 → Prop) (x3 : Int32) (y0 : Int32) (y1 : Int32) : Prop := K4 (y0 ||| y1) (x3 + 1)
def wb_X2_splitters_48 (a1 : Int32) (n : Int32) (near : Nat → Int32) (K4 : Int32 → Int32 → Prop) (Q : Int32 → Prop) (x3 : Int32) (y0 : Int32) : Prop := (wb_X2_splitters_49 a1 n near K4 Q x3 y0 0)
def wb_X2_splitters_4 (a1 : Int32) (n : Int32) (near : Nat → Int32) (Q : Int32 → Prop) : Nat → Int32 → Int32 → Prop
  | 0, _, _ => False
  | fu + 1, x2, x3 => ((n ≤ x3 → (Q x2)) ∧ (¬ n ≤ x3 → (vp_in x3 10 ∧ (wp_X0_has a1 x3 (fun r_9 => ((¬ r_9 = 0 → (wb_X2_splitters_48 a1 n near (wb_X2_splitters_4 a1 n near Q fu) Q x3 x2)) ∧ (r_9 = 0 → ((((near x3.toNatClampNeg) &&& a1) = 0 → (wb_X2_splitters_48 a1 n near (wb_X2_splitters_4 a1 n near Q fu) Q x3 x2)) ∧ (¬ ((near x3.toNatClampNeg) &&& a1) = 0 → ((((near x3.toNatClampNeg) &&& a1) = a1 → (wb_X2_splitters_48 a1 n near (wb_X2_splitters_4 a1 n near Q fu) Q x3 x2)) ∧ (¬ ((near x3.toNatClampNeg) &&& a1) = a1 → (wb_X2_splitters_49 a1 n near (wb_X2_splitters_4 a1 n near Q fu) Q x3 x2 ((1 : Int32) <<< (x3 &&& 31))))))))))))))
def wp_X2_splitters (a1 : Int32) (n : Int32) (near : Nat → Int32) (Q : Int32 → Prop) : Prop := (∃ f4, wb_X2_splitters_4 a1 n near Q f4 0 0)
set_option maxHeartbeats 4000000 in
set_option maxRecDepth 100000 in
theorem met_X2_splitters (l : Launch) (hl0 : l.stackTraces = false) (d : g_D) (ob : Nat) (a1 : Int32) (n : Int32) (q : Nat) (near : Nat → Int32) (Q : Int32 → Prop) (hw : wp_X2_splitters a1 n near Q) : g_Met l d yX2_splitters cX2_splitters 5 (Option.some FieldType.int) ({ frames := 1, cells := 0, slots := 0, locals := 21 } : Room) [.ref ob, .int a1] [[(ob, .inr (2, [.int n, .ref q]))], [(q, .inl (d.2.1 0, 10, .inl near))]] 0 0 (fun v w1 => ∃ (r : Int32), v = some (.int r) ∧ w1 = [[(ob, .inr (2, [.int n, .ref q]))], [(q, .inl (d.2.1 0, 10, .inl near))]] ∧ Q r) := by
  refine g_enter (by decide) (Nat.le_of_ble_eq_true rfl) ?_
  intro p e s m args below meth c A ls hF hH hl hin
  have hF : g_F p m c cX2_splitters 5 s args RX2 meth (Option.some FieldType.int) := hF
  have hl : lv_has ls 5 [(0, .ref ob), (1, .int a1)] := hl
  have bk_49 : ∀ (K4 : Int32 → Int32 → Prop) (hK4 : ∀ (x2 : Int32) (x3 : Int32) (H : Heap) (locs : List Loc) (ls : Array Slot), g_HS d A s [[(ob, .inr (2, [.int n, .ref q]))], [(q, .inl (d.2.1 0, 10, .inl near))]] H locs → lv_has ls 5 [(0, .ref ob), (1, .int a1), (2, .int x2), (3, .int x3)] → K4 x2 x3 → W p l e ({ frames := 1, cells := 0, slots := 0, locals := 21 } : Room) s m args below meth c H locs 0 0 (g_E d (fun v w1 => ∃ (r : Int32), v = some (.int r) ∧ w1 = [[(ob, .inr (2, [.int n, .ref q]))], [(q, .inl (d.2.1 0, 10, .inl near))]] ∧ Q r) A below args s 0 0) (F0 m 4 ls [])) (x3 : Int32) (y0 : Int32) (y1 : Int32) (H : Heap) (locs : List Loc) (ls : Array Slot), g_HS d A s [[(ob, .inr (2, [.int n, .ref q]))], [(q, .inl (d.2.1 0, 10, .inl near))]] H locs → lv_has ls 5 [(0, .ref ob), (1, .int a1), (3, .int x3)] → wb_X2_splitters_49 a1 n near K4 Q x3 y0 y1 → W p l e ({ frames := 1, cells := 0, slots := 0, locals := 21 } : Room) s m args below meth c H locs 0 0 (g_E d (fun v w1 => ∃ (r : Int32), v = some (.int r) ∧ w1 = [[(ob, .inr (2, [.int n, .ref q]))], [(q, .inl (d.2.1 0, 10, .inl near))]] ∧ Q r) A below args s 0 0) (F0 m 49 ls [.int y1, .int y0]) := by
    intro K4 hK4 x3 y0 y1 H locs ls hH hl hw
    unfold wb_X2_splitters_49 at hw
    refine lv_ior hF.1.1 hF.1.2.1 dX2_splitters_49 ?_
    refine lv_istore_n (lv' := [(2, .int (y0 ||| y1)), (0, .ref ob), (1, .int a1), (3, .int x3)]) hF.1.1 hF.1.2.1 dX2_splitters_50 rfl hl (by decide) rfl (fun ls hl => ?_)
    refine lv_iinc (v := (x3 + 1)) (lv' := [(3, .int (x3 + 1)), (2, .int (y0 ||| y1)), (0, .ref ob), (1, .int a1)]) hF.1.1 hF.1.2.1 dX2_splitters_51 hl (k := 3) rfl rfl (by decide) rfl (fun ls hl => ?_)
    refine lv_goto (tgt := 4) hF.1.1 hF.1.2.1 dX2_splitters_54 (by decide) ?_
    have hl := lv_sub hl (l' := [(0, .ref ob), (1, .int a1), (2, .int (y0 ||| y1)), (3, .int (x3 + 1))]) [2, 3, 1, 0] rfl
    exact hK4 (y0 ||| y1) (x3 + 1) _ _ _ hH hl hw
  have bk_48 : ∀ (K4 : Int32 → Int32 → Prop) (hK4 : ∀ (x2 : Int32) (x3 : Int32) (H : Heap) (locs : List Loc) (ls : Array Slot), g_HS d A s [[(ob, .inr (2, [.int n, .ref q]))], [(q, .inl (d.2.1 0, 10, .inl near))]] H locs → lv_has ls 5 [(0, .ref ob), (1, .int a1), (2, .int x2), (3, .int x3)] → K4 x2 x3 → W p l e ({ frames := 1, cells := 0, slots := 0, locals := 21 } : Room) s m args below meth c H locs 0 0 (g_E d (fun v w1 => ∃ (r : Int32), v = some (.int r) ∧ w1 = [[(ob, .inr (2, [.int n, .ref q]))], [(q, .inl (d.2.1 0, 10, .inl near))]] ∧ Q r) A below args s 0 0) (F0 m 4 ls [])) (x3 : Int32) (y0 : Int32) (H : Heap) (locs : List Loc) (ls : Array Slot), g_HS d A s [[(ob, .inr (2, [.int n, .ref q]))], [(q, .inl (d.2.1 0, 10, .inl near))]] H locs → lv_has ls 5 [(0, .ref ob), (1, .int a1), (3, .int x3)] → wb_X2_splitters_48 a1 n near K4 Q x3 y0 → W p l e ({ frames := 1, cells := 0, slots := 0, locals := 21 } : Room) s m args below meth c H locs 0 0 (g_E d (fun v w1 => ∃ (r : Int32), v = some (.int r) ∧ w1 = [[(ob, .inr (2, [.int n, .ref q]))], [(q, .inl (d.2.1 0, 10, .inl near))]] ∧ Q r) A below args s 0 0) (F0 m 48 ls [.int y0]) := by
    intro K4 hK4 x3 y0 H locs ls hH hl hw
    unfold wb_X2_splitters_48 at hw
    refine lv_iconst (v := 0) hF.1.1 hF.1.2.1 dX2_splitters_48 (by decide) ?_
    exact bk_49 K4 hK4 x3 y0 0 _ _ _ hH hl hw
  have bk_4 : ∀ (fu : Nat) (x2 : Int32) (x3 : Int32) (H : Heap) (locs : List Loc) (ls : Array Slot), g_HS d A s [[(ob, .inr (2, [.int n, .ref q]))], [(q, .inl (d.2.1 0, 10, .inl near))]] H locs → lv_has ls 5 [(0, .ref ob), (1, .int a1), (2, .int x2), (3, .int x3)] → wb_X2_splitters_4 a1 n near Q fu x2 x3 → W p l e ({ frames := 1, cells := 0, slots := 0, locals := 21 } : Room) s m args below meth c H locs 0 0 (g_E d (fun v w1 => ∃ (r : Int32), v = some (.int r) ∧ w1 = [[(ob, .inr (2, [.int n, .ref q]))], [(q, .inl (d.2.1 0, 10, .inl near))]] ∧ Q r) A below args s 0 0) (F0 m 4 ls []) := by
    intro fu
    induction fu with
    | zero => intro x2 x3 H locs ls hH hl hw; rw [wb_X2_splitters_4] at hw; exact hw.elim
    | succ fu ih =>
      intro x2 x3 H locs ls hH hl hw
      rw [wb_X2_splitters_4] at hw
      refine lv_iload_n hF.1.1 hF.1.2.1 dX2_splitters_4 rfl (lv_at hl 3 rfl) ?_
      refine lv_aload_n hF.1.1 hF.1.2.1 dX2_splitters_5 rfl (lv_at hl 0 rfl) ?_
      refine g_get (v := .int n) hF hH in_X2 rfl 0 0 rfl rfl 0 (by decide) q166 (fun _ h9 => h9) rfl dX2_splitters_6 ?_
      refine lv_icmp_ge (tgt := 57) hF.1.1 hF.1.2.1 dX2_splitters_9 (by decide) (fun c_7 => ?_) (fun c_7 => ?_)
      · have hw := hw.1 c_7
        refine lv_iload_n hF.1.1 hF.1.2.1 dX2_splitters_57 rfl (lv_at hl 2 rfl) ?_
        exact g_iret hF hH ⟨x2, rfl, rfl, hw⟩ dX2_splitters_58
      · have hw := hw.2 c_7
        refine lv_aload_n hF.1.1 hF.1.2.1 dX2_splitters_12 rfl (lv_at hl 0 rfl) ?_
        refine g_get (v := .ref q) hF hH in_X2 rfl 0 0 rfl rfl 1 (by decide) q170 (fun _ h9 => h9) rfl dX2_splitters_13 ?_
        refine lv_iload_n hF.1.1 hF.1.2.1 dX2_splitters_16 rfl (lv_at hl 3 rfl) ?_
        obtain ⟨hi_8, hw⟩ := hw
        refine g_iald hF hH 1 0 rfl rfl hi_8 dX2_splitters_17 ?_
        refine lv_iload_n hF.1.1 hF.1.2.1 dX2_splitters_18 rfl (lv_at hl 1 rfl) ?_
        refine lv_iand hF.1.1 hF.1.2.1 dX2_splitters_19 ?_
        refine lv_istore (lv' := [(4, .int ((near x3.toNatClampNeg) &&& a1)), (0, .ref ob), (1, .int a1), (2, .int x2), (3, .int x3)]) hF.1.1 hF.1.2.1 dX2_splitters_20 hl (by decide) rfl (fun ls hl => ?_)
        refine lv_iload_n hF.1.1 hF.1.2.1 dX2_splitters_22 rfl (lv_at hl 3 rfl) ?_
        refine lv_iload_n hF.1.1 hF.1.2.1 dX2_splitters_23 rfl (lv_at hl 2 rfl) ?_
        refine lv_iload_n hF.1.1 hF.1.2.1 dX2_splitters_24 rfl (lv_at hl 4 rfl) ?_
        refine g_cSN [.int a1, .int x3] 2 rfl hF (met_X0_has l hl0 d a1 x3 _ hw) q240 q241 q92 q242 rfl rfl (by decide +kernel) ⟨Nat.le_of_ble_eq_true rfl, Nat.le_of_ble_eq_true rfl⟩ hH [] rfl rfl rfl hl.1 (Nat.le_of_ble_eq_true rfl) dX2_splitters_25 ⟨(by first | exact Nat.le_of_ble_eq_true rfl | omega | (dsimp only; omega)), (by first | exact Nat.le_of_ble_eq_true rfl | omega | (dsimp only; omega))⟩ (fun v w1 H locs hq hH => ?_)
        obtain ⟨r_9, rfl, rfl, hw⟩ := hq
        have hH : g_HS d A s [[(ob, .inr (2, [.int n, .ref q]))], [(q, .inl (d.2.1 0, 10, .inl near))]] H locs := hH
        refine W.eq (g2 := (F0 m 28 ls [.int r_9, .int x2])) rfl ?_
        refine lv_if_ne (tgt := 48) hF.1.1 hF.1.2.1 dX2_splitters_28 (by decide) (fun c_10 => ?_) (fun c_10 => ?_)
        · have hw := hw.1 c_10
          have hl := lv_sub hl (l' := [(0, .ref ob), (1, .int a1), (3, .int x3)]) [1, 2, 4] rfl
          exact bk_48 (wb_X2_splitters_4 a1 n near Q fu) ih x3 x2 _ _ _ hH hl hw
        · have hw := hw.2 c_10
          refine lv_iload hF.1.1 hF.1.2.1 dX2_splitters_31 (lv_at hl 0 rfl) ?_
          refine lv_if_eq (tgt := 48) hF.1.1 hF.1.2.1 dX2_splitters_33 (by decide) (fun c_11 => ?_) (fun c_11 => ?_)
          · have hw := hw.1 c_11
            have hl := lv_sub hl (l' := [(0, .ref ob), (1, .int a1), (3, .int x3)]) [1, 2, 4] rfl
            exact bk_48 (wb_X2_splitters_4 a1 n near Q fu) ih x3 x2 _ _ _ hH hl hw
          · have hw := hw.2 c_11
            refine lv_iload hF.1.1 hF.1.2.1 dX2_splitters_36 (lv_at hl 0 rfl) ?_
            refine lv_iload_n hF.1.1 hF.1.2.1 dX2_splitters_38 rfl (lv_at hl 2 rfl) ?_
            refine lv_icmp_eq (tgt := 48) hF.1.1 hF.1.2.1 dX2_splitters_39 (by decide) (fun c_12 => ?_) (fun c_12 => ?_)
            · have hw := hw.1 c_12
              have hl := lv_sub hl (l' := [(0, .ref ob), (1, .int a1), (3, .int x3)]) [1, 2, 4] rfl
              exact bk_48 (wb_X2_splitters_4 a1 n near Q fu) ih x3 x2 _ _ _ hH hl hw
            · have hw := hw.2 c_12
              refine lv_iconst (v := 1) hF.1.1 hF.1.2.1 dX2_splitters_42 (by decide) ?_
              refine lv_iload_n hF.1.1 hF.1.2.1 dX2_splitters_43 rfl (lv_at hl 4 rfl) ?_
              refine lv_ishl hF.1.1 hF.1.2.1 dX2_splitters_44 ?_
              refine lv_goto (tgt := 49) hF.1.1 hF.1.2.1 dX2_splitters_45 (by decide) ?_
              have hl := lv_sub hl (l' := [(0, .ref ob), (1, .int a1), (3, .int x3)]) [1, 2, 4] rfl
              exact bk_49 (wb_X2_splitters_4 a1 n near Q fu) ih x3 x2 ((1 : Int32) <<< (x3 &&& 31)) _ _ _ hH hl hw
  unfold wp_X2_splitters at hw
  refine lv_iconst (v := 0) hF.1.1 hF.1.2.1 dX2_splitters_0 (by decide) ?_
  refine lv_istore_n (lv' := [(2, .int 0), (0, .ref ob), (1, .int a1)]) hF.1.1 hF.1.2.1 dX2_splitters_1 rfl hl (by decide) rfl (fun ls hl => ?_)
  refine lv_iconst (v := 0) hF.1.1 hF.1.2.1 dX2_splitters_2 (by decide) ?_
  refine lv_istore_n (lv' := [(3, .int 0), (2, .int 0), (0, .ref ob), (1, .int a1)]) hF.1.1 hF.1.2.1 dX2_splitters_3 rfl hl (by decide) rfl (fun ls hl => ?_)
  obtain ⟨f_13, hw⟩ := hw
  have hl := lv_sub hl (l' := [(0, .ref ob), (1, .int a1), (2, .int 0), (3, .int 0)]) [2, 3, 1, 0] rfl
  exact bk_4 f_13 0 0 _ _ _ hH hl hw

def wb_X2_module_8 (n : Int32) (near : Nat → Int32) (Q : Int32 → Prop) : Nat → Int32 → Int32 → Prop
  | 0, _, _ => False
  | fu + 1, x2, x3 => ((x3 = 0 → (Q x2)) ∧ (¬ x3 = 0 → (wp_X2_splitters (x2 ||| x3) n near (fun r_5 => (wb_X2_module_8 n near Q fu) (x2 ||| x3) r_5))))
def wp_X2_module (a1 : Int32) (n : Int32) (near : Nat → Int32) (Q : Int32 → Prop) : Prop := (wp_X2_splitters a1 n near (fun r_6 => (∃ f8, wb_X2_module_8 n near Q f8 a1 r_6)))
set_option maxHeartbeats 4000000 in
set_option maxRecDepth 100000 in
theorem met_X2_module (l : Launch) (hl0 : l.stackTraces = false) (d : g_D) (ob : Nat) (a1 : Int32) (n : Int32) (q : Nat) (near : Nat → Int32) (Q : Int32 → Prop) (hw : wp_X2_module a1 n near Q) : g_Met l d yX2_module cX2_module 4 (Option.some FieldType.int) ({ frames := 2, cells := 0, slots := 0, locals := 45 } : Room) [.ref ob, .int a1] [[(ob, .inr (2, [.int n, .ref q]))], [(q, .inl (d.2.1 0, 10, .inl near))]] 0 0 (fun v w1 => ∃ (r : Int32), v = some (.int r) ∧ w1 = [[(ob, .inr (2, [.int n, .ref q]))], [(q, .inl (d.2.1 0, 10, .inl near))]] ∧ Q r) := by
  refine g_enter (by decide) (Nat.le_of_ble_eq_true rfl) ?_
  intro p e s m args below meth c A ls hF hH hl hin
  have hF : g_F p m c cX2_module 4 s args RX2 meth (Option.some FieldType.int) := hF
  have hl : lv_has ls 4 [(0, .ref ob), (1, .int a1)] := hl
  have bk_8 : ∀ (fu : Nat) (x2 : Int32) (x3 : Int32) (H : Heap) (locs : List Loc) (ls : Array Slot), g_HS d A s [[(ob, .inr (2, [.int n, .ref q]))], [(q, .inl (d.2.1 0, 10, .inl near))]] H locs → lv_has ls 4 [(0, .ref ob), (2, .int x2), (3, .int x3)] → wb_X2_module_8 n near Q fu x2 x3 → W p l e ({ frames := 2, cells := 0, slots := 0, locals := 45 } : Room) s m args below meth c H locs 0 0 (g_E d (fun v w1 => ∃ (r : Int32), v = some (.int r) ∧ w1 = [[(ob, .inr (2, [.int n, .ref q]))], [(q, .inl (d.2.1 0, 10, .inl near))]] ∧ Q r) A below args s 0 0) (F0 m 8 ls []) := by
    intro fu
    induction fu with
    | zero => intro x2 x3 H locs ls hH hl hw; rw [wb_X2_module_8] at hw; exact hw.elim
    | succ fu ih =>
      intro x2 x3 H locs ls hH hl hw
      rw [wb_X2_module_8] at hw
      refine lv_iload_n hF.1.1 hF.1.2.1 dX2_module_8 rfl (lv_at hl 2 rfl) ?_
      refine lv_if_eq (tgt := 25) hF.1.1 hF.1.2.1 dX2_module_9 (by decide) (fun c_4 => ?_) (fun c_4 => ?_)
      · have hw := hw.1 c_4
        refine lv_iload_n hF.1.1 hF.1.2.1 dX2_module_25 rfl (lv_at hl 1 rfl) ?_
        exact g_iret hF hH ⟨x2, rfl, rfl, hw⟩ dX2_module_26
      · have hw := hw.2 c_4
        refine lv_iload_n hF.1.1 hF.1.2.1 dX2_module_12 rfl (lv_at hl 1 rfl) ?_
        refine lv_iload_n hF.1.1 hF.1.2.1 dX2_module_13 rfl (lv_at hl 2 rfl) ?_
        refine lv_ior hF.1.1 hF.1.2.1 dX2_module_14 ?_
        refine lv_istore_n (lv' := [(2, .int (x2 ||| x3)), (0, .ref ob), (3, .int x3)]) hF.1.1 hF.1.2.1 dX2_module_15 rfl hl (by decide) rfl (fun ls hl => ?_)
        refine lv_aload_n hF.1.1 hF.1.2.1 dX2_module_16 rfl (lv_at hl 1 rfl) ?_
        refine lv_iload_n hF.1.1 hF.1.2.1 dX2_module_17 rfl (lv_at hl 0 rfl) ?_
        refine g_cV [.int (x2 ||| x3)] 1 rfl hF (met_X2_splitters l hl0 d ob (x2 ||| x3) n q near _ hw) q521 q522 q523 q94 q524 rfl rfl (by decide +kernel) ⟨Nat.le_of_ble_eq_true rfl, Nat.le_of_ble_eq_true rfl⟩ hH [0, 1] rfl rfl rfl 0 0 rfl rfl rfl hl.1 (Nat.le_of_ble_eq_true rfl) dX2_module_18 ⟨(by first | exact Nat.le_of_ble_eq_true rfl | omega | (dsimp only; omega)), (by first | exact Nat.le_of_ble_eq_true rfl | omega | (dsimp only; omega))⟩ (fun v w1 H locs hq hH => ?_)
        obtain ⟨r_5, rfl, rfl, hw⟩ := hq
        have hH : g_HS d A s [[(ob, .inr (2, [.int n, .ref q]))], [(q, .inl (d.2.1 0, 10, .inl near))]] H locs := hH
        refine W.eq (g2 := (F0 m 21 ls [.int r_5])) rfl ?_
        refine lv_istore_n (lv' := [(3, .int r_5), (2, .int (x2 ||| x3)), (0, .ref ob)]) hF.1.1 hF.1.2.1 dX2_module_21 rfl hl (by decide) rfl (fun ls hl => ?_)
        refine lv_goto (tgt := 8) hF.1.1 hF.1.2.1 dX2_module_22 (by decide) ?_
        have hl := lv_sub hl (l' := [(0, .ref ob), (2, .int (x2 ||| x3)), (3, .int r_5)]) [2, 1, 0] rfl
        exact ih (x2 ||| x3) r_5 _ _ _ hH hl hw
  unfold wp_X2_module at hw
  refine lv_iload_n hF.1.1 hF.1.2.1 dX2_module_0 rfl (lv_at hl 1 rfl) ?_
  refine lv_istore_n (lv' := [(2, .int a1), (0, .ref ob), (1, .int a1)]) hF.1.1 hF.1.2.1 dX2_module_1 rfl hl (by decide) rfl (fun ls hl => ?_)
  refine lv_aload_n hF.1.1 hF.1.2.1 dX2_module_2 rfl (lv_at hl 1 rfl) ?_
  refine lv_iload_n hF.1.1 hF.1.2.1 dX2_module_3 rfl (lv_at hl 0 rfl) ?_
  refine g_cV [.int a1] 1 rfl hF (met_X2_splitters l hl0 d ob a1 n q near _ hw) q521 q522 q523 q94 q524 rfl rfl (by decide +kernel) ⟨Nat.le_of_ble_eq_true rfl, Nat.le_of_ble_eq_true rfl⟩ hH [0, 1] rfl rfl rfl 0 0 rfl rfl rfl hl.1 (Nat.le_of_ble_eq_true rfl) dX2_module_4 ⟨(by first | exact Nat.le_of_ble_eq_true rfl | omega | (dsimp only; omega)), (by first | exact Nat.le_of_ble_eq_true rfl | omega | (dsimp only; omega))⟩ (fun v w1 H locs hq hH => ?_)
  obtain ⟨r_6, rfl, rfl, hw⟩ := hq
  have hH : g_HS d A s [[(ob, .inr (2, [.int n, .ref q]))], [(q, .inl (d.2.1 0, 10, .inl near))]] H locs := hH
  refine W.eq (g2 := (F0 m 7 ls [.int r_6])) rfl ?_
  refine lv_istore_n (lv' := [(3, .int r_6), (2, .int a1), (0, .ref ob), (1, .int a1)]) hF.1.1 hF.1.2.1 dX2_module_7 rfl hl (by decide) rfl (fun ls hl => ?_)
  obtain ⟨f_7, hw⟩ := hw
  have hl := lv_sub hl (l' := [(0, .ref ob), (2, .int a1), (3, .int r_6)]) [2, 1, 0] rfl
  exact bk_8 f_7 a1 r_6 _ _ _ hH hl hw

def wb_X2_reach_76 (a2 : Int32) (a3 : Int32) (n : Int32) (near : Nat → Int32) (x5 : Int32) (K8 : Int32 → Int32 → Prop) (K22 : Int32 → Int32 → Prop) (Q : Int32 → Prop) (x6 : Int32) (y0 : Int32) (y1 : Int32) : Prop := K22 (y0 ||| y1) (x6 + 1)
def wb_X2_reach_54 (a2 : Int32) (a3 : Int32) (n : Int32) (near : Nat → Int32) (x5 : Int32) (K8 : Int32 → Int32 → Prop) (K22 : Int32 → Int32 → Prop) (Q : Int32 → Prop) (x4 : Int32) (x6 : Int32) (y0 : Int32) : Prop := (wp_X0_has x5 x6 (fun r_8 => ((r_8 = 0 → (wb_X2_reach_76 a2 a3 n near x5 K8 K22 Q x6 x4 0)) ∧ (¬ r_8 = 0 → (wb_X2_reach_76 a2 a3 n near x5 K8 K22 Q x6 x4 (y0 &&& a2))))))
def wb_X2_reach_22 (a2 : Int32) (a3 : Int32) (n : Int32) (near : Nat → Int32) (x5 : Int32) (K8 : Int32 → Int32 → Prop) (Q : Int32 → Prop) : Nat → Int32 → Int32 → Prop
  | 0, _, _ => False
  | fu + 1, x4, x6 => ((n ≤ x6 → K8 x4 x5) ∧ (¬ n ≤ x6 → ((a3 = 0 → (vp_in x6 10 ∧ (wb_X2_reach_54 a2 a3 n near x5 K8 (wb_X2_reach_22 a2 a3 n near x5 K8 Q fu) Q x4 x6 ((near x6.toNatClampNeg) ^^^ (-1))))) ∧ (¬ a3 = 0 → (vp_in x6 10 ∧ (wb_X2_reach_54 a2 a3 n near x5 K8 (wb_X2_reach_22 a2 a3 n near x5 K8 Q fu) Q x4 x6 (near x6.toNatClampNeg)))))))
def wb_X2_reach_8 (a2 : Int32) (a3 : Int32) (n : Int32) (near : Nat → Int32) (Q : Int32 → Prop) : Nat → Int32 → Int32 → Prop
  | 0, _, _ => False
  | fu + 1, x4, x5 => ((x4 = x5 → (Q x4)) ∧ (¬ x4 = x5 → (∃ f22, wb_X2_reach_22 a2 a3 n near x4 (wb_X2_reach_8 a2 a3 n near Q fu) Q f22 x4 0)))
def wp_X2_reach (a1 : Int32) (a2 : Int32) (a3 : Int32) (n : Int32) (near : Nat → Int32) (Q : Int32 → Prop) : Prop := (∃ f8, wb_X2_reach_8 a2 a3 n near Q f8 ((1 : Int32) <<< (a1 &&& 31)) 0)
set_option maxHeartbeats 4000000 in
set_option maxRecDepth 100000 in
theorem met_X2_reach (l : Launch) (hl0 : l.stackTraces = false) (d : g_D) (ob : Nat) (a1 : Int32) (a2 : Int32) (a3 : Int32) (n : Int32) (q : Nat) (near : Nat → Int32) (Q : Int32 → Prop) (hw : wp_X2_reach a1 a2 a3 n near Q) : g_Met l d yX2_reach cX2_reach 8 (Option.some FieldType.int) ({ frames := 1, cells := 0, slots := 0, locals := 21 } : Room) [.ref ob, .int a1, .int a2, .int a3] [[(ob, .inr (2, [.int n, .ref q]))], [(q, .inl (d.2.1 0, 10, .inl near))]] 0 0 (fun v w1 => ∃ (r : Int32), v = some (.int r) ∧ w1 = [[(ob, .inr (2, [.int n, .ref q]))], [(q, .inl (d.2.1 0, 10, .inl near))]] ∧ Q r) := by
  refine g_enter (by decide) (Nat.le_of_ble_eq_true rfl) ?_
  intro p e s m args below meth c A ls hF hH hl hin
  have hF : g_F p m c cX2_reach 8 s args RX2 meth (Option.some FieldType.int) := hF
  have hl : lv_has ls 8 [(0, .ref ob), (1, .int a1), (2, .int a2), (3, .int a3)] := hl
  have bk_76 : ∀ (x5 : Int32) (K8 : Int32 → Int32 → Prop) (hK8 : ∀ (x4 : Int32) (x5 : Int32) (H : Heap) (locs : List Loc) (ls : Array Slot), g_HS d A s [[(ob, .inr (2, [.int n, .ref q]))], [(q, .inl (d.2.1 0, 10, .inl near))]] H locs → lv_has ls 8 [(0, .ref ob), (2, .int a2), (3, .int a3), (4, .int x4), (5, .int x5)] → K8 x4 x5 → W p l e ({ frames := 1, cells := 0, slots := 0, locals := 21 } : Room) s m args below meth c H locs 0 0 (g_E d (fun v w1 => ∃ (r : Int32), v = some (.int r) ∧ w1 = [[(ob, .inr (2, [.int n, .ref q]))], [(q, .inl (d.2.1 0, 10, .inl near))]] ∧ Q r) A below args s 0 0) (F0 m 8 ls [])) (K22 : Int32 → Int32 → Prop) (hK22 : ∀ (x4 : Int32) (x6 : Int32) (H : Heap) (locs : List Loc) (ls : Array Slot), g_HS d A s [[(ob, .inr (2, [.int n, .ref q]))], [(q, .inl (d.2.1 0, 10, .inl near))]] H locs → lv_has ls 8 [(0, .ref ob), (2, .int a2), (3, .int a3), (4, .int x4), (5, .int x5), (6, .int x6)] → K22 x4 x6 → W p l e ({ frames := 1, cells := 0, slots := 0, locals := 21 } : Room) s m args below meth c H locs 0 0 (g_E d (fun v w1 => ∃ (r : Int32), v = some (.int r) ∧ w1 = [[(ob, .inr (2, [.int n, .ref q]))], [(q, .inl (d.2.1 0, 10, .inl near))]] ∧ Q r) A below args s 0 0) (F0 m 22 ls [])) (x6 : Int32) (y0 : Int32) (y1 : Int32) (H : Heap) (locs : List Loc) (ls : Array Slot), g_HS d A s [[(ob, .inr (2, [.int n, .ref q]))], [(q, .inl (d.2.1 0, 10, .inl near))]] H locs → lv_has ls 8 [(0, .ref ob), (2, .int a2), (3, .int a3), (5, .int x5), (6, .int x6)] → wb_X2_reach_76 a2 a3 n near x5 K8 K22 Q x6 y0 y1 → W p l e ({ frames := 1, cells := 0, slots := 0, locals := 21 } : Room) s m args below meth c H locs 0 0 (g_E d (fun v w1 => ∃ (r : Int32), v = some (.int r) ∧ w1 = [[(ob, .inr (2, [.int n, .ref q]))], [(q, .inl (d.2.1 0, 10, .inl near))]] ∧ Q r) A below args s 0 0) (F0 m 76 ls [.int y1, .int y0]) := by
    intro x5 K8 hK8 K22 hK22 x6 y0 y1 H locs ls hH hl hw
    unfold wb_X2_reach_76 at hw
    refine lv_ior hF.1.1 hF.1.2.1 dX2_reach_76 ?_
    refine lv_istore (lv' := [(4, .int (y0 ||| y1)), (0, .ref ob), (2, .int a2), (3, .int a3), (5, .int x5), (6, .int x6)]) hF.1.1 hF.1.2.1 dX2_reach_77 hl (by decide) rfl (fun ls hl => ?_)
    refine lv_iinc (v := (x6 + 1)) (lv' := [(6, .int (x6 + 1)), (4, .int (y0 ||| y1)), (0, .ref ob), (2, .int a2), (3, .int a3), (5, .int x5)]) hF.1.1 hF.1.2.1 dX2_reach_79 hl (k := 5) rfl rfl (by decide) rfl (fun ls hl => ?_)
    refine lv_goto (tgt := 22) hF.1.1 hF.1.2.1 dX2_reach_82 (by decide) ?_
    have hl := lv_sub hl (l' := [(0, .ref ob), (2, .int a2), (3, .int a3), (4, .int (y0 ||| y1)), (5, .int x5), (6, .int (x6 + 1))]) [2, 3, 4, 1, 5, 0] rfl
    exact hK22 (y0 ||| y1) (x6 + 1) _ _ _ hH hl hw
  have bk_54 : ∀ (x5 : Int32) (K8 : Int32 → Int32 → Prop) (hK8 : ∀ (x4 : Int32) (x5 : Int32) (H : Heap) (locs : List Loc) (ls : Array Slot), g_HS d A s [[(ob, .inr (2, [.int n, .ref q]))], [(q, .inl (d.2.1 0, 10, .inl near))]] H locs → lv_has ls 8 [(0, .ref ob), (2, .int a2), (3, .int a3), (4, .int x4), (5, .int x5)] → K8 x4 x5 → W p l e ({ frames := 1, cells := 0, slots := 0, locals := 21 } : Room) s m args below meth c H locs 0 0 (g_E d (fun v w1 => ∃ (r : Int32), v = some (.int r) ∧ w1 = [[(ob, .inr (2, [.int n, .ref q]))], [(q, .inl (d.2.1 0, 10, .inl near))]] ∧ Q r) A below args s 0 0) (F0 m 8 ls [])) (K22 : Int32 → Int32 → Prop) (hK22 : ∀ (x4 : Int32) (x6 : Int32) (H : Heap) (locs : List Loc) (ls : Array Slot), g_HS d A s [[(ob, .inr (2, [.int n, .ref q]))], [(q, .inl (d.2.1 0, 10, .inl near))]] H locs → lv_has ls 8 [(0, .ref ob), (2, .int a2), (3, .int a3), (4, .int x4), (5, .int x5), (6, .int x6)] → K22 x4 x6 → W p l e ({ frames := 1, cells := 0, slots := 0, locals := 21 } : Room) s m args below meth c H locs 0 0 (g_E d (fun v w1 => ∃ (r : Int32), v = some (.int r) ∧ w1 = [[(ob, .inr (2, [.int n, .ref q]))], [(q, .inl (d.2.1 0, 10, .inl near))]] ∧ Q r) A below args s 0 0) (F0 m 22 ls [])) (x4 : Int32) (x6 : Int32) (y0 : Int32) (H : Heap) (locs : List Loc) (ls : Array Slot), g_HS d A s [[(ob, .inr (2, [.int n, .ref q]))], [(q, .inl (d.2.1 0, 10, .inl near))]] H locs → lv_has ls 8 [(0, .ref ob), (2, .int a2), (3, .int a3), (4, .int x4), (5, .int x5), (6, .int x6)] → wb_X2_reach_54 a2 a3 n near x5 K8 K22 Q x4 x6 y0 → W p l e ({ frames := 1, cells := 0, slots := 0, locals := 21 } : Room) s m args below meth c H locs 0 0 (g_E d (fun v w1 => ∃ (r : Int32), v = some (.int r) ∧ w1 = [[(ob, .inr (2, [.int n, .ref q]))], [(q, .inl (d.2.1 0, 10, .inl near))]] ∧ Q r) A below args s 0 0) (F0 m 54 ls [.int y0]) := by
    intro x5 K8 hK8 K22 hK22 x4 x6 y0 H locs ls hH hl hw
    unfold wb_X2_reach_54 at hw
    refine lv_istore (lv' := [(7, .int y0), (0, .ref ob), (2, .int a2), (3, .int a3), (4, .int x4), (5, .int x5), (6, .int x6)]) hF.1.1 hF.1.2.1 dX2_reach_54 hl (by decide) rfl (fun ls hl => ?_)
    refine lv_iload hF.1.1 hF.1.2.1 dX2_reach_56 (lv_at hl 4 rfl) ?_
    refine lv_iload hF.1.1 hF.1.2.1 dX2_reach_58 (lv_at hl 5 rfl) ?_
    refine lv_iload hF.1.1 hF.1.2.1 dX2_reach_60 (lv_at hl 6 rfl) ?_
    refine g_cSN [.int x5, .int x6] 2 rfl hF (met_X0_has l hl0 d x5 x6 _ hw) q240 q241 q92 q242 rfl rfl (by decide +kernel) ⟨Nat.le_of_ble_eq_true rfl, Nat.le_of_ble_eq_true rfl⟩ hH [] rfl rfl rfl hl.1 (Nat.le_of_ble_eq_true rfl) dX2_reach_62 ⟨(by first | exact Nat.le_of_ble_eq_true rfl | omega | (dsimp only; omega)), (by first | exact Nat.le_of_ble_eq_true rfl | omega | (dsimp only; omega))⟩ (fun v w1 H locs hq hH => ?_)
    obtain ⟨r_8, rfl, rfl, hw⟩ := hq
    have hH : g_HS d A s [[(ob, .inr (2, [.int n, .ref q]))], [(q, .inl (d.2.1 0, 10, .inl near))]] H locs := hH
    refine W.eq (g2 := (F0 m 65 ls [.int r_8, .int x4])) rfl ?_
    refine lv_if_eq (tgt := 75) hF.1.1 hF.1.2.1 dX2_reach_65 (by decide) (fun c_9 => ?_) (fun c_9 => ?_)
    · have hw := hw.1 c_9
      refine lv_iconst (v := 0) hF.1.1 hF.1.2.1 dX2_reach_75 (by decide) ?_
      have hl := lv_sub hl (l' := [(0, .ref ob), (2, .int a2), (3, .int a3), (5, .int x5), (6, .int x6)]) [1, 2, 3, 5, 6] rfl
      exact bk_76 x5 K8 hK8 K22 hK22 x6 x4 0 _ _ _ hH hl hw
    · have hw := hw.2 c_9
      refine lv_iload hF.1.1 hF.1.2.1 dX2_reach_68 (lv_at hl 0 rfl) ?_
      refine lv_iload_n hF.1.1 hF.1.2.1 dX2_reach_70 rfl (lv_at hl 2 rfl) ?_
      refine lv_iand hF.1.1 hF.1.2.1 dX2_reach_71 ?_
      refine lv_goto (tgt := 76) hF.1.1 hF.1.2.1 dX2_reach_72 (by decide) ?_
      have hl := lv_sub hl (l' := [(0, .ref ob), (2, .int a2), (3, .int a3), (5, .int x5), (6, .int x6)]) [1, 2, 3, 5, 6] rfl
      exact bk_76 x5 K8 hK8 K22 hK22 x6 x4 (y0 &&& a2) _ _ _ hH hl hw
  have bk_22 : ∀ (x5 : Int32) (K8 : Int32 → Int32 → Prop) (hK8 : ∀ (x4 : Int32) (x5 : Int32) (H : Heap) (locs : List Loc) (ls : Array Slot), g_HS d A s [[(ob, .inr (2, [.int n, .ref q]))], [(q, .inl (d.2.1 0, 10, .inl near))]] H locs → lv_has ls 8 [(0, .ref ob), (2, .int a2), (3, .int a3), (4, .int x4), (5, .int x5)] → K8 x4 x5 → W p l e ({ frames := 1, cells := 0, slots := 0, locals := 21 } : Room) s m args below meth c H locs 0 0 (g_E d (fun v w1 => ∃ (r : Int32), v = some (.int r) ∧ w1 = [[(ob, .inr (2, [.int n, .ref q]))], [(q, .inl (d.2.1 0, 10, .inl near))]] ∧ Q r) A below args s 0 0) (F0 m 8 ls [])) (fu : Nat) (x4 : Int32) (x6 : Int32) (H : Heap) (locs : List Loc) (ls : Array Slot), g_HS d A s [[(ob, .inr (2, [.int n, .ref q]))], [(q, .inl (d.2.1 0, 10, .inl near))]] H locs → lv_has ls 8 [(0, .ref ob), (2, .int a2), (3, .int a3), (4, .int x4), (5, .int x5), (6, .int x6)] → wb_X2_reach_22 a2 a3 n near x5 K8 Q fu x4 x6 → W p l e ({ frames := 1, cells := 0, slots := 0, locals := 21 } : Room) s m args below meth c H locs 0 0 (g_E d (fun v w1 => ∃ (r : Int32), v = some (.int r) ∧ w1 = [[(ob, .inr (2, [.int n, .ref q]))], [(q, .inl (d.2.1 0, 10, .inl near))]] ∧ Q r) A below args s 0 0) (F0 m 22 ls []) := by
    intro x5 K8 hK8 fu
    induction fu with
    | zero => intro x4 x6 H locs ls hH hl hw; rw [wb_X2_reach_22] at hw; exact hw.elim
    | succ fu ih =>
      intro x4 x6 H locs ls hH hl hw
      rw [wb_X2_reach_22] at hw
      refine lv_iload hF.1.1 hF.1.2.1 dX2_reach_22 (lv_at hl 5 rfl) ?_
      refine lv_aload_n hF.1.1 hF.1.2.1 dX2_reach_24 rfl (lv_at hl 0 rfl) ?_
      refine g_get (v := .int n) hF hH in_X2 rfl 0 0 rfl rfl 0 (by decide) q166 (fun _ h9 => h9) rfl dX2_reach_25 ?_
      refine lv_icmp_ge (tgt := 85) hF.1.1 hF.1.2.1 dX2_reach_28 (by decide) (fun c_10 => ?_) (fun c_10 => ?_)
      · have hw := hw.1 c_10
        refine lv_goto (tgt := 8) hF.1.1 hF.1.2.1 dX2_reach_85 (by decide) ?_
        have hl := lv_sub hl (l' := [(0, .ref ob), (2, .int a2), (3, .int a3), (4, .int x4), (5, .int x5)]) [0, 1, 2, 3, 4] rfl
        exact hK8 x4 x5 _ _ _ hH hl hw
      · have hw := hw.2 c_10
        refine lv_iload_n hF.1.1 hF.1.2.1 dX2_reach_31 rfl (lv_at hl 2 rfl) ?_
        refine lv_if_eq (tgt := 45) hF.1.1 hF.1.2.1 dX2_reach_32 (by decide) (fun c_11 => ?_) (fun c_11 => ?_)
        · have hw := hw.1 c_11
          refine lv_aload_n hF.1.1 hF.1.2.1 dX2_reach_45 rfl (lv_at hl 0 rfl) ?_
          refine g_get (v := .ref q) hF hH in_X2 rfl 0 0 rfl rfl 1 (by decide) q170 (fun _ h9 => h9) rfl dX2_reach_46 ?_
          refine lv_iload hF.1.1 hF.1.2.1 dX2_reach_49 (lv_at hl 5 rfl) ?_
          obtain ⟨hi_12, hw⟩ := hw
          refine g_iald hF hH 1 0 rfl rfl hi_12 dX2_reach_51 ?_
          refine lv_iconst (v := (-1)) hF.1.1 hF.1.2.1 dX2_reach_52 (by decide) ?_
          refine lv_ixor hF.1.1 hF.1.2.1 dX2_reach_53 ?_
          exact bk_54 x5 K8 hK8 (wb_X2_reach_22 a2 a3 n near x5 K8 Q fu) ih x4 x6 ((near x6.toNatClampNeg) ^^^ (-1)) _ _ _ hH hl hw
        · have hw := hw.2 c_11
          refine lv_aload_n hF.1.1 hF.1.2.1 dX2_reach_35 rfl (lv_at hl 0 rfl) ?_
          refine g_get (v := .ref q) hF hH in_X2 rfl 0 0 rfl rfl 1 (by decide) q170 (fun _ h9 => h9) rfl dX2_reach_36 ?_
          refine lv_iload hF.1.1 hF.1.2.1 dX2_reach_39 (lv_at hl 5 rfl) ?_
          obtain ⟨hi_13, hw⟩ := hw
          refine g_iald hF hH 1 0 rfl rfl hi_13 dX2_reach_41 ?_
          refine lv_goto (tgt := 54) hF.1.1 hF.1.2.1 dX2_reach_42 (by decide) ?_
          exact bk_54 x5 K8 hK8 (wb_X2_reach_22 a2 a3 n near x5 K8 Q fu) ih x4 x6 (near x6.toNatClampNeg) _ _ _ hH hl hw
  have bk_8 : ∀ (fu : Nat) (x4 : Int32) (x5 : Int32) (H : Heap) (locs : List Loc) (ls : Array Slot), g_HS d A s [[(ob, .inr (2, [.int n, .ref q]))], [(q, .inl (d.2.1 0, 10, .inl near))]] H locs → lv_has ls 8 [(0, .ref ob), (2, .int a2), (3, .int a3), (4, .int x4), (5, .int x5)] → wb_X2_reach_8 a2 a3 n near Q fu x4 x5 → W p l e ({ frames := 1, cells := 0, slots := 0, locals := 21 } : Room) s m args below meth c H locs 0 0 (g_E d (fun v w1 => ∃ (r : Int32), v = some (.int r) ∧ w1 = [[(ob, .inr (2, [.int n, .ref q]))], [(q, .inl (d.2.1 0, 10, .inl near))]] ∧ Q r) A below args s 0 0) (F0 m 8 ls []) := by
    intro fu
    induction fu with
    | zero => intro x4 x5 H locs ls hH hl hw; rw [wb_X2_reach_8] at hw; exact hw.elim
    | succ fu ih =>
      intro x4 x5 H locs ls hH hl hw
      rw [wb_X2_reach_8] at hw
      refine lv_iload hF.1.1 hF.1.2.1 dX2_reach_8 (lv_at hl 3 rfl) ?_
      refine lv_iload hF.1.1 hF.1.2.1 dX2_reach_10 (lv_at hl 4 rfl) ?_
      refine lv_icmp_eq (tgt := 88) hF.1.1 hF.1.2.1 dX2_reach_12 (by decide) (fun c_14 => ?_) (fun c_14 => ?_)
      · have hw := hw.1 c_14
        refine lv_iload hF.1.1 hF.1.2.1 dX2_reach_88 (lv_at hl 3 rfl) ?_
        exact g_iret hF hH ⟨x4, rfl, rfl, hw⟩ dX2_reach_90
      · have hw := hw.2 c_14
        refine lv_iload hF.1.1 hF.1.2.1 dX2_reach_15 (lv_at hl 3 rfl) ?_
        refine lv_istore (lv' := [(5, .int x4), (0, .ref ob), (2, .int a2), (3, .int a3), (4, .int x4)]) hF.1.1 hF.1.2.1 dX2_reach_17 hl (by decide) rfl (fun ls hl => ?_)
        refine lv_iconst (v := 0) hF.1.1 hF.1.2.1 dX2_reach_19 (by decide) ?_
        refine lv_istore (lv' := [(6, .int 0), (5, .int x4), (0, .ref ob), (2, .int a2), (3, .int a3), (4, .int x4)]) hF.1.1 hF.1.2.1 dX2_reach_20 hl (by decide) rfl (fun ls hl => ?_)
        obtain ⟨f_15, hw⟩ := hw
        have hl := lv_sub hl (l' := [(0, .ref ob), (2, .int a2), (3, .int a3), (4, .int x4), (5, .int x4), (6, .int 0)]) [2, 3, 4, 5, 1, 0] rfl
        exact bk_22 x4 (wb_X2_reach_8 a2 a3 n near Q fu) ih f_15 x4 0 _ _ _ hH hl hw
  unfold wp_X2_reach at hw
  refine lv_iconst (v := 1) hF.1.1 hF.1.2.1 dX2_reach_0 (by decide) ?_
  refine lv_iload_n hF.1.1 hF.1.2.1 dX2_reach_1 rfl (lv_at hl 1 rfl) ?_
  refine lv_ishl hF.1.1 hF.1.2.1 dX2_reach_2 ?_
  refine lv_istore (lv' := [(4, .int ((1 : Int32) <<< (a1 &&& 31))), (0, .ref ob), (1, .int a1), (2, .int a2), (3, .int a3)]) hF.1.1 hF.1.2.1 dX2_reach_3 hl (by decide) rfl (fun ls hl => ?_)
  refine lv_iconst (v := 0) hF.1.1 hF.1.2.1 dX2_reach_5 (by decide) ?_
  refine lv_istore (lv' := [(5, .int 0), (4, .int ((1 : Int32) <<< (a1 &&& 31))), (0, .ref ob), (1, .int a1), (2, .int a2), (3, .int a3)]) hF.1.1 hF.1.2.1 dX2_reach_6 hl (by decide) rfl (fun ls hl => ?_)
  obtain ⟨f_16, hw⟩ := hw
  have hl := lv_sub hl (l' := [(0, .ref ob), (2, .int a2), (3, .int a3), (4, .int ((1 : Int32) <<< (a1 &&& 31))), (5, .int 0)]) [2, 4, 5, 1, 0] rfl
  exact bk_8 f_16 ((1 : Int32) <<< (a1 &&& 31)) 0 _ _ _ hH hl hw

def wp_X11_init (Q : Prop) : Prop := Q
set_option maxHeartbeats 4000000 in
set_option maxRecDepth 100000 in
theorem met_X11_init (l : Launch) (hl0 : l.stackTraces = false) (d : g_D) (ob : Nat) (Q : Prop) (hw : wp_X11_init Q) : g_Met l d yX11_init cX11_init 1 none ({ frames := 1, cells := 2, slots := 200, locals := 12 } : Room) [.ref ob] [[(ob, .inr (7, [.null, .null, .int 0]))]] 2 200 (fun v w1 => ∃ (q1 : Nat) (q2 : Nat), v = none ∧ w1 = [[(ob, .inr (7, [.ref q1, .ref q2, .int 0]))], [(q1, .inl (d.2.1 1, 100, .inl (fun _ => 0)))], [(q2, .inl (d.2.1 0, 100, .inl (fun _ => 0)))]] ∧ Q) := by
  refine g_enter (by decide) (Nat.le_of_ble_eq_true rfl) ?_
  intro p e s m args below meth c A ls hF hH hl hin
  have hF : g_F p m c cX11_init 1 s args RX11 meth none := hF
  have hl : lv_has ls 1 [(0, .ref ob)] := hl
  have hin : meth.name = "<init>" := hin rfl
  unfold wp_X11_init at hw
  refine lv_aload_n hF.1.1 hF.1.2.1 dX11_init_0 rfl (lv_at hl 0 rfl) ?_
  refine W.objInit hF.1.1 hF.1.2.1 hF.1.2.2.2.1 (hF.1.2.2.2.2 _ q760) (hF.1.2.2.2.2 _ q137) (hF.1.2.2.2.2 _ q138) rfl (by rw [hF.1.2.2.1]; exact hl.1) rfl dX11_init_1 (Nat.le_of_ble_eq_true rfl) (Nat.le_of_ble_eq_true rfl) ?_
  refine W.eq (g2 := (F0 m 4 ls [])) rfl ?_
  refine lv_aload_n hF.1.1 hF.1.2.1 dX11_init_4 rfl (lv_at hl 0 rfl) ?_
  refine g_getsN (v := .int 100) hF hH (g_z1 hH).1 q761 (fun _ h9 => h9) dX11_init_5 ?_
  refine g_newZ (N' := 100) hF hH q776 (by decide) rfl (by decide) (by first | exact Nat.le_of_ble_eq_true rfl | omega | (dsimp only; omega)) (by first | exact Nat.le_of_ble_eq_true rfl | omega | (dsimp only; omega)) dX11_init_8 (fun q_3 H hH => ?_)
  have hH : g_HS d A s [[(ob, .inr (7, [.null, .null, .int 0]))], [(q_3, .inl (d.2.1 1, 100, .inl (fun _ => 0)))]] H _ := hH
  refine W.widen (k := 1) (n := 100) (by first | exact Nat.le_of_ble_eq_true rfl | omega | (dsimp only; omega)) (by first | exact Nat.le_of_ble_eq_true rfl | omega | (dsimp only; omega)) ?_
  refine g_putF (cs' := [[(ob, .inr (7, [.ref q_3, .null, .int 0]))], [(q_3, .inl (d.2.1 1, 100, .inl (fun _ => 0)))]]) (ch' := [(ob, .inr (7, [.ref q_3, .null, .int 0]))]) (ty := (.array (.boolean))) hF hin hH in_X11 rfl tyX11 tyX11_ok nmX11 0 0 rfl rfl 0 (by decide) q762 (fun _ h9 => h9) rfl rfl (by decide +kernel) rfl rfl (Nat.le_of_ble_eq_true rfl) dX11_init_10 rfl rfl (fun H locs hH => ?_)
  refine lv_aload_n hF.1.1 hF.1.2.1 dX11_init_13 rfl (lv_at hl 0 rfl) ?_
  refine g_getsN (v := .int 100) hF hH (g_z1 hH).1 q761 (fun _ h9 => h9) dX11_init_14 ?_
  refine g_newI (N' := 100) hF hH q181 (by decide) rfl (by decide) (by first | exact Nat.le_of_ble_eq_true rfl | omega | (dsimp only; omega)) (by first | exact Nat.le_of_ble_eq_true rfl | omega | (dsimp only; omega)) dX11_init_17 (fun q_4 H hH => ?_)
  have hH : g_HS d A s [[(ob, .inr (7, [.ref q_3, .null, .int 0]))], [(q_3, .inl (d.2.1 1, 100, .inl (fun _ => 0)))], [(q_4, .inl (d.2.1 0, 100, .inl (fun _ => 0)))]] H _ := hH
  refine W.widen (k := 2) (n := 200) (by first | exact Nat.le_of_ble_eq_true rfl | omega | (dsimp only; omega)) (by first | exact Nat.le_of_ble_eq_true rfl | omega | (dsimp only; omega)) ?_
  refine g_putF (cs' := [[(ob, .inr (7, [.ref q_3, .ref q_4, .int 0]))], [(q_3, .inl (d.2.1 1, 100, .inl (fun _ => 0)))], [(q_4, .inl (d.2.1 0, 100, .inl (fun _ => 0)))]]) (ch' := [(ob, .inr (7, [.ref q_3, .ref q_4, .int 0]))]) (ty := (.array (.int))) hF hin hH in_X11 rfl tyX11 tyX11_ok nmX11 0 0 rfl rfl 1 (by decide) q763 (fun _ h9 => h9) rfl rfl (by decide +kernel) rfl rfl (Nat.le_of_ble_eq_true rfl) dX11_init_19 rfl rfl (fun H locs hH => ?_)
  exact g_vret hF hH ⟨q_3, q_4, rfl, rfl, hw⟩ dX11_init_22

def wp_X11_take (a1 : Int32) (a2 : Int32) (many : Int32) (isIn : Nat → Int32) (queue : Nat → Int32) (Q : (Nat → Int32) → (Nat → Int32) → Int32 → Prop) : Prop := (vp_in ((10 * a1) + a2) 100 ∧ ((¬ (isIn ((10 * a1) + a2).toNatClampNeg) = 0 → (Q isIn queue many)) ∧ ((isIn ((10 * a1) + a2).toNatClampNeg) = 0 → (vp_in ((10 * a1) + a2) 100 ∧ (vp_in many 100 ∧ (Q (upd isIn ((10 * a1) + a2).toNatClampNeg (vp_nar .boolean (1 : Int32))) (upd queue many.toNatClampNeg ((10 * a1) + a2)) (many + 1)))))))
set_option maxHeartbeats 4000000 in
set_option maxRecDepth 100000 in
theorem met_X11_take (l : Launch) (hl0 : l.stackTraces = false) (d : g_D) (ob : Nat) (a1 : Int32) (a2 : Int32) (q1 : Nat) (q2 : Nat) (many : Int32) (isIn : Nat → Int32) (queue : Nat → Int32) (Q : (Nat → Int32) → (Nat → Int32) → Int32 → Prop) (hw : wp_X11_take a1 a2 many isIn queue Q) : g_Met l d yX11_take cX11_take 4 none ({ frames := 0, cells := 0, slots := 0, locals := 0 } : Room) [.ref ob, .int a1, .int a2] [[(ob, .inr (7, [.ref q1, .ref q2, .int many]))], [(q1, .inl (d.2.1 1, 100, .inl isIn))], [(q2, .inl (d.2.1 0, 100, .inl queue))]] 0 0 (fun v w1 => ∃ (isIn2 : Nat → Int32) (queue2 : Nat → Int32) (many2 : Int32), v = none ∧ w1 = [[(ob, .inr (7, [.ref q1, .ref q2, .int many2]))], [(q1, .inl (d.2.1 1, 100, .inl isIn2))], [(q2, .inl (d.2.1 0, 100, .inl queue2))]] ∧ Q isIn2 queue2 many2) := by
  refine g_enter (by decide) (Nat.le_of_ble_eq_true rfl) ?_
  intro p e s m args below meth c A ls hF hH hl hin
  have hF : g_F p m c cX11_take 4 s args RX11 meth none := hF
  have hl : lv_has ls 4 [(0, .ref ob), (1, .int a1), (2, .int a2)] := hl
  unfold wp_X11_take at hw
  refine lv_bipush (v := 10) hF.1.1 hF.1.2.1 dX11_take_0 (by decide) ?_
  refine lv_iload_n hF.1.1 hF.1.2.1 dX11_take_2 rfl (lv_at hl 1 rfl) ?_
  refine lv_imul hF.1.1 hF.1.2.1 dX11_take_3 ?_
  refine lv_iload_n hF.1.1 hF.1.2.1 dX11_take_4 rfl (lv_at hl 2 rfl) ?_
  refine lv_iadd hF.1.1 hF.1.2.1 dX11_take_5 ?_
  refine lv_istore_n (lv' := [(3, .int ((10 * a1) + a2)), (0, .ref ob), (1, .int a1), (2, .int a2)]) hF.1.1 hF.1.2.1 dX11_take_6 rfl hl (by decide) rfl (fun ls hl => ?_)
  refine lv_aload_n hF.1.1 hF.1.2.1 dX11_take_7 rfl (lv_at hl 1 rfl) ?_
  refine g_get (v := .ref q1) hF hH in_X11 rfl 0 0 rfl rfl 0 (by decide) q762 (fun _ h9 => h9) rfl dX11_take_8 ?_
  refine lv_iload_n hF.1.1 hF.1.2.1 dX11_take_11 rfl (lv_at hl 0 rfl) ?_
  obtain ⟨hi_5, hw⟩ := hw
  refine g_zald hF hH 1 0 rfl rfl hi_5 dX11_take_12 ?_
  refine lv_if_ne (tgt := 43) hF.1.1 hF.1.2.1 dX11_take_13 (by decide) (fun c_6 => ?_) (fun c_6 => ?_)
  · have hw := hw.1 c_6
    exact g_vret hF hH ⟨isIn, queue, many, rfl, rfl, hw⟩ dX11_take_43
  · have hw := hw.2 c_6
    refine lv_aload_n hF.1.1 hF.1.2.1 dX11_take_16 rfl (lv_at hl 1 rfl) ?_
    refine g_get (v := .ref q1) hF hH in_X11 rfl 0 0 rfl rfl 0 (by decide) q762 (fun _ h9 => h9) rfl dX11_take_17 ?_
    refine lv_iload_n hF.1.1 hF.1.2.1 dX11_take_20 rfl (lv_at hl 0 rfl) ?_
    refine lv_iconst (v := 1) hF.1.1 hF.1.2.1 dX11_take_21 (by decide) ?_
    obtain ⟨hi_7, hw⟩ := hw
    refine g_zast (cs' := [[(ob, .inr (7, [.ref q1, .ref q2, .int many]))], [(q1, .inl (d.2.1 1, 100, .inl (upd isIn ((10 * a1) + a2).toNatClampNeg (vp_nar .boolean (1 : Int32)))))], [(q2, .inl (d.2.1 0, 100, .inl queue))]]) (ch' := [(q1, .inl (d.2.1 1, 100, .inl (upd isIn ((10 * a1) + a2).toNatClampNeg (vp_nar .boolean (1 : Int32)))))]) hF hH 1 0 rfl rfl hi_7 dX11_take_22 rfl rfl (fun H locs hH => ?_)
    refine lv_aload_n hF.1.1 hF.1.2.1 dX11_take_23 rfl (lv_at hl 1 rfl) ?_
    refine g_get (v := .ref q2) hF hH in_X11 rfl 0 0 rfl rfl 1 (by decide) q763 (fun _ h9 => h9) rfl dX11_take_24 ?_
    refine lv_aload_n hF.1.1 hF.1.2.1 dX11_take_27 rfl (lv_at hl 1 rfl) ?_
    refine g_get (v := .int many) hF hH in_X11 rfl 0 0 rfl rfl 2 (by decide) q766 (fun _ h9 => h9) rfl dX11_take_28 ?_
    refine lv_iload_n hF.1.1 hF.1.2.1 dX11_take_31 rfl (lv_at hl 0 rfl) ?_
    obtain ⟨hi_8, hw⟩ := hw
    refine g_iast (cs' := [[(ob, .inr (7, [.ref q1, .ref q2, .int many]))], [(q1, .inl (d.2.1 1, 100, .inl (upd isIn ((10 * a1) + a2).toNatClampNeg (vp_nar .boolean (1 : Int32)))))], [(q2, .inl (d.2.1 0, 100, .inl (upd queue many.toNatClampNeg ((10 * a1) + a2))))]]) (ch' := [(q2, .inl (d.2.1 0, 100, .inl (upd queue many.toNatClampNeg ((10 * a1) + a2))))]) hF hH 2 0 rfl rfl hi_8 dX11_take_32 rfl rfl (fun H locs hH => ?_)
    refine lv_aload_n hF.1.1 hF.1.2.1 dX11_take_33 rfl (lv_at hl 1 rfl) ?_
    refine lv_dup hF.1.1 hF.1.2.1 dX11_take_34 rfl ?_
    refine g_get (v := .int many) hF hH in_X11 rfl 0 0 rfl rfl 2 (by decide) q766 (fun _ h9 => h9) rfl dX11_take_35 ?_
    refine lv_iconst (v := 1) hF.1.1 hF.1.2.1 dX11_take_38 (by decide) ?_
    refine lv_iadd hF.1.1 hF.1.2.1 dX11_take_39 ?_
    refine g_put (cs' := [[(ob, .inr (7, [.ref q1, .ref q2, .int (many + 1)]))], [(q1, .inl (d.2.1 1, 100, .inl (upd isIn ((10 * a1) + a2).toNatClampNeg (vp_nar .boolean (1 : Int32)))))], [(q2, .inl (d.2.1 0, 100, .inl (upd queue many.toNatClampNeg ((10 * a1) + a2))))]]) (ch' := [(ob, .inr (7, [.ref q1, .ref q2, .int (many + 1)]))]) (ty := .int) hF hH in_X11 rfl tyX11 tyX11_ok nmX11 0 0 rfl rfl 2 (by decide) q766 (fun _ h9 => h9) rfl (by decide +kernel) rfl rfl (Nat.le_of_ble_eq_true rfl) dX11_take_40 rfl rfl (fun H locs hH => ?_)
    exact g_vret hF hH ⟨(upd isIn ((10 * a1) + a2).toNatClampNeg (vp_nar .boolean (1 : Int32))), (upd queue many.toNatClampNeg ((10 * a1) + a2)), (many + 1), rfl, rfl, hw⟩ dX11_take_43

def wb_X11_of_91 (n : Int32) (near : Nat → Int32) (x4 : Int32) (x5 : Int32) (x6 : Int32) (K9 : Int32 → Int32 → (Nat → Int32) → (Nat → Int32) → Prop) (K45 : Int32 → Int32 → (Nat → Int32) → (Nat → Int32) → Prop) (Q : (Nat → Int32) → (Nat → Int32) → Int32 → Prop) (x7 : Int32) (many_ : Int32) (isIn_ : Nat → Int32) (queue_ : Nat → Int32) : Prop := ((x7 = x5 → K45 (x7 + 1) many_ isIn_ queue_) ∧ (¬ x7 = x5 → (wp_X2_linked x7 x6 n near (fun r_25 => ((r_25 = 0 → K45 (x7 + 1) many_ isIn_ queue_) ∧ (¬ r_25 = 0 → (wp_X2_linked x5 x7 n near (fun r_27 => ((¬ r_27 = 0 → K45 (x7 + 1) many_ isIn_ queue_) ∧ (r_27 = 0 → (wp_X11_take x7 x6 many_ isIn_ queue_ (fun n_29 n_30 n_31 => K45 (x7 + 1) n_31 n_29 n_30))))))))))))
def wb_X11_of_45 (n : Int32) (near : Nat → Int32) (x4 : Int32) (x5 : Int32) (x6 : Int32) (K9 : Int32 → Int32 → (Nat → Int32) → (Nat → Int32) → Prop) (Q : (Nat → Int32) → (Nat → Int32) → Int32 → Prop) : Nat → Int32 → Int32 → (Nat → Int32) → (Nat → Int32) → Prop
  | 0, _, _, _, _ => False
  | fu + 1, x7, many_, isIn_, queue_ => ((n ≤ x7 → K9 (x4 + 1) many_ isIn_ queue_) ∧ (¬ n ≤ x7 → ((x7 = x6 → (wb_X11_of_91 n near x4 x5 x6 K9 (wb_X11_of_45 n near x4 x5 x6 K9 Q fu) Q x7 many_ isIn_ queue_)) ∧ (¬ x7 = x6 → (wp_X2_linked x5 x7 n near (fun r_34 => ((r_34 = 0 → (wb_X11_of_91 n near x4 x5 x6 K9 (wb_X11_of_45 n near x4 x5 x6 K9 Q fu) Q x7 many_ isIn_ queue_)) ∧ (¬ r_34 = 0 → (wp_X2_linked x6 x7 n near (fun r_36 => ((¬ r_36 = 0 → (wb_X11_of_91 n near x4 x5 x6 K9 (wb_X11_of_45 n near x4 x5 x6 K9 Q fu) Q x7 many_ isIn_ queue_)) ∧ (r_36 = 0 → (wp_X11_take x5 x7 many_ isIn_ queue_ (fun n_38 n_39 n_40 => (wb_X11_of_91 n near x4 x5 x6 K9 (wb_X11_of_45 n near x4 x5 x6 K9 Q fu) Q x7 n_40 n_38 n_39)))))))))))))))
def wb_X11_of_9 (n : Int32) (near : Nat → Int32) (Q : (Nat → Int32) → (Nat → Int32) → Int32 → Prop) : Nat → Int32 → Int32 → (Nat → Int32) → (Nat → Int32) → Prop
  | 0, _, _, _, _ => False
  | fu + 1, x4, many_, isIn_, queue_ => ((many_ ≤ x4 → (Q isIn_ queue_ many_)) ∧ (¬ many_ ≤ x4 → (vp_in x4 100 ∧ (vp_in x4 100 ∧ (∃ f45, wb_X11_of_45 n near x4 ((queue_ x4.toNatClampNeg) / 10) ((queue_ x4.toNatClampNeg) - (queue_ x4.toNatClampNeg) / 10 * 10) (wb_X11_of_9 n near Q fu) Q f45 0 many_ isIn_ queue_)))))
def wp_X11_of (a1 : Int32) (a2 : Int32) (many : Int32) (isIn : Nat → Int32) (queue : Nat → Int32) (n : Int32) (near : Nat → Int32) (Q : (Nat → Int32) → (Nat → Int32) → Int32 → Prop) : Prop := (wp_X11_take a1 a2 many isIn queue (fun n_45 n_46 n_47 => (∃ f9, wb_X11_of_9 n near Q f9 0 n_47 n_45 n_46)))
set_option maxHeartbeats 4000000 in
set_option maxRecDepth 100000 in
theorem met_X11_of (l : Launch) (hl0 : l.stackTraces = false) (d : g_D) (ob : Nat) (g : Nat) (a1 : Int32) (a2 : Int32) (q1 : Nat) (q2 : Nat) (many : Int32) (isIn : Nat → Int32) (queue : Nat → Int32) (n : Int32) (gq : Nat) (near : Nat → Int32) (Q : (Nat → Int32) → (Nat → Int32) → Int32 → Prop) (hw : wp_X11_of a1 a2 many isIn queue n near Q) : g_Met l d yX11_of cX11_of 8 (Option.some (FieldType.object "GraphModules$Gathering")) ({ frames := 2, cells := 0, slots := 0, locals := 43 } : Room) [.ref ob, .ref g, .int a1, .int a2] [[(ob, .inr (7, [.ref q1, .ref q2, .int many]))], [(q1, .inl (d.2.1 1, 100, .inl isIn))], [(q2, .inl (d.2.1 0, 100, .inl queue))], [(g, .inr (2, [.int n, .ref gq]))], [(gq, .inl (d.2.1 0, 10, .inl near))]] 0 0 (fun v w1 => ∃ (isIn2 : Nat → Int32) (queue2 : Nat → Int32) (many2 : Int32), v = some (.ref ob) ∧ w1 = [[(ob, .inr (7, [.ref q1, .ref q2, .int many2]))], [(q1, .inl (d.2.1 1, 100, .inl isIn2))], [(q2, .inl (d.2.1 0, 100, .inl queue2))], [(g, .inr (2, [.int n, .ref gq]))], [(gq, .inl (d.2.1 0, 10, .inl near))]] ∧ Q isIn2 queue2 many2) := by
  refine g_enter (by decide) (Nat.le_of_ble_eq_true rfl) ?_
  intro p e s m args below meth c A ls hF hH hl hin
  have hF : g_F p m c cX11_of 8 s args RX11 meth (Option.some (FieldType.object "GraphModules$Gathering")) := hF
  have hl : lv_has ls 8 [(0, .ref ob), (1, .ref g), (2, .int a1), (3, .int a2)] := hl
  have bk_91 : ∀ (x4 : Int32) (x5 : Int32) (x6 : Int32) (K9 : Int32 → Int32 → (Nat → Int32) → (Nat → Int32) → Prop) (hK9 : ∀ (x4 : Int32) (many_ : Int32) (isIn_ : Nat → Int32) (queue_ : Nat → Int32) (H : Heap) (locs : List Loc) (ls : Array Slot), g_HS d A s [[(g, .inr (2, [.int n, .ref gq]))], [(gq, .inl (d.2.1 0, 10, .inl near))], [(ob, .inr (7, [.ref q1, .ref q2, .int many_]))], [(q1, .inl (d.2.1 1, 100, .inl isIn_))], [(q2, .inl (d.2.1 0, 100, .inl queue_))]] H locs → lv_has ls 8 [(0, .ref ob), (1, .ref g), (4, .int x4)] → K9 x4 many_ isIn_ queue_ → W p l e ({ frames := 2, cells := 0, slots := 0, locals := 43 } : Room) s m args below meth c H locs 0 0 (g_E d (fun v w1 => ∃ (isIn2 : Nat → Int32) (queue2 : Nat → Int32) (many2 : Int32), v = some (.ref ob) ∧ w1 = [[(ob, .inr (7, [.ref q1, .ref q2, .int many2]))], [(q1, .inl (d.2.1 1, 100, .inl isIn2))], [(q2, .inl (d.2.1 0, 100, .inl queue2))], [(g, .inr (2, [.int n, .ref gq]))], [(gq, .inl (d.2.1 0, 10, .inl near))]] ∧ Q isIn2 queue2 many2) A below args s 0 0) (F0 m 9 ls [])) (K45 : Int32 → Int32 → (Nat → Int32) → (Nat → Int32) → Prop) (hK45 : ∀ (x7 : Int32) (many_ : Int32) (isIn_ : Nat → Int32) (queue_ : Nat → Int32) (H : Heap) (locs : List Loc) (ls : Array Slot), g_HS d A s [[(g, .inr (2, [.int n, .ref gq]))], [(gq, .inl (d.2.1 0, 10, .inl near))], [(ob, .inr (7, [.ref q1, .ref q2, .int many_]))], [(q1, .inl (d.2.1 1, 100, .inl isIn_))], [(q2, .inl (d.2.1 0, 100, .inl queue_))]] H locs → lv_has ls 8 [(0, .ref ob), (1, .ref g), (4, .int x4), (5, .int x5), (6, .int x6), (7, .int x7)] → K45 x7 many_ isIn_ queue_ → W p l e ({ frames := 2, cells := 0, slots := 0, locals := 43 } : Room) s m args below meth c H locs 0 0 (g_E d (fun v w1 => ∃ (isIn2 : Nat → Int32) (queue2 : Nat → Int32) (many2 : Int32), v = some (.ref ob) ∧ w1 = [[(ob, .inr (7, [.ref q1, .ref q2, .int many2]))], [(q1, .inl (d.2.1 1, 100, .inl isIn2))], [(q2, .inl (d.2.1 0, 100, .inl queue2))], [(g, .inr (2, [.int n, .ref gq]))], [(gq, .inl (d.2.1 0, 10, .inl near))]] ∧ Q isIn2 queue2 many2) A below args s 0 0) (F0 m 45 ls [])) (x7 : Int32) (many_ : Int32) (isIn_ : Nat → Int32) (queue_ : Nat → Int32) (H : Heap) (locs : List Loc) (ls : Array Slot), g_HS d A s [[(g, .inr (2, [.int n, .ref gq]))], [(gq, .inl (d.2.1 0, 10, .inl near))], [(ob, .inr (7, [.ref q1, .ref q2, .int many_]))], [(q1, .inl (d.2.1 1, 100, .inl isIn_))], [(q2, .inl (d.2.1 0, 100, .inl queue_))]] H locs → lv_has ls 8 [(0, .ref ob), (1, .ref g), (4, .int x4), (5, .int x5), (6, .int x6), (7, .int x7)] → wb_X11_of_91 n near x4 x5 x6 K9 K45 Q x7 many_ isIn_ queue_ → W p l e ({ frames := 2, cells := 0, slots := 0, locals := 43 } : Room) s m args below meth c H locs 0 0 (g_E d (fun v w1 => ∃ (isIn2 : Nat → Int32) (queue2 : Nat → Int32) (many2 : Int32), v = some (.ref ob) ∧ w1 = [[(ob, .inr (7, [.ref q1, .ref q2, .int many2]))], [(q1, .inl (d.2.1 1, 100, .inl isIn2))], [(q2, .inl (d.2.1 0, 100, .inl queue2))], [(g, .inr (2, [.int n, .ref gq]))], [(gq, .inl (d.2.1 0, 10, .inl near))]] ∧ Q isIn2 queue2 many2) A below args s 0 0) (F0 m 91 ls []) := by
    intro x4 x5 x6 K9 hK9 K45 hK45 x7 many_ isIn_ queue_ H locs ls hH hl hw
    unfold wb_X11_of_91 at hw
    refine lv_iload hF.1.1 hF.1.2.1 dX11_of_91 (lv_at hl 5 rfl) ?_
    refine lv_iload hF.1.1 hF.1.2.1 dX11_of_93 (lv_at hl 3 rfl) ?_
    refine lv_icmp_eq (tgt := 128) hF.1.1 hF.1.2.1 dX11_of_95 (by decide) (fun c_24 => ?_) (fun c_24 => ?_)
    · have hw := hw.1 c_24
      refine lv_iinc (v := (x7 + 1)) (lv' := [(7, .int (x7 + 1)), (0, .ref ob), (1, .ref g), (4, .int x4), (5, .int x5), (6, .int x6)]) hF.1.1 hF.1.2.1 dX11_of_128 hl (k := 5) rfl rfl (by decide) rfl (fun ls hl => ?_)
      refine lv_goto (tgt := 45) hF.1.1 hF.1.2.1 dX11_of_131 (by decide) ?_
      have hl := lv_sub hl (l' := [(0, .ref ob), (1, .ref g), (4, .int x4), (5, .int x5), (6, .int x6), (7, .int (x7 + 1))]) [1, 2, 3, 4, 5, 0] rfl
      exact hK45 (x7 + 1) many_ isIn_ queue_ _ _ _ hH hl hw
    · have hw := hw.2 c_24
      refine lv_aload_n hF.1.1 hF.1.2.1 dX11_of_98 rfl (lv_at hl 1 rfl) ?_
      refine lv_iload hF.1.1 hF.1.2.1 dX11_of_99 (lv_at hl 5 rfl) ?_
      refine lv_iload hF.1.1 hF.1.2.1 dX11_of_101 (lv_at hl 4 rfl) ?_
      refine g_cV [.int x7, .int x6] 2 rfl hF (met_X2_linked l hl0 d g x7 x6 n gq near _ hw) q785 q237 q238 q94 q239 rfl rfl (by decide +kernel) ⟨Nat.le_of_ble_eq_true rfl, Nat.le_of_ble_eq_true rfl⟩ hH [0, 1] rfl rfl rfl 0 0 rfl rfl rfl hl.1 (Nat.le_of_ble_eq_true rfl) dX11_of_103 ⟨(by first | exact Nat.le_of_ble_eq_true rfl | omega | (dsimp only; omega)), (by first | exact Nat.le_of_ble_eq_true rfl | omega | (dsimp only; omega))⟩ (fun v w1 H locs hq hH => ?_)
      obtain ⟨r_25, rfl, rfl, hw⟩ := hq
      have hH : g_HS d A s [[(ob, .inr (7, [.ref q1, .ref q2, .int many_]))], [(q1, .inl (d.2.1 1, 100, .inl isIn_))], [(q2, .inl (d.2.1 0, 100, .inl queue_))], [(g, .inr (2, [.int n, .ref gq]))], [(gq, .inl (d.2.1 0, 10, .inl near))]] H locs := hH
      refine W.eq (g2 := (F0 m 106 ls [.int r_25])) rfl ?_
      refine lv_if_eq (tgt := 128) hF.1.1 hF.1.2.1 dX11_of_106 (by decide) (fun c_26 => ?_) (fun c_26 => ?_)
      · have hw := hw.1 c_26
        refine lv_iinc (v := (x7 + 1)) (lv' := [(7, .int (x7 + 1)), (0, .ref ob), (1, .ref g), (4, .int x4), (5, .int x5), (6, .int x6)]) hF.1.1 hF.1.2.1 dX11_of_128 hl (k := 5) rfl rfl (by decide) rfl (fun ls hl => ?_)
        refine lv_goto (tgt := 45) hF.1.1 hF.1.2.1 dX11_of_131 (by decide) ?_
        have hH := hH.sub (cs' := [[(g, .inr (2, [.int n, .ref gq]))], [(gq, .inl (d.2.1 0, 10, .inl near))], [(ob, .inr (7, [.ref q1, .ref q2, .int many_]))], [(q1, .inl (d.2.1 1, 100, .inl isIn_))], [(q2, .inl (d.2.1 0, 100, .inl queue_))]]) [3, 4, 0, 1, 2] rfl rfl
        have hl := lv_sub hl (l' := [(0, .ref ob), (1, .ref g), (4, .int x4), (5, .int x5), (6, .int x6), (7, .int (x7 + 1))]) [1, 2, 3, 4, 5, 0] rfl
        exact hK45 (x7 + 1) many_ isIn_ queue_ _ _ _ hH hl hw
      · have hw := hw.2 c_26
        refine lv_aload_n hF.1.1 hF.1.2.1 dX11_of_109 rfl (lv_at hl 1 rfl) ?_
        refine lv_iload hF.1.1 hF.1.2.1 dX11_of_110 (lv_at hl 3 rfl) ?_
        refine lv_iload hF.1.1 hF.1.2.1 dX11_of_112 (lv_at hl 5 rfl) ?_
        refine g_cV [.int x5, .int x7] 2 rfl hF (met_X2_linked l hl0 d g x5 x7 n gq near _ hw) q785 q237 q238 q94 q239 rfl rfl (by decide +kernel) ⟨Nat.le_of_ble_eq_true rfl, Nat.le_of_ble_eq_true rfl⟩ hH [3, 4] rfl rfl rfl 0 0 rfl rfl rfl hl.1 (Nat.le_of_ble_eq_true rfl) dX11_of_114 ⟨(by first | exact Nat.le_of_ble_eq_true rfl | omega | (dsimp only; omega)), (by first | exact Nat.le_of_ble_eq_true rfl | omega | (dsimp only; omega))⟩ (fun v w1 H locs hq hH => ?_)
        obtain ⟨r_27, rfl, rfl, hw⟩ := hq
        have hH : g_HS d A s [[(ob, .inr (7, [.ref q1, .ref q2, .int many_]))], [(q1, .inl (d.2.1 1, 100, .inl isIn_))], [(q2, .inl (d.2.1 0, 100, .inl queue_))], [(g, .inr (2, [.int n, .ref gq]))], [(gq, .inl (d.2.1 0, 10, .inl near))]] H locs := hH
        refine W.eq (g2 := (F0 m 117 ls [.int r_27])) rfl ?_
        refine lv_if_ne (tgt := 128) hF.1.1 hF.1.2.1 dX11_of_117 (by decide) (fun c_28 => ?_) (fun c_28 => ?_)
        · have hw := hw.1 c_28
          refine lv_iinc (v := (x7 + 1)) (lv' := [(7, .int (x7 + 1)), (0, .ref ob), (1, .ref g), (4, .int x4), (5, .int x5), (6, .int x6)]) hF.1.1 hF.1.2.1 dX11_of_128 hl (k := 5) rfl rfl (by decide) rfl (fun ls hl => ?_)
          refine lv_goto (tgt := 45) hF.1.1 hF.1.2.1 dX11_of_131 (by decide) ?_
          have hH := hH.sub (cs' := [[(g, .inr (2, [.int n, .ref gq]))], [(gq, .inl (d.2.1 0, 10, .inl near))], [(ob, .inr (7, [.ref q1, .ref q2, .int many_]))], [(q1, .inl (d.2.1 1, 100, .inl isIn_))], [(q2, .inl (d.2.1 0, 100, .inl queue_))]]) [3, 4, 0, 1, 2] rfl rfl
          have hl := lv_sub hl (l' := [(0, .ref ob), (1, .ref g), (4, .int x4), (5, .int x5), (6, .int x6), (7, .int (x7 + 1))]) [1, 2, 3, 4, 5, 0] rfl
          exact hK45 (x7 + 1) many_ isIn_ queue_ _ _ _ hH hl hw
        · have hw := hw.2 c_28
          refine lv_aload_n hF.1.1 hF.1.2.1 dX11_of_120 rfl (lv_at hl 0 rfl) ?_
          refine lv_iload hF.1.1 hF.1.2.1 dX11_of_121 (lv_at hl 5 rfl) ?_
          refine lv_iload hF.1.1 hF.1.2.1 dX11_of_123 (lv_at hl 4 rfl) ?_
          refine g_cV [.int x7, .int x6] 2 rfl hF (met_X11_take l hl0 d ob x7 x6 q1 q2 many_ isIn_ queue_ _ hw) q781 q783 qs16 q121 q784 rfl rfl (by decide +kernel) ⟨Nat.le_of_ble_eq_true rfl, Nat.le_of_ble_eq_true rfl⟩ hH [0, 1, 2] rfl rfl rfl 0 0 rfl rfl rfl hl.1 (Nat.le_of_ble_eq_true rfl) dX11_of_125 ⟨(by first | exact Nat.le_of_ble_eq_true rfl | omega | (dsimp only; omega)), (by first | exact Nat.le_of_ble_eq_true rfl | omega | (dsimp only; omega))⟩ (fun v w1 H locs hq hH => ?_)
          obtain ⟨n_29, n_30, n_31, rfl, rfl, hw⟩ := hq
          have hH : g_HS d A s [[(g, .inr (2, [.int n, .ref gq]))], [(gq, .inl (d.2.1 0, 10, .inl near))], [(ob, .inr (7, [.ref q1, .ref q2, .int n_31]))], [(q1, .inl (d.2.1 1, 100, .inl n_29))], [(q2, .inl (d.2.1 0, 100, .inl n_30))]] H locs := hH
          refine W.eq (g2 := (F0 m 128 ls [])) rfl ?_
          refine lv_iinc (v := (x7 + 1)) (lv' := [(7, .int (x7 + 1)), (0, .ref ob), (1, .ref g), (4, .int x4), (5, .int x5), (6, .int x6)]) hF.1.1 hF.1.2.1 dX11_of_128 hl (k := 5) rfl rfl (by decide) rfl (fun ls hl => ?_)
          refine lv_goto (tgt := 45) hF.1.1 hF.1.2.1 dX11_of_131 (by decide) ?_
          have hl := lv_sub hl (l' := [(0, .ref ob), (1, .ref g), (4, .int x4), (5, .int x5), (6, .int x6), (7, .int (x7 + 1))]) [1, 2, 3, 4, 5, 0] rfl
          exact hK45 (x7 + 1) n_31 n_29 n_30 _ _ _ hH hl hw
  have bk_45 : ∀ (x4 : Int32) (x5 : Int32) (x6 : Int32) (K9 : Int32 → Int32 → (Nat → Int32) → (Nat → Int32) → Prop) (hK9 : ∀ (x4 : Int32) (many_ : Int32) (isIn_ : Nat → Int32) (queue_ : Nat → Int32) (H : Heap) (locs : List Loc) (ls : Array Slot), g_HS d A s [[(g, .inr (2, [.int n, .ref gq]))], [(gq, .inl (d.2.1 0, 10, .inl near))], [(ob, .inr (7, [.ref q1, .ref q2, .int many_]))], [(q1, .inl (d.2.1 1, 100, .inl isIn_))], [(q2, .inl (d.2.1 0, 100, .inl queue_))]] H locs → lv_has ls 8 [(0, .ref ob), (1, .ref g), (4, .int x4)] → K9 x4 many_ isIn_ queue_ → W p l e ({ frames := 2, cells := 0, slots := 0, locals := 43 } : Room) s m args below meth c H locs 0 0 (g_E d (fun v w1 => ∃ (isIn2 : Nat → Int32) (queue2 : Nat → Int32) (many2 : Int32), v = some (.ref ob) ∧ w1 = [[(ob, .inr (7, [.ref q1, .ref q2, .int many2]))], [(q1, .inl (d.2.1 1, 100, .inl isIn2))], [(q2, .inl (d.2.1 0, 100, .inl queue2))], [(g, .inr (2, [.int n, .ref gq]))], [(gq, .inl (d.2.1 0, 10, .inl near))]] ∧ Q isIn2 queue2 many2) A below args s 0 0) (F0 m 9 ls [])) (fu : Nat) (x7 : Int32) (many_ : Int32) (isIn_ : Nat → Int32) (queue_ : Nat → Int32) (H : Heap) (locs : List Loc) (ls : Array Slot), g_HS d A s [[(g, .inr (2, [.int n, .ref gq]))], [(gq, .inl (d.2.1 0, 10, .inl near))], [(ob, .inr (7, [.ref q1, .ref q2, .int many_]))], [(q1, .inl (d.2.1 1, 100, .inl isIn_))], [(q2, .inl (d.2.1 0, 100, .inl queue_))]] H locs → lv_has ls 8 [(0, .ref ob), (1, .ref g), (4, .int x4), (5, .int x5), (6, .int x6), (7, .int x7)] → wb_X11_of_45 n near x4 x5 x6 K9 Q fu x7 many_ isIn_ queue_ → W p l e ({ frames := 2, cells := 0, slots := 0, locals := 43 } : Room) s m args below meth c H locs 0 0 (g_E d (fun v w1 => ∃ (isIn2 : Nat → Int32) (queue2 : Nat → Int32) (many2 : Int32), v = some (.ref ob) ∧ w1 = [[(ob, .inr (7, [.ref q1, .ref q2, .int many2]))], [(q1, .inl (d.2.1 1, 100, .inl isIn2))], [(q2, .inl (d.2.1 0, 100, .inl queue2))], [(g, .inr (2, [.int n, .ref gq]))], [(gq, .inl (d.2.1 0, 10, .inl near))]] ∧ Q isIn2 queue2 many2) A below args s 0 0) (F0 m 45 ls []) := by
    intro x4 x5 x6 K9 hK9 fu
    induction fu with
    | zero => intro x7 many_ isIn_ queue_ H locs ls hH hl hw; rw [wb_X11_of_45] at hw; exact hw.elim
    | succ fu ih =>
      intro x7 many_ isIn_ queue_ H locs ls hH hl hw
      rw [wb_X11_of_45] at hw
      refine lv_iload hF.1.1 hF.1.2.1 dX11_of_45 (lv_at hl 5 rfl) ?_
      refine lv_aload_n hF.1.1 hF.1.2.1 dX11_of_47 rfl (lv_at hl 1 rfl) ?_
      refine g_getN (v := .int n) hF hH in_X2 rfl 0 0 rfl rfl 0 (by decide) q168 (fun _ h9 => h9) rfl dX11_of_48 ?_
      refine lv_icmp_ge (tgt := 134) hF.1.1 hF.1.2.1 dX11_of_51 (by decide) (fun c_32 => ?_) (fun c_32 => ?_)
      · have hw := hw.1 c_32
        refine lv_iinc (v := (x4 + 1)) (lv' := [(4, .int (x4 + 1)), (0, .ref ob), (1, .ref g), (5, .int x5), (6, .int x6), (7, .int x7)]) hF.1.1 hF.1.2.1 dX11_of_134 hl (k := 2) rfl rfl (by decide) rfl (fun ls hl => ?_)
        refine lv_goto (tgt := 9) hF.1.1 hF.1.2.1 dX11_of_137 (by decide) ?_
        have hl := lv_sub hl (l' := [(0, .ref ob), (1, .ref g), (4, .int (x4 + 1))]) [1, 2, 0] rfl
        exact hK9 (x4 + 1) many_ isIn_ queue_ _ _ _ hH hl hw
      · have hw := hw.2 c_32
        refine lv_iload hF.1.1 hF.1.2.1 dX11_of_54 (lv_at hl 5 rfl) ?_
        refine lv_iload hF.1.1 hF.1.2.1 dX11_of_56 (lv_at hl 4 rfl) ?_
        refine lv_icmp_eq (tgt := 91) hF.1.1 hF.1.2.1 dX11_of_58 (by decide) (fun c_33 => ?_) (fun c_33 => ?_)
        · have hw := hw.1 c_33
          exact bk_91 x4 x5 x6 K9 hK9 (wb_X11_of_45 n near x4 x5 x6 K9 Q fu) ih x7 many_ isIn_ queue_ _ _ _ hH hl hw
        · have hw := hw.2 c_33
          refine lv_aload_n hF.1.1 hF.1.2.1 dX11_of_61 rfl (lv_at hl 1 rfl) ?_
          refine lv_iload hF.1.1 hF.1.2.1 dX11_of_62 (lv_at hl 3 rfl) ?_
          refine lv_iload hF.1.1 hF.1.2.1 dX11_of_64 (lv_at hl 5 rfl) ?_
          refine g_cV [.int x5, .int x7] 2 rfl hF (met_X2_linked l hl0 d g x5 x7 n gq near _ hw) q785 q237 q238 q94 q239 rfl rfl (by decide +kernel) ⟨Nat.le_of_ble_eq_true rfl, Nat.le_of_ble_eq_true rfl⟩ hH [0, 1] rfl rfl rfl 0 0 rfl rfl rfl hl.1 (Nat.le_of_ble_eq_true rfl) dX11_of_66 ⟨(by first | exact Nat.le_of_ble_eq_true rfl | omega | (dsimp only; omega)), (by first | exact Nat.le_of_ble_eq_true rfl | omega | (dsimp only; omega))⟩ (fun v w1 H locs hq hH => ?_)
          obtain ⟨r_34, rfl, rfl, hw⟩ := hq
          have hH : g_HS d A s [[(ob, .inr (7, [.ref q1, .ref q2, .int many_]))], [(q1, .inl (d.2.1 1, 100, .inl isIn_))], [(q2, .inl (d.2.1 0, 100, .inl queue_))], [(g, .inr (2, [.int n, .ref gq]))], [(gq, .inl (d.2.1 0, 10, .inl near))]] H locs := hH
          refine W.eq (g2 := (F0 m 69 ls [.int r_34])) rfl ?_
          refine lv_if_eq (tgt := 91) hF.1.1 hF.1.2.1 dX11_of_69 (by decide) (fun c_35 => ?_) (fun c_35 => ?_)
          · have hw := hw.1 c_35
            have hH := hH.sub (cs' := [[(g, .inr (2, [.int n, .ref gq]))], [(gq, .inl (d.2.1 0, 10, .inl near))], [(ob, .inr (7, [.ref q1, .ref q2, .int many_]))], [(q1, .inl (d.2.1 1, 100, .inl isIn_))], [(q2, .inl (d.2.1 0, 100, .inl queue_))]]) [3, 4, 0, 1, 2] rfl rfl
            exact bk_91 x4 x5 x6 K9 hK9 (wb_X11_of_45 n near x4 x5 x6 K9 Q fu) ih x7 many_ isIn_ queue_ _ _ _ hH hl hw
          · have hw := hw.2 c_35
            refine lv_aload_n hF.1.1 hF.1.2.1 dX11_of_72 rfl (lv_at hl 1 rfl) ?_
            refine lv_iload hF.1.1 hF.1.2.1 dX11_of_73 (lv_at hl 4 rfl) ?_
            refine lv_iload hF.1.1 hF.1.2.1 dX11_of_75 (lv_at hl 5 rfl) ?_
            refine g_cV [.int x6, .int x7] 2 rfl hF (met_X2_linked l hl0 d g x6 x7 n gq near _ hw) q785 q237 q238 q94 q239 rfl rfl (by decide +kernel) ⟨Nat.le_of_ble_eq_true rfl, Nat.le_of_ble_eq_true rfl⟩ hH [3, 4] rfl rfl rfl 0 0 rfl rfl rfl hl.1 (Nat.le_of_ble_eq_true rfl) dX11_of_77 ⟨(by first | exact Nat.le_of_ble_eq_true rfl | omega | (dsimp only; omega)), (by first | exact Nat.le_of_ble_eq_true rfl | omega | (dsimp only; omega))⟩ (fun v w1 H locs hq hH => ?_)
            obtain ⟨r_36, rfl, rfl, hw⟩ := hq
            have hH : g_HS d A s [[(ob, .inr (7, [.ref q1, .ref q2, .int many_]))], [(q1, .inl (d.2.1 1, 100, .inl isIn_))], [(q2, .inl (d.2.1 0, 100, .inl queue_))], [(g, .inr (2, [.int n, .ref gq]))], [(gq, .inl (d.2.1 0, 10, .inl near))]] H locs := hH
            refine W.eq (g2 := (F0 m 80 ls [.int r_36])) rfl ?_
            refine lv_if_ne (tgt := 91) hF.1.1 hF.1.2.1 dX11_of_80 (by decide) (fun c_37 => ?_) (fun c_37 => ?_)
            · have hw := hw.1 c_37
              have hH := hH.sub (cs' := [[(g, .inr (2, [.int n, .ref gq]))], [(gq, .inl (d.2.1 0, 10, .inl near))], [(ob, .inr (7, [.ref q1, .ref q2, .int many_]))], [(q1, .inl (d.2.1 1, 100, .inl isIn_))], [(q2, .inl (d.2.1 0, 100, .inl queue_))]]) [3, 4, 0, 1, 2] rfl rfl
              exact bk_91 x4 x5 x6 K9 hK9 (wb_X11_of_45 n near x4 x5 x6 K9 Q fu) ih x7 many_ isIn_ queue_ _ _ _ hH hl hw
            · have hw := hw.2 c_37
              refine lv_aload_n hF.1.1 hF.1.2.1 dX11_of_83 rfl (lv_at hl 0 rfl) ?_
              refine lv_iload hF.1.1 hF.1.2.1 dX11_of_84 (lv_at hl 3 rfl) ?_
              refine lv_iload hF.1.1 hF.1.2.1 dX11_of_86 (lv_at hl 5 rfl) ?_
              refine g_cV [.int x5, .int x7] 2 rfl hF (met_X11_take l hl0 d ob x5 x7 q1 q2 many_ isIn_ queue_ _ hw) q781 q783 qs16 q121 q784 rfl rfl (by decide +kernel) ⟨Nat.le_of_ble_eq_true rfl, Nat.le_of_ble_eq_true rfl⟩ hH [0, 1, 2] rfl rfl rfl 0 0 rfl rfl rfl hl.1 (Nat.le_of_ble_eq_true rfl) dX11_of_88 ⟨(by first | exact Nat.le_of_ble_eq_true rfl | omega | (dsimp only; omega)), (by first | exact Nat.le_of_ble_eq_true rfl | omega | (dsimp only; omega))⟩ (fun v w1 H locs hq hH => ?_)
              obtain ⟨n_38, n_39, n_40, rfl, rfl, hw⟩ := hq
              have hH : g_HS d A s [[(g, .inr (2, [.int n, .ref gq]))], [(gq, .inl (d.2.1 0, 10, .inl near))], [(ob, .inr (7, [.ref q1, .ref q2, .int n_40]))], [(q1, .inl (d.2.1 1, 100, .inl n_38))], [(q2, .inl (d.2.1 0, 100, .inl n_39))]] H locs := hH
              refine W.eq (g2 := (F0 m 91 ls [])) rfl ?_
              exact bk_91 x4 x5 x6 K9 hK9 (wb_X11_of_45 n near x4 x5 x6 K9 Q fu) ih x7 n_40 n_38 n_39 _ _ _ hH hl hw
  have bk_9 : ∀ (fu : Nat) (x4 : Int32) (many_ : Int32) (isIn_ : Nat → Int32) (queue_ : Nat → Int32) (H : Heap) (locs : List Loc) (ls : Array Slot), g_HS d A s [[(g, .inr (2, [.int n, .ref gq]))], [(gq, .inl (d.2.1 0, 10, .inl near))], [(ob, .inr (7, [.ref q1, .ref q2, .int many_]))], [(q1, .inl (d.2.1 1, 100, .inl isIn_))], [(q2, .inl (d.2.1 0, 100, .inl queue_))]] H locs → lv_has ls 8 [(0, .ref ob), (1, .ref g), (4, .int x4)] → wb_X11_of_9 n near Q fu x4 many_ isIn_ queue_ → W p l e ({ frames := 2, cells := 0, slots := 0, locals := 43 } : Room) s m args below meth c H locs 0 0 (g_E d (fun v w1 => ∃ (isIn2 : Nat → Int32) (queue2 : Nat → Int32) (many2 : Int32), v = some (.ref ob) ∧ w1 = [[(ob, .inr (7, [.ref q1, .ref q2, .int many2]))], [(q1, .inl (d.2.1 1, 100, .inl isIn2))], [(q2, .inl (d.2.1 0, 100, .inl queue2))], [(g, .inr (2, [.int n, .ref gq]))], [(gq, .inl (d.2.1 0, 10, .inl near))]] ∧ Q isIn2 queue2 many2) A below args s 0 0) (F0 m 9 ls []) := by
    intro fu
    induction fu with
    | zero => intro x4 many_ isIn_ queue_ H locs ls hH hl hw; rw [wb_X11_of_9] at hw; exact hw.elim
    | succ fu ih =>
      intro x4 many_ isIn_ queue_ H locs ls hH hl hw
      rw [wb_X11_of_9] at hw
      refine lv_iload hF.1.1 hF.1.2.1 dX11_of_9 (lv_at hl 2 rfl) ?_
      refine lv_aload_n hF.1.1 hF.1.2.1 dX11_of_11 rfl (lv_at hl 0 rfl) ?_
      refine g_get (v := .int many_) hF hH in_X11 rfl 2 0 rfl rfl 2 (by decide) q766 (fun _ h9 => h9) rfl dX11_of_12 ?_
      refine lv_icmp_ge (tgt := 140) hF.1.1 hF.1.2.1 dX11_of_15 (by decide) (fun c_41 => ?_) (fun c_41 => ?_)
      · have hw := hw.1 c_41
        refine lv_aload_n hF.1.1 hF.1.2.1 dX11_of_140 rfl (lv_at hl 0 rfl) ?_
        have hH := hH.sub (cs' := [[(ob, .inr (7, [.ref q1, .ref q2, .int many_]))], [(q1, .inl (d.2.1 1, 100, .inl isIn_))], [(q2, .inl (d.2.1 0, 100, .inl queue_))], [(g, .inr (2, [.int n, .ref gq]))], [(gq, .inl (d.2.1 0, 10, .inl near))]]) [2, 3, 4, 0, 1] rfl rfl
        exact g_aret hF (Or.inl ⟨_, rfl⟩) (Or.inr ⟨_, rfl⟩) hH ⟨isIn_, queue_, many_, rfl, rfl, hw⟩ dX11_of_141
      · have hw := hw.2 c_41
        refine lv_aload_n hF.1.1 hF.1.2.1 dX11_of_18 rfl (lv_at hl 0 rfl) ?_
        refine g_get (v := .ref q2) hF hH in_X11 rfl 2 0 rfl rfl 1 (by decide) q763 (fun _ h9 => h9) rfl dX11_of_19 ?_
        refine lv_iload hF.1.1 hF.1.2.1 dX11_of_22 (lv_at hl 2 rfl) ?_
        obtain ⟨hi_42, hw⟩ := hw
        refine g_iald hF hH 4 0 rfl rfl hi_42 dX11_of_24 ?_
        refine lv_bipush (v := 10) hF.1.1 hF.1.2.1 dX11_of_25 (by decide) ?_
        refine lv_idiv hF.1.1 hF.1.2.1 dX11_of_27 (by decide) ?_
        refine lv_istore (lv' := [(5, .int ((queue_ x4.toNatClampNeg) / 10)), (0, .ref ob), (1, .ref g), (4, .int x4)]) hF.1.1 hF.1.2.1 dX11_of_28 hl (by decide) rfl (fun ls hl => ?_)
        refine lv_aload_n hF.1.1 hF.1.2.1 dX11_of_30 rfl (lv_at hl 1 rfl) ?_
        refine g_get (v := .ref q2) hF hH in_X11 rfl 2 0 rfl rfl 1 (by decide) q763 (fun _ h9 => h9) rfl dX11_of_31 ?_
        refine lv_iload hF.1.1 hF.1.2.1 dX11_of_34 (lv_at hl 3 rfl) ?_
        obtain ⟨hi_43, hw⟩ := hw
        refine g_iald hF hH 4 0 rfl rfl hi_43 dX11_of_36 ?_
        refine lv_bipush (v := 10) hF.1.1 hF.1.2.1 dX11_of_37 (by decide) ?_
        refine lv_irem hF.1.1 hF.1.2.1 dX11_of_39 (by decide) ?_
        refine lv_istore (lv' := [(6, .int ((queue_ x4.toNatClampNeg) - (queue_ x4.toNatClampNeg) / 10 * 10)), (5, .int ((queue_ x4.toNatClampNeg) / 10)), (0, .ref ob), (1, .ref g), (4, .int x4)]) hF.1.1 hF.1.2.1 dX11_of_40 hl (by decide) rfl (fun ls hl => ?_)
        refine lv_iconst (v := 0) hF.1.1 hF.1.2.1 dX11_of_42 (by decide) ?_
        refine lv_istore (lv' := [(7, .int 0), (6, .int ((queue_ x4.toNatClampNeg) - (queue_ x4.toNatClampNeg) / 10 * 10)), (5, .int ((queue_ x4.toNatClampNeg) / 10)), (0, .ref ob), (1, .ref g), (4, .int x4)]) hF.1.1 hF.1.2.1 dX11_of_43 hl (by decide) rfl (fun ls hl => ?_)
        obtain ⟨f_44, hw⟩ := hw
        have hl := lv_sub hl (l' := [(0, .ref ob), (1, .ref g), (4, .int x4), (5, .int ((queue_ x4.toNatClampNeg) / 10)), (6, .int ((queue_ x4.toNatClampNeg) - (queue_ x4.toNatClampNeg) / 10 * 10)), (7, .int 0)]) [3, 4, 5, 2, 1, 0] rfl
        exact bk_45 x4 ((queue_ x4.toNatClampNeg) / 10) ((queue_ x4.toNatClampNeg) - (queue_ x4.toNatClampNeg) / 10 * 10) (wb_X11_of_9 n near Q fu) ih f_44 0 many_ isIn_ queue_ _ _ _ hH hl hw
  unfold wp_X11_of at hw
  refine lv_aload_n hF.1.1 hF.1.2.1 dX11_of_0 rfl (lv_at hl 0 rfl) ?_
  refine lv_iload_n hF.1.1 hF.1.2.1 dX11_of_1 rfl (lv_at hl 2 rfl) ?_
  refine lv_iload_n hF.1.1 hF.1.2.1 dX11_of_2 rfl (lv_at hl 3 rfl) ?_
  refine g_cV [.int a1, .int a2] 2 rfl hF (met_X11_take l hl0 d ob a1 a2 q1 q2 many isIn queue _ hw) q781 q783 qs16 q121 q784 rfl rfl (by decide +kernel) ⟨Nat.le_of_ble_eq_true rfl, Nat.le_of_ble_eq_true rfl⟩ hH [0, 1, 2] rfl rfl rfl 0 0 rfl rfl rfl hl.1 (Nat.le_of_ble_eq_true rfl) dX11_of_3 ⟨(by first | exact Nat.le_of_ble_eq_true rfl | omega | (dsimp only; omega)), (by first | exact Nat.le_of_ble_eq_true rfl | omega | (dsimp only; omega))⟩ (fun v w1 H locs hq hH => ?_)
  obtain ⟨n_45, n_46, n_47, rfl, rfl, hw⟩ := hq
  have hH : g_HS d A s [[(g, .inr (2, [.int n, .ref gq]))], [(gq, .inl (d.2.1 0, 10, .inl near))], [(ob, .inr (7, [.ref q1, .ref q2, .int n_47]))], [(q1, .inl (d.2.1 1, 100, .inl n_45))], [(q2, .inl (d.2.1 0, 100, .inl n_46))]] H locs := hH
  refine W.eq (g2 := (F0 m 6 ls [])) rfl ?_
  refine lv_iconst (v := 0) hF.1.1 hF.1.2.1 dX11_of_6 (by decide) ?_
  refine lv_istore (lv' := [(4, .int 0), (0, .ref ob), (1, .ref g), (2, .int a1), (3, .int a2)]) hF.1.1 hF.1.2.1 dX11_of_7 hl (by decide) rfl (fun ls hl => ?_)
  obtain ⟨f_48, hw⟩ := hw
  have hl := lv_sub hl (l' := [(0, .ref ob), (1, .ref g), (4, .int 0)]) [1, 2, 0] rfl
  exact bk_9 f_48 0 n_47 n_45 n_46 _ _ _ hH hl hw

def wb_X11_first_2 (many : Int32) (isIn : Nat → Int32) (Q : Int32 → Prop) : Nat → Int32 → Prop
  | 0, _ => False
  | fu + 1, x1 => (vp_in x1 100 ∧ ((¬ (isIn x1.toNatClampNeg) = 0 → (Q x1)) ∧ ((isIn x1.toNatClampNeg) = 0 → (wb_X11_first_2 many isIn Q fu) (x1 + 1))))
def wp_X11_first (many : Int32) (isIn : Nat → Int32) (Q : Int32 → Prop) : Prop := (∃ f2, wb_X11_first_2 many isIn Q f2 0)
set_option maxHeartbeats 4000000 in
set_option maxRecDepth 100000 in
theorem met_X11_first (l : Launch) (hl0 : l.stackTraces = false) (d : g_D) (ob : Nat) (q1 : Nat) (q2 : Nat) (many : Int32) (isIn : Nat → Int32) (Q : Int32 → Prop) (hw : wp_X11_first many isIn Q) : g_Met l d yX11_first cX11_first 2 (Option.some FieldType.int) ({ frames := 0, cells := 0, slots := 0, locals := 0 } : Room) [.ref ob] [[(ob, .inr (7, [.ref q1, .ref q2, .int many]))], [(q1, .inl (d.2.1 1, 100, .inl isIn))]] 0 0 (fun v w1 => ∃ (r : Int32), v = some (.int r) ∧ w1 = [[(ob, .inr (7, [.ref q1, .ref q2, .int many]))], [(q1, .inl (d.2.1 1, 100, .inl isIn))]] ∧ Q r) := by
  refine g_enter (by decide) (Nat.le_of_ble_eq_true rfl) ?_
  intro p e s m args below meth c A ls hF hH hl hin
  have hF : g_F p m c cX11_first 2 s args RX11 meth (Option.some FieldType.int) := hF
  have hl : lv_has ls 2 [(0, .ref ob)] := hl
  have bk_2 : ∀ (fu : Nat) (x1 : Int32) (H : Heap) (locs : List Loc) (ls : Array Slot), g_HS d A s [[(ob, .inr (7, [.ref q1, .ref q2, .int many]))], [(q1, .inl (d.2.1 1, 100, .inl isIn))]] H locs → lv_has ls 2 [(0, .ref ob), (1, .int x1)] → wb_X11_first_2 many isIn Q fu x1 → W p l e ({ frames := 0, cells := 0, slots := 0, locals := 0 } : Room) s m args below meth c H locs 0 0 (g_E d (fun v w1 => ∃ (r : Int32), v = some (.int r) ∧ w1 = [[(ob, .inr (7, [.ref q1, .ref q2, .int many]))], [(q1, .inl (d.2.1 1, 100, .inl isIn))]] ∧ Q r) A below args s 0 0) (F0 m 2 ls []) := by
    intro fu
    induction fu with
    | zero => intro x1 H locs ls hH hl hw; rw [wb_X11_first_2] at hw; exact hw.elim
    | succ fu ih =>
      intro x1 H locs ls hH hl hw
      rw [wb_X11_first_2] at hw
      refine lv_aload_n hF.1.1 hF.1.2.1 dX11_first_2 rfl (lv_at hl 0 rfl) ?_
      refine g_get (v := .ref q1) hF hH in_X11 rfl 0 0 rfl rfl 0 (by decide) q762 (fun _ h9 => h9) rfl dX11_first_3 ?_
      refine lv_iload_n hF.1.1 hF.1.2.1 dX11_first_6 rfl (lv_at hl 1 rfl) ?_
      obtain ⟨hi_3, hw⟩ := hw
      refine g_zald hF hH 1 0 rfl rfl hi_3 dX11_first_7 ?_
      refine lv_if_ne (tgt := 17) hF.1.1 hF.1.2.1 dX11_first_8 (by decide) (fun c_4 => ?_) (fun c_4 => ?_)
      · have hw := hw.1 c_4
        refine lv_iload_n hF.1.1 hF.1.2.1 dX11_first_17 rfl (lv_at hl 1 rfl) ?_
        exact g_iret hF hH ⟨x1, rfl, rfl, hw⟩ dX11_first_18
      · have hw := hw.2 c_4
        refine lv_iinc (v := (x1 + 1)) (lv' := [(1, .int (x1 + 1)), (0, .ref ob)]) hF.1.1 hF.1.2.1 dX11_first_11 hl (k := 1) rfl rfl (by decide) rfl (fun ls hl => ?_)
        refine lv_goto (tgt := 2) hF.1.1 hF.1.2.1 dX11_first_14 (by decide) ?_
        have hl := lv_sub hl (l' := [(0, .ref ob), (1, .int (x1 + 1))]) [1, 0] rfl
        exact ih (x1 + 1) _ _ _ hH hl hw
  unfold wp_X11_first at hw
  refine lv_iconst (v := 0) hF.1.1 hF.1.2.1 dX11_first_0 (by decide) ?_
  refine lv_istore_n (lv' := [(1, .int 0), (0, .ref ob)]) hF.1.1 hF.1.2.1 dX11_first_1 rfl hl (by decide) rfl (fun ls hl => ?_)
  obtain ⟨f_5, hw⟩ := hw
  have hl := lv_sub hl (l' := [(0, .ref ob), (1, .int 0)]) [1, 0] rfl
  exact bk_2 f_5 0 _ _ _ hH hl hw

def wb_X11_isTorn_4 (many : Int32) (isIn : Nat → Int32) (queue : Nat → Int32) (Q : Int32 → Prop) : Nat → Int32 → Int32 → Prop
  | 0, _, _ => False
  | fu + 1, x1, x2 => ((many ≤ x2 → ((x1 = 0 ∨ x1 = 1) ∧ (Q x1))) ∧ (¬ many ≤ x2 → (vp_in x2 100 ∧ (vp_in x2 100 ∧ (vp_in ((((queue x2.toNatClampNeg) - (queue x2.toNatClampNeg) / 10 * 10) * 10) + ((queue x2.toNatClampNeg) / 10)) 100 ∧ (wb_X11_isTorn_4 many isIn queue Q fu) (x1 ||| (isIn ((((queue x2.toNatClampNeg) - (queue x2.toNatClampNeg) / 10 * 10) * 10) + ((queue x2.toNatClampNeg) / 10)).toNatClampNeg)) (x2 + 1))))))
def wp_X11_isTorn (many : Int32) (isIn : Nat → Int32) (queue : Nat → Int32) (Q : Int32 → Prop) : Prop := (∃ f4, wb_X11_isTorn_4 many isIn queue Q f4 0 0)
set_option maxHeartbeats 4000000 in
set_option maxRecDepth 100000 in
theorem met_X11_isTorn (l : Launch) (hl0 : l.stackTraces = false) (d : g_D) (ob : Nat) (q1 : Nat) (q2 : Nat) (many : Int32) (isIn : Nat → Int32) (queue : Nat → Int32) (Q : Int32 → Prop) (hw : wp_X11_isTorn many isIn queue Q) : g_Met l d yX11_isTorn cX11_isTorn 3 (Option.some FieldType.boolean) ({ frames := 0, cells := 0, slots := 0, locals := 0 } : Room) [.ref ob] [[(ob, .inr (7, [.ref q1, .ref q2, .int many]))], [(q1, .inl (d.2.1 1, 100, .inl isIn))], [(q2, .inl (d.2.1 0, 100, .inl queue))]] 0 0 (fun v w1 => ∃ (r : Int32), v = some (.int r) ∧ w1 = [[(ob, .inr (7, [.ref q1, .ref q2, .int many]))], [(q1, .inl (d.2.1 1, 100, .inl isIn))], [(q2, .inl (d.2.1 0, 100, .inl queue))]] ∧ Q r) := by
  refine g_enter (by decide) (Nat.le_of_ble_eq_true rfl) ?_
  intro p e s m args below meth c A ls hF hH hl hin
  have hF : g_F p m c cX11_isTorn 3 s args RX11 meth (Option.some FieldType.boolean) := hF
  have hl : lv_has ls 3 [(0, .ref ob)] := hl
  have bk_4 : ∀ (fu : Nat) (x1 : Int32) (x2 : Int32) (H : Heap) (locs : List Loc) (ls : Array Slot), g_HS d A s [[(ob, .inr (7, [.ref q1, .ref q2, .int many]))], [(q1, .inl (d.2.1 1, 100, .inl isIn))], [(q2, .inl (d.2.1 0, 100, .inl queue))]] H locs → lv_has ls 3 [(0, .ref ob), (1, .int x1), (2, .int x2)] → wb_X11_isTorn_4 many isIn queue Q fu x1 x2 → W p l e ({ frames := 0, cells := 0, slots := 0, locals := 0 } : Room) s m args below meth c H locs 0 0 (g_E d (fun v w1 => ∃ (r : Int32), v = some (.int r) ∧ w1 = [[(ob, .inr (7, [.ref q1, .ref q2, .int many]))], [(q1, .inl (d.2.1 1, 100, .inl isIn))], [(q2, .inl (d.2.1 0, 100, .inl queue))]] ∧ Q r) A below args s 0 0) (F0 m 4 ls []) := by
    intro fu
    induction fu with
    | zero => intro x1 x2 H locs ls hH hl hw; rw [wb_X11_isTorn_4] at hw; exact hw.elim
    | succ fu ih =>
      intro x1 x2 H locs ls hH hl hw
      rw [wb_X11_isTorn_4] at hw
      refine lv_iload_n hF.1.1 hF.1.2.1 dX11_isTorn_4 rfl (lv_at hl 2 rfl) ?_
      refine lv_aload_n hF.1.1 hF.1.2.1 dX11_isTorn_5 rfl (lv_at hl 0 rfl) ?_
      refine g_get (v := .int many) hF hH in_X11 rfl 0 0 rfl rfl 2 (by decide) q766 (fun _ h9 => h9) rfl dX11_isTorn_6 ?_
      refine lv_icmp_ge (tgt := 48) hF.1.1 hF.1.2.1 dX11_isTorn_9 (by decide) (fun c_5 => ?_) (fun c_5 => ?_)
      · have hw := hw.1 c_5
        refine lv_iload_n hF.1.1 hF.1.2.1 dX11_isTorn_48 rfl (lv_at hl 1 rfl) ?_
        obtain ⟨hb_6, hw⟩ := hw
        exact g_zret hF (g_b01 hb_6) hH ⟨x1, rfl, rfl, hw⟩ dX11_isTorn_49
      · have hw := hw.2 c_5
        refine lv_iload_n hF.1.1 hF.1.2.1 dX11_isTorn_12 rfl (lv_at hl 1 rfl) ?_
        refine lv_aload_n hF.1.1 hF.1.2.1 dX11_isTorn_13 rfl (lv_at hl 0 rfl) ?_
        refine g_get (v := .ref q1) hF hH in_X11 rfl 0 0 rfl rfl 0 (by decide) q762 (fun _ h9 => h9) rfl dX11_isTorn_14 ?_
        refine lv_aload_n hF.1.1 hF.1.2.1 dX11_isTorn_17 rfl (lv_at hl 0 rfl) ?_
        refine g_get (v := .ref q2) hF hH in_X11 rfl 0 0 rfl rfl 1 (by decide) q763 (fun _ h9 => h9) rfl dX11_isTorn_18 ?_
        refine lv_iload_n hF.1.1 hF.1.2.1 dX11_isTorn_21 rfl (lv_at hl 2 rfl) ?_
        obtain ⟨hi_7, hw⟩ := hw
        refine g_iald hF hH 2 0 rfl rfl hi_7 dX11_isTorn_22 ?_
        refine lv_bipush (v := 10) hF.1.1 hF.1.2.1 dX11_isTorn_23 (by decide) ?_
        refine lv_irem hF.1.1 hF.1.2.1 dX11_isTorn_25 (by decide) ?_
        refine lv_bipush (v := 10) hF.1.1 hF.1.2.1 dX11_isTorn_26 (by decide) ?_
        refine lv_imul hF.1.1 hF.1.2.1 dX11_isTorn_28 ?_
        refine lv_aload_n hF.1.1 hF.1.2.1 dX11_isTorn_29 rfl (lv_at hl 0 rfl) ?_
        refine g_get (v := .ref q2) hF hH in_X11 rfl 0 0 rfl rfl 1 (by decide) q763 (fun _ h9 => h9) rfl dX11_isTorn_30 ?_
        refine lv_iload_n hF.1.1 hF.1.2.1 dX11_isTorn_33 rfl (lv_at hl 2 rfl) ?_
        obtain ⟨hi_8, hw⟩ := hw
        refine g_iald hF hH 2 0 rfl rfl hi_8 dX11_isTorn_34 ?_
        refine lv_bipush (v := 10) hF.1.1 hF.1.2.1 dX11_isTorn_35 (by decide) ?_
        refine lv_idiv hF.1.1 hF.1.2.1 dX11_isTorn_37 (by decide) ?_
        refine lv_iadd hF.1.1 hF.1.2.1 dX11_isTorn_38 ?_
        obtain ⟨hi_9, hw⟩ := hw
        refine g_zald hF hH 1 0 rfl rfl hi_9 dX11_isTorn_39 ?_
        refine lv_ior hF.1.1 hF.1.2.1 dX11_isTorn_40 ?_
        refine lv_istore_n (lv' := [(1, .int (x1 ||| (isIn ((((queue x2.toNatClampNeg) - (queue x2.toNatClampNeg) / 10 * 10) * 10) + ((queue x2.toNatClampNeg) / 10)).toNatClampNeg))), (0, .ref ob), (2, .int x2)]) hF.1.1 hF.1.2.1 dX11_isTorn_41 rfl hl (by decide) rfl (fun ls hl => ?_)
        refine lv_iinc (v := (x2 + 1)) (lv' := [(2, .int (x2 + 1)), (1, .int (x1 ||| (isIn ((((queue x2.toNatClampNeg) - (queue x2.toNatClampNeg) / 10 * 10) * 10) + ((queue x2.toNatClampNeg) / 10)).toNatClampNeg))), (0, .ref ob)]) hF.1.1 hF.1.2.1 dX11_isTorn_42 hl (k := 2) rfl rfl (by decide) rfl (fun ls hl => ?_)
        refine lv_goto (tgt := 4) hF.1.1 hF.1.2.1 dX11_isTorn_45 (by decide) ?_
        have hl := lv_sub hl (l' := [(0, .ref ob), (1, .int (x1 ||| (isIn ((((queue x2.toNatClampNeg) - (queue x2.toNatClampNeg) / 10 * 10) * 10) + ((queue x2.toNatClampNeg) / 10)).toNatClampNeg))), (2, .int (x2 + 1))]) [2, 1, 0] rfl
        exact ih (x1 ||| (isIn ((((queue x2.toNatClampNeg) - (queue x2.toNatClampNeg) / 10 * 10) * 10) + ((queue x2.toNatClampNeg) / 10)).toNatClampNeg)) (x2 + 1) _ _ _ hH hl hw
  unfold wp_X11_isTorn at hw
  refine lv_iconst (v := 0) hF.1.1 hF.1.2.1 dX11_isTorn_0 (by decide) ?_
  refine lv_istore_n (lv' := [(1, .int 0), (0, .ref ob)]) hF.1.1 hF.1.2.1 dX11_isTorn_1 rfl hl (by decide) rfl (fun ls hl => ?_)
  refine lv_iconst (v := 0) hF.1.1 hF.1.2.1 dX11_isTorn_2 (by decide) ?_
  refine lv_istore_n (lv' := [(2, .int 0), (1, .int 0), (0, .ref ob)]) hF.1.1 hF.1.2.1 dX11_isTorn_3 rfl hl (by decide) rfl (fun ls hl => ?_)
  obtain ⟨f_10, hw⟩ := hw
  have hl := lv_sub hl (l' := [(0, .ref ob), (1, .int 0), (2, .int 0)]) [2, 1, 0] rfl
  exact bk_4 f_10 0 0 _ _ _ hH hl hw

def wp_X1_put_X (a1 : Int32) (a2 : Int64) (many : Int32) (f : Nat → Int32) (Q : (Nat → Int32) → Prop) (X : Prop) : Prop := ((vp_in a1 60 → (Q (upd f a1.toNatClampNeg (vp_nar .short ((a2.toInt32).toInt16.toInt32))))) ∧ (¬ vp_in a1 60 → X))
set_option maxHeartbeats 4000000 in
set_option maxRecDepth 100000 in
theorem met_X1_put_X (l : Launch) (hl0 : l.stackTraces = false) (d : g_D) (ob : Nat) (a1 : Int32) (a2 : Int64) (q : Nat) (many : Int32) (f : Nat → Int32) (Q : (Nat → Int32) → Prop) (X : Prop) (hw : wp_X1_put_X a1 a2 many f Q X) : g_MetX l d yX1_put cX1_put 4 none ({ frames := 8, cells := 3, slots := 222, locals := 10300 } : Room) [.ref ob, .int a1, .long a2] [[(ob, .inr (1, [.ref q, .int many]))], [(q, .inl (d.2.1 3, 60, .inl f))]] 3 222 (fun v w1 => ∃ (f2 : Nat → Int32), v = none ∧ w1 = [[(ob, .inr (1, [.ref q, .int many]))], [(q, .inl (d.2.1 3, 60, .inl f2))]] ∧ Q f2) (fun E qx w1 => E = "java/lang/ArrayIndexOutOfBoundsException" ∧ w1 = [[(ob, .inr (1, [.ref q, .int many]))], [(q, .inl (d.2.1 3, 60, .inl f))]] ∧ X) := by
  refine g_enterX (by decide) (Nat.le_of_ble_eq_true rfl) ?_
  intro p e s m args below meth c A ls htab hF hH hl
  have hF : g_F p m c cX1_put 4 s args RX1 meth none := hF
  have hl : lv_has ls 4 [(0, .ref ob), (1, .int a1), (2, .long a2)] := hl
  unfold wp_X1_put_X at hw
  refine lv_aload_n hF.1.1 hF.1.2.1 dX1_put_0 rfl (lv_at hl 0 rfl) ?_
  refine g_get (v := .ref q) hF hH in_X1 rfl 0 0 rfl rfl 0 (by decide) q145 (fun _ h9 => h9) rfl dX1_put_1 ?_
  refine g_instNo (C := "[S") (nm := "[B") hF hH q217 (by decide) (g_recvA hH 1 0 rfl rfl (g_nmS hH)) dX1_put_4 ?_
  refine lv_if_eq (tgt := 25) hF.1.1 hF.1.2.1 dX1_put_7 (by decide) (fun _ => ?_) (fun z => absurd z (by decide))
  refine lv_aload_n hF.1.1 hF.1.2.1 dX1_put_25 rfl (lv_at hl 0 rfl) ?_
  refine g_get (v := .ref q) hF hH in_X1 rfl 0 0 rfl rfl 0 (by decide) q145 (fun _ h9 => h9) rfl dX1_put_26 ?_
  refine g_instE hF q218 (g_recvA hH 1 0 rfl rfl (g_nmS hH)) dX1_put_29 ?_
  refine lv_if_eq (tgt := 50) hF.1.1 hF.1.2.1 dX1_put_32 (by decide) (fun z => absurd z (by decide)) (fun _ => ?_)
  refine lv_aload_n hF.1.1 hF.1.2.1 dX1_put_35 rfl (lv_at hl 0 rfl) ?_
  refine g_get (v := .ref q) hF hH in_X1 rfl 0 0 rfl rfl 0 (by decide) q145 (fun _ h9 => h9) rfl dX1_put_36 ?_
  refine g_castE hF q218 (g_recvA hH 1 0 rfl rfl (g_nmS hH)) dX1_put_39 ?_
  refine lv_iload_n hF.1.1 hF.1.2.1 dX1_put_42 rfl (lv_at hl 1 rfl) ?_
  refine lv_lload_n hF.1.1 hF.1.2.1 dX1_put_43 rfl (lv_at hl 2 rfl) ?_
  refine lv_l2i (v := (a2.toInt32)) hF.1.1 hF.1.2.1 dX1_put_44 rfl ?_
  refine lv_i2s (v := ((a2.toInt32).toInt16.toInt32)) hF.1.1 hF.1.2.1 dX1_put_45 rfl ?_
  by_cases hi_5 : vp_in a1 60
  · have hw := hw.1 hi_5
    refine g_sast (cs' := [[(ob, .inr (1, [.ref q, .int many]))], [(q, .inl (d.2.1 3, 60, .inl (upd f a1.toNatClampNeg (vp_nar .short ((a2.toInt32).toInt16.toInt32)))))]]) (ch' := [(q, .inl (d.2.1 3, 60, .inl (upd f a1.toNatClampNeg (vp_nar .short ((a2.toInt32).toInt16.toInt32)))))]) hF hH 1 0 rfl rfl hi_5 dX1_put_46 rfl rfl (fun H locs hH => ?_)
    refine lv_goto (tgt := 60) hF.1.1 hF.1.2.1 dX1_put_47 (by decide) ?_
    refine W.widen (k := 3) (n := 222) (by first | exact Nat.le_of_ble_eq_true rfl | omega | (dsimp only; omega)) (by first | exact Nat.le_of_ble_eq_true rfl | omega | (dsimp only; omega)) ?_
    refine vx_ret ?_
    exact g_vret hF hH ⟨(upd f a1.toNatClampNeg (vp_nar .short ((a2.toInt32).toInt16.toInt32))), rfl, rfl, hw⟩ dX1_put_60
  · have hw := hw.2 hi_5
    refine vx_sastZ (D := d.1) (cl := g_cl) (tys := g_tys d) hF.1.1 hF.1.2.1 hH.2.2.2.2.1 (g_front hH (p := 1) rfl).1 0 3 rfl rfl hi_5 dX1_put_46 (fun tx htx => ?_)
    refine g_note (names := ["java/lang/IndexOutOfBoundsException", "java/lang/RuntimeException", "java/lang/Exception"]) (nb := 212) hF hH hl0 rfl (by decide) rfl rfl (g_at_AI hF.1.2.2.2.2 hH.2.2.2.2.2.1.1) g_good_AI hl.1 (g_tx1 htx) (g_tx2 (by decide) htx) (by decide) (Nat.le_of_ble_eq_true rfl) (Nat.le_of_ble_eq_true rfl) (Nat.le_of_ble_eq_true rfl) (by first | exact Nat.le_of_ble_eq_true rfl | omega | (dsimp only; omega)) (by first | exact Nat.le_of_ble_eq_true rfl | omega | (dsimp only; omega)) (fun H q_6 ce hH hce hcv hcc => ?_)
    exact g_out hF hH (fun x hx => (htab x hx).elim) hce hcv hcc ⟨rfl, rfl, hw⟩ (by first | exact Nat.le_of_ble_eq_true rfl | omega | (dsimp only; omega)) (by first | exact Nat.le_of_ble_eq_true rfl | omega | (dsimp only; omega))

def wp_X1_add_X (a1 : Int64) (many : Int32) (f : Nat → Int32) (Q : Int32 → Int32 → (Nat → Int32) → Prop) : Prop := (wp_X1_put_X many a1 many f (fun n_3 => (Q 1 (many + 1) n_3)) (Q 0 many f))
set_option maxHeartbeats 4000000 in
set_option maxRecDepth 100000 in
theorem met_X1_add_X (l : Launch) (hl0 : l.stackTraces = false) (d : g_D) (ob : Nat) (a1 : Int64) (q : Nat) (many : Int32) (f : Nat → Int32) (Q : Int32 → Int32 → (Nat → Int32) → Prop) (hw : wp_X1_add_X a1 many f Q) : g_MetW l d yX1_add cX1_add 4 (Option.some FieldType.boolean) [(0, 20, 21, 32)] ({ frames := 9, cells := 3, slots := 222, locals := 10323 } : Room) [.ref ob, .long a1] [[(ob, .inr (1, [.ref q, .int many]))], [(q, .inl (d.2.1 3, 60, .inl f))]] 3 222 (fun v w1 => ∃ (r : Int32) (many2 : Int32) (f2 : Nat → Int32), v = some (.int r) ∧ w1 = [[(ob, .inr (1, [.ref q, .int many2]))], [(q, .inl (d.2.1 3, 60, .inl f2))]] ∧ Q r many2 f2) := by
  refine g_enterW (by decide) (Nat.le_of_ble_eq_true rfl) ?_
  intro p e s m args below meth c A ls htab hF hH hl
  have hF : g_F p m c cX1_add 4 s args RX1 meth (Option.some FieldType.boolean) := hF
  have hl : lv_has ls 4 [(0, .ref ob), (1, .long a1)] := hl
  unfold wp_X1_add_X at hw
  refine lv_aload_n hF.1.1 hF.1.2.1 dX1_add_0 rfl (lv_at hl 0 rfl) ?_
  refine lv_aload_n hF.1.1 hF.1.2.1 dX1_add_1 rfl (lv_at hl 0 rfl) ?_
  refine g_get (v := .int many) hF hH in_X1 rfl 0 0 rfl rfl 1 (by decide) q147 (fun _ h9 => h9) rfl dX1_add_2 ?_
  refine lv_lload_n hF.1.1 hF.1.2.1 dX1_add_5 rfl (lv_at hl 1 rfl) ?_
  refine g_cVX [.int many, .long a1] 2 rfl hF (met_X1_put_X l hl0 d ob many a1 q many f _ _ hw) q228 q230 qs1 q93 q231 rfl rfl (by decide +kernel) ⟨Nat.le_of_ble_eq_true rfl, Nat.le_of_ble_eq_true rfl⟩ hH [0, 1] rfl rfl rfl 0 0 rfl rfl rfl hl.1 (Nat.le_of_ble_eq_true rfl) dX1_add_6 ⟨(by first | exact Nat.le_of_ble_eq_true rfl | omega | (dsimp only; omega)), (by first | exact Nat.le_of_ble_eq_true rfl | omega | (dsimp only; omega))⟩ (fun v w1 H locs hq hH => ?_) ?_
  · obtain ⟨n_3, rfl, rfl, hw⟩ := hq
    have hH : g_HS d A s [[(ob, .inr (1, [.ref q, .int many]))], [(q, .inl (d.2.1 3, 60, .inl n_3))]] H locs := hH
    refine W.eq (g2 := (F0 m 9 ls [])) rfl ?_
    refine W.widen (k := 3) (n := 222) (by first | exact Nat.le_of_ble_eq_true rfl | omega | (dsimp only; omega)) (by first | exact Nat.le_of_ble_eq_true rfl | omega | (dsimp only; omega)) ?_
    refine lv_aload_n hF.1.1 hF.1.2.1 dX1_add_9 rfl (lv_at hl 0 rfl) ?_
    refine lv_dup hF.1.1 hF.1.2.1 dX1_add_10 rfl ?_
    refine g_get (v := .int many) hF hH in_X1 rfl 0 0 rfl rfl 1 (by decide) q147 (fun _ h9 => h9) rfl dX1_add_11 ?_
    refine lv_iconst (v := 1) hF.1.1 hF.1.2.1 dX1_add_14 (by decide) ?_
    refine lv_iadd hF.1.1 hF.1.2.1 dX1_add_15 ?_
    refine g_put (cs' := [[(ob, .inr (1, [.ref q, .int (many + 1)]))], [(q, .inl (d.2.1 3, 60, .inl n_3))]]) (ch' := [(ob, .inr (1, [.ref q, .int (many + 1)]))]) (ty := .int) hF hH in_X1 rfl tyX1 tyX1_ok nmX1 0 0 rfl rfl 1 (by decide) q147 (fun _ h9 => h9) rfl (by decide +kernel) rfl rfl (Nat.le_of_ble_eq_true rfl) dX1_add_16 rfl rfl (fun H locs hH => ?_)
    refine lv_iconst (v := 1) hF.1.1 hF.1.2.1 dX1_add_19 (by decide) ?_
    exact g_zret hF rfl hH ⟨1, (many + 1), n_3, rfl, rfl, hw⟩ dX1_add_20
  · intro E q_4 w1 H locs ce hx hH hce hcv hcc
    obtain ⟨rfl, rfl, hw⟩ := hx
    have hH : g_HS d A s [[(ob, .inr (1, [.ref q, .int many]))], [(q, .inl (d.2.1 3, 60, .inl f))]] H locs := hH
    refine vx_catch (own := "GraphModules$Row") (name := "java/lang/ArrayIndexOutOfBoundsException") (E := "java/lang/ArrayIndexOutOfBoundsException") hF.1.2.2.2.1 [] ⟨0, 20, 21, 32⟩ [] htab (fun z hz => nomatch hz) rfl (by decide) (hF.1.2.2.2.2 _ q247) (g_nwu hH q312 rfl rfl) hce hcv hcc ?_
    refine W.eq (g2 := (F0 m 21 ls [.ref q_4])) rfl ?_
    refine W.widen (k := 3) (n := 222) (by first | exact Nat.le_of_ble_eq_true rfl | omega | (dsimp only; omega)) (by first | exact Nat.le_of_ble_eq_true rfl | omega | (dsimp only; omega)) ?_
    refine lv_astore_n (lv' := [(3, .ref q_4), (0, .ref ob), (1, .long a1)]) hF.1.1 hF.1.2.1 dX1_add_21 rfl hl (by decide) rfl (fun ls hl => ?_)
    refine lv_iconst (v := 0) hF.1.1 hF.1.2.1 dX1_add_22 (by decide) ?_
    exact g_zret hF rfl hH ⟨0, many, f, rfl, rfl, hw⟩ dX1_add_23

def wp_X1_add_B (a1 : Int64) (many : Int32) (f : Nat → Int32) (Q : Int32 → Int32 → (Nat → Int32) → Prop) : Prop := (wp_X1_put_B many a1 many f (fun n_2 => (Q 1 (many + 1) n_2)))
set_option maxHeartbeats 4000000 in
set_option maxRecDepth 100000 in
theorem met_X1_add_B (l : Launch) (hl0 : l.stackTraces = false) (d : g_D) (ob : Nat) (a1 : Int64) (q : Nat) (many : Int32) (f : Nat → Int32) (Q : Int32 → Int32 → (Nat → Int32) → Prop) (hw : wp_X1_add_B a1 many f Q) : g_MetW l d yX1_add cX1_add 4 (Option.some FieldType.boolean) [(0, 20, 21, 32)] ({ frames := 9, cells := 0, slots := 0, locals := 10323 } : Room) [.ref ob, .long a1] [[(ob, .inr (1, [.ref q, .int many]))], [(q, .inl (d.2.1 2, 10, .inl f))]] 0 0 (fun v w1 => ∃ (r : Int32) (many2 : Int32) (f2 : Nat → Int32), v = some (.int r) ∧ w1 = [[(ob, .inr (1, [.ref q, .int many2]))], [(q, .inl (d.2.1 2, 10, .inl f2))]] ∧ Q r many2 f2) := by
  refine g_enterW (by decide) (Nat.le_of_ble_eq_true rfl) ?_
  intro p e s m args below meth c A ls htab hF hH hl
  have hF : g_F p m c cX1_add 4 s args RX1 meth (Option.some FieldType.boolean) := hF
  have hl : lv_has ls 4 [(0, .ref ob), (1, .long a1)] := hl
  unfold wp_X1_add_B at hw
  refine lv_aload_n hF.1.1 hF.1.2.1 dX1_add_0 rfl (lv_at hl 0 rfl) ?_
  refine lv_aload_n hF.1.1 hF.1.2.1 dX1_add_1 rfl (lv_at hl 0 rfl) ?_
  refine g_get (v := .int many) hF hH in_X1 rfl 0 0 rfl rfl 1 (by decide) q147 (fun _ h9 => h9) rfl dX1_add_2 ?_
  refine lv_lload_n hF.1.1 hF.1.2.1 dX1_add_5 rfl (lv_at hl 1 rfl) ?_
  refine g_cV [.int many, .long a1] 2 rfl hF (met_X1_put_B l hl0 d ob many a1 q many f _ hw) q228 q230 qs1 q93 q231 rfl rfl (by decide +kernel) ⟨Nat.le_of_ble_eq_true rfl, Nat.le_of_ble_eq_true rfl⟩ hH [0, 1] rfl rfl rfl 0 0 rfl rfl rfl hl.1 (Nat.le_of_ble_eq_true rfl) dX1_add_6 ⟨(by first | exact Nat.le_of_ble_eq_true rfl | omega | (dsimp only; omega)), (by first | exact Nat.le_of_ble_eq_true rfl | omega | (dsimp only; omega))⟩ (fun v w1 H locs hq hH => ?_)
  obtain ⟨n_2, rfl, rfl, hw⟩ := hq
  have hH : g_HS d A s [[(ob, .inr (1, [.ref q, .int many]))], [(q, .inl (d.2.1 2, 10, .inl n_2))]] H locs := hH
  refine W.eq (g2 := (F0 m 9 ls [])) rfl ?_
  refine lv_aload_n hF.1.1 hF.1.2.1 dX1_add_9 rfl (lv_at hl 0 rfl) ?_
  refine lv_dup hF.1.1 hF.1.2.1 dX1_add_10 rfl ?_
  refine g_get (v := .int many) hF hH in_X1 rfl 0 0 rfl rfl 1 (by decide) q147 (fun _ h9 => h9) rfl dX1_add_11 ?_
  refine lv_iconst (v := 1) hF.1.1 hF.1.2.1 dX1_add_14 (by decide) ?_
  refine lv_iadd hF.1.1 hF.1.2.1 dX1_add_15 ?_
  refine g_put (cs' := [[(ob, .inr (1, [.ref q, .int (many + 1)]))], [(q, .inl (d.2.1 2, 10, .inl n_2))]]) (ch' := [(ob, .inr (1, [.ref q, .int (many + 1)]))]) (ty := .int) hF hH in_X1 rfl tyX1 tyX1_ok nmX1 0 0 rfl rfl 1 (by decide) q147 (fun _ h9 => h9) rfl (by decide +kernel) rfl rfl (Nat.le_of_ble_eq_true rfl) dX1_add_16 rfl rfl (fun H locs hH => ?_)
  refine lv_iconst (v := 1) hF.1.1 hF.1.2.1 dX1_add_19 (by decide) ?_
  exact g_zret hF rfl hH ⟨1, (many + 1), n_2, rfl, rfl, hw⟩ dX1_add_20

def wp_X1_add_S (a1 : Int64) (many : Int32) (f : Nat → Int32) (nn : Nat) (Q : Int32 → Int32 → (Nat → Int32) → Prop) : Prop := (wp_X1_put_S many a1 many f nn (fun n_2 => (Q 1 (many + 1) n_2)))
set_option maxHeartbeats 4000000 in
set_option maxRecDepth 100000 in
theorem met_X1_add_S (l : Launch) (hl0 : l.stackTraces = false) (d : g_D) (ob : Nat) (a1 : Int64) (q : Nat) (many : Int32) (f : Nat → Int32) (nn : Nat) (Q : Int32 → Int32 → (Nat → Int32) → Prop) (hw : wp_X1_add_S a1 many f nn Q) : g_MetW l d yX1_add cX1_add 4 (Option.some FieldType.boolean) [(0, 20, 21, 32)] ({ frames := 9, cells := 0, slots := 0, locals := 10323 } : Room) [.ref ob, .long a1] [[(ob, .inr (1, [.ref q, .int many]))], [(q, .inl (d.2.1 3, nn, .inl f))]] 0 0 (fun v w1 => ∃ (r : Int32) (many2 : Int32) (f2 : Nat → Int32), v = some (.int r) ∧ w1 = [[(ob, .inr (1, [.ref q, .int many2]))], [(q, .inl (d.2.1 3, nn, .inl f2))]] ∧ Q r many2 f2) := by
  refine g_enterW (by decide) (Nat.le_of_ble_eq_true rfl) ?_
  intro p e s m args below meth c A ls htab hF hH hl
  have hF : g_F p m c cX1_add 4 s args RX1 meth (Option.some FieldType.boolean) := hF
  have hl : lv_has ls 4 [(0, .ref ob), (1, .long a1)] := hl
  unfold wp_X1_add_S at hw
  refine lv_aload_n hF.1.1 hF.1.2.1 dX1_add_0 rfl (lv_at hl 0 rfl) ?_
  refine lv_aload_n hF.1.1 hF.1.2.1 dX1_add_1 rfl (lv_at hl 0 rfl) ?_
  refine g_get (v := .int many) hF hH in_X1 rfl 0 0 rfl rfl 1 (by decide) q147 (fun _ h9 => h9) rfl dX1_add_2 ?_
  refine lv_lload_n hF.1.1 hF.1.2.1 dX1_add_5 rfl (lv_at hl 1 rfl) ?_
  refine g_cV [.int many, .long a1] 2 rfl hF (met_X1_put_S l hl0 d ob many a1 q many f nn _ hw) q228 q230 qs1 q93 q231 rfl rfl (by decide +kernel) ⟨Nat.le_of_ble_eq_true rfl, Nat.le_of_ble_eq_true rfl⟩ hH [0, 1] rfl rfl rfl 0 0 rfl rfl rfl hl.1 (Nat.le_of_ble_eq_true rfl) dX1_add_6 ⟨(by first | exact Nat.le_of_ble_eq_true rfl | omega | (dsimp only; omega)), (by first | exact Nat.le_of_ble_eq_true rfl | omega | (dsimp only; omega))⟩ (fun v w1 H locs hq hH => ?_)
  obtain ⟨n_2, rfl, rfl, hw⟩ := hq
  have hH : g_HS d A s [[(ob, .inr (1, [.ref q, .int many]))], [(q, .inl (d.2.1 3, nn, .inl n_2))]] H locs := hH
  refine W.eq (g2 := (F0 m 9 ls [])) rfl ?_
  refine lv_aload_n hF.1.1 hF.1.2.1 dX1_add_9 rfl (lv_at hl 0 rfl) ?_
  refine lv_dup hF.1.1 hF.1.2.1 dX1_add_10 rfl ?_
  refine g_get (v := .int many) hF hH in_X1 rfl 0 0 rfl rfl 1 (by decide) q147 (fun _ h9 => h9) rfl dX1_add_11 ?_
  refine lv_iconst (v := 1) hF.1.1 hF.1.2.1 dX1_add_14 (by decide) ?_
  refine lv_iadd hF.1.1 hF.1.2.1 dX1_add_15 ?_
  refine g_put (cs' := [[(ob, .inr (1, [.ref q, .int (many + 1)]))], [(q, .inl (d.2.1 3, nn, .inl n_2))]]) (ch' := [(ob, .inr (1, [.ref q, .int (many + 1)]))]) (ty := .int) hF hH in_X1 rfl tyX1 tyX1_ok nmX1 0 0 rfl rfl 1 (by decide) q147 (fun _ h9 => h9) rfl (by decide +kernel) rfl rfl (Nat.le_of_ble_eq_true rfl) dX1_add_16 rfl rfl (fun H locs hH => ?_)
  refine lv_iconst (v := 1) hF.1.1 hF.1.2.1 dX1_add_19 (by decide) ?_
  exact g_zret hF rfl hH ⟨1, (many + 1), n_2, rfl, rfl, hw⟩ dX1_add_20

def wp_X1_add_J (a1 : Int64) (many : Int32) (f : Nat → Int64) (Q : Int32 → Int32 → (Nat → Int64) → Prop) : Prop := (wp_X1_put_J many a1 many f (fun n_2 => (Q 1 (many + 1) n_2)))
set_option maxHeartbeats 4000000 in
set_option maxRecDepth 100000 in
theorem met_X1_add_J (l : Launch) (hl0 : l.stackTraces = false) (d : g_D) (ob : Nat) (a1 : Int64) (q : Nat) (many : Int32) (f : Nat → Int64) (Q : Int32 → Int32 → (Nat → Int64) → Prop) (hw : wp_X1_add_J a1 many f Q) : g_MetW l d yX1_add cX1_add 4 (Option.some FieldType.boolean) [(0, 20, 21, 32)] ({ frames := 9, cells := 0, slots := 0, locals := 10323 } : Room) [.ref ob, .long a1] [[(ob, .inr (1, [.ref q, .int many]))], [(q, .inl (d.2.1 4, 4, .inr (.inl f)))]] 0 0 (fun v w1 => ∃ (r : Int32) (many2 : Int32) (f2 : Nat → Int64), v = some (.int r) ∧ w1 = [[(ob, .inr (1, [.ref q, .int many2]))], [(q, .inl (d.2.1 4, 4, .inr (.inl f2)))]] ∧ Q r many2 f2) := by
  refine g_enterW (by decide) (Nat.le_of_ble_eq_true rfl) ?_
  intro p e s m args below meth c A ls htab hF hH hl
  have hF : g_F p m c cX1_add 4 s args RX1 meth (Option.some FieldType.boolean) := hF
  have hl : lv_has ls 4 [(0, .ref ob), (1, .long a1)] := hl
  unfold wp_X1_add_J at hw
  refine lv_aload_n hF.1.1 hF.1.2.1 dX1_add_0 rfl (lv_at hl 0 rfl) ?_
  refine lv_aload_n hF.1.1 hF.1.2.1 dX1_add_1 rfl (lv_at hl 0 rfl) ?_
  refine g_get (v := .int many) hF hH in_X1 rfl 0 0 rfl rfl 1 (by decide) q147 (fun _ h9 => h9) rfl dX1_add_2 ?_
  refine lv_lload_n hF.1.1 hF.1.2.1 dX1_add_5 rfl (lv_at hl 1 rfl) ?_
  refine g_cV [.int many, .long a1] 2 rfl hF (met_X1_put_J l hl0 d ob many a1 q many f _ hw) q228 q230 qs1 q93 q231 rfl rfl (by decide +kernel) ⟨Nat.le_of_ble_eq_true rfl, Nat.le_of_ble_eq_true rfl⟩ hH [0, 1] rfl rfl rfl 0 0 rfl rfl rfl hl.1 (Nat.le_of_ble_eq_true rfl) dX1_add_6 ⟨(by first | exact Nat.le_of_ble_eq_true rfl | omega | (dsimp only; omega)), (by first | exact Nat.le_of_ble_eq_true rfl | omega | (dsimp only; omega))⟩ (fun v w1 H locs hq hH => ?_)
  obtain ⟨n_2, rfl, rfl, hw⟩ := hq
  have hH : g_HS d A s [[(ob, .inr (1, [.ref q, .int many]))], [(q, .inl (d.2.1 4, 4, .inr (.inl n_2)))]] H locs := hH
  refine W.eq (g2 := (F0 m 9 ls [])) rfl ?_
  refine lv_aload_n hF.1.1 hF.1.2.1 dX1_add_9 rfl (lv_at hl 0 rfl) ?_
  refine lv_dup hF.1.1 hF.1.2.1 dX1_add_10 rfl ?_
  refine g_get (v := .int many) hF hH in_X1 rfl 0 0 rfl rfl 1 (by decide) q147 (fun _ h9 => h9) rfl dX1_add_11 ?_
  refine lv_iconst (v := 1) hF.1.1 hF.1.2.1 dX1_add_14 (by decide) ?_
  refine lv_iadd hF.1.1 hF.1.2.1 dX1_add_15 ?_
  refine g_put (cs' := [[(ob, .inr (1, [.ref q, .int (many + 1)]))], [(q, .inl (d.2.1 4, 4, .inr (.inl n_2)))]]) (ch' := [(ob, .inr (1, [.ref q, .int (many + 1)]))]) (ty := .int) hF hH in_X1 rfl tyX1 tyX1_ok nmX1 0 0 rfl rfl 1 (by decide) q147 (fun _ h9 => h9) rfl (by decide +kernel) rfl rfl (Nat.le_of_ble_eq_true rfl) dX1_add_16 rfl rfl (fun H locs hH => ?_)
  refine lv_iconst (v := 1) hF.1.1 hF.1.2.1 dX1_add_19 (by decide) ?_
  exact g_zret hF rfl hH ⟨1, (many + 1), n_2, rfl, rfl, hw⟩ dX1_add_20
