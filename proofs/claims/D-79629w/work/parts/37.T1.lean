def wb_X5_depth_7 (tc : g_TC) (Q : Int32 → Prop) : Nat → Int32 → (Option Nat) → Prop
  | 0, _, _ => False
  | fu + 1, x1, x2 => ((x2 = none → (Q x1)) ∧ (∀ q_7, x2 = some q_7 → (q_7 ∈ tc.1 ∧ (wb_X5_depth_7 tc Q fu) (x1 + 1) (tc.2.1 q_7))))
def wp_X5_depth (k : Nat) (tc : g_TC) (Q : Int32 → Prop) : Prop := (k ∈ tc.1 ∧ (∃ f7, wb_X5_depth_7 tc Q f7 0 (tc.2.1 k)))
set_option maxHeartbeats 4000000 in
set_option maxRecDepth 100000 in
theorem met_X5_depth (l : Launch) (hl0 : l.stackTraces = false) (d : g_D) (tn : Nat → Nat) (k : Nat) (tl : Nat → Nat) (tr : Nat → Nat) (tc : g_TC) (Q : Int32 → Prop) (hw : wp_X5_depth k tc Q) : g_Met l d yX5_depth cX5_depth 3 (Option.some FieldType.int) ({ frames := 0, cells := 0, slots := 0, locals := 0 } : Room) [.ref (tn k)] [(g_T d tn tl tr tc)] 0 0 (fun v w1 => ∃ (r : Int32), v = some (.int r) ∧ w1 = [(g_T d tn tl tr tc)] ∧ Q r) := by
  refine g_enter (by decide) (Nat.le_of_ble_eq_true rfl) ?_
  intro p e s m args below meth c A ls hF hH hl hin
  have hF : g_F p m c cX5_depth 3 s args RX5 meth (Option.some FieldType.int) := hF
  have hl : lv_has ls 3 [(0, .ref (tn k))] := hl
  have bk_7 : ∀ (fu : Nat) (x1 : Int32) (x2 : Option Nat) (H : Heap) (locs : List Loc) (ls : Array Slot), g_HS d A s [(g_T d tn tl tr tc)] H locs → lv_has ls 3 [(1, .int x1), (2, va_rf (Option.map tn x2))] → wb_X5_depth_7 tc Q fu x1 x2 → W p l e ({ frames := 0, cells := 0, slots := 0, locals := 0 } : Room) s m args below meth c H locs 0 0 (g_E d (fun v w1 => ∃ (r : Int32), v = some (.int r) ∧ w1 = [(g_T d tn tl tr tc)] ∧ Q r) A below args s 0 0) (F0 m 7 ls []) := by
    intro fu
    induction fu with
    | zero => intro x1 x2 H locs ls hH hl hw; rw [wb_X5_depth_7] at hw; exact hw.elim
    | succ fu ih =>
      intro x1 x2 H locs ls hH hl hw
      rw [wb_X5_depth_7] at hw
      refine lv_aload_nQ hF.1.1 hF.1.2.1 dX5_depth_7 rfl (lv_at hl 1 rfl) ?_
      rcases Option.eq_none_or_eq_some x2 with hz_8 | ⟨q_7, hz_8⟩
      · have hw := hw.1 hz_8
        refine W.eq (g2 := (F0 m 8 ls [.null])) (by rw [hz_8]; rfl) ?_
        have hl : lv_has ls 3 [(1, .int x1), (2, .null)] := by rw [hz_8] at hl; exact hl
        refine lv_ifnullN (tgt := 22) hF.1.1 hF.1.2.1 dX5_depth_8 (by decide) ?_
        refine lv_iload_n hF.1.1 hF.1.2.1 dX5_depth_22 rfl (lv_at hl 0 rfl) ?_
        exact g_iret hF hH ⟨x1, rfl, rfl, hw⟩ dX5_depth_23
      · have hw := hw.2 q_7 hz_8
        refine W.eq (g2 := (F0 m 8 ls [.ref (tn q_7)])) (by rw [hz_8]; rfl) ?_
        have hl : lv_has ls 3 [(1, .int x1), (2, .ref (tn q_7))] := by rw [hz_8] at hl; exact hl
        refine lv_ifnull hF.1.1 hF.1.2.1 dX5_depth_8 ?_
        refine lv_iinc (v := (x1 + 1)) (lv' := [(1, .int (x1 + 1)), (2, .ref (tn q_7))]) hF.1.1 hF.1.2.1 dX5_depth_11 hl (k := 0) rfl rfl (by decide) rfl (fun ls hl => ?_)
        refine lv_aload_n hF.1.1 hF.1.2.1 dX5_depth_14 rfl (lv_at hl 1 rfl) ?_
        obtain ⟨hk_9, hw⟩ := hw
        refine g_tpar hF hH 0 rfl hk_9 q465 dX5_depth_15 ?_
        refine lv_astore_nQ (lv' := [(2, va_rf (Option.map tn (tc.2.1 q_7))), (1, .int (x1 + 1))]) hF.1.1 hF.1.2.1 dX5_depth_18 rfl hl (by decide) rfl (fun ls hl => ?_)
        refine lv_goto (tgt := 7) hF.1.1 hF.1.2.1 dX5_depth_19 (by decide) ?_
        have hl := lv_sub hl (l' := [(1, .int (x1 + 1)), (2, va_rf (Option.map tn (tc.2.1 q_7)))]) [1, 0] rfl
        exact ih (x1 + 1) (tc.2.1 q_7) _ _ _ hH hl hw
  unfold wp_X5_depth at hw
  refine lv_iconst (v := 0) hF.1.1 hF.1.2.1 dX5_depth_0 (by decide) ?_
  refine lv_istore_n (lv' := [(1, .int 0), (0, .ref (tn k))]) hF.1.1 hF.1.2.1 dX5_depth_1 rfl hl (by decide) rfl (fun ls hl => ?_)
  refine lv_aload_n hF.1.1 hF.1.2.1 dX5_depth_2 rfl (lv_at hl 1 rfl) ?_
  obtain ⟨hk_11, hw⟩ := hw
  refine g_tpar hF hH 0 rfl hk_11 q465 dX5_depth_3 ?_
  refine lv_astore_nQ (lv' := [(2, va_rf (Option.map tn (tc.2.1 k))), (1, .int 0), (0, .ref (tn k))]) hF.1.1 hF.1.2.1 dX5_depth_6 rfl hl (by decide) rfl (fun ls hl => ?_)
  obtain ⟨f_13, hw⟩ := hw
  have hl := lv_sub hl (l' := [(1, .int 0), (2, va_rf (Option.map tn (tc.2.1 k)))]) [1, 0] rfl
  exact bk_7 f_13 0 (tc.2.1 k) _ _ _ hH hl hw

def wb_X7_childrenIn_42 (k : Nat) (a1 : Int32) (tc : g_TC) (K4 : Int32 → Int32 → Prop) (Q : Int32 → Prop) (x3 : Int32) (y0 : Int32) (y1 : Int32) : Prop := K4 (y0 ||| y1) (x3 + 1)
def wb_X7_childrenIn_4 (k : Nat) (a1 : Int32) (tc : g_TC) (Q : Int32 → Prop) : Nat → Int32 → Int32 → Prop
  | 0, _, _ => False
  | fu + 1, x2, x3 => (k ∈ tc.1 ∧ tc.2.2.1 k ≠ 0 ∧ (wp_J10_size_T tc k (fun r_15 => ((r_15 ≤ x3 → (Q x2)) ∧ (¬ r_15 ≤ x3 → (k ∈ tc.1 ∧ tc.2.2.1 k ≠ 0 ∧ (wp_J10_get_T x3 tc k (fun q_19 => (q_19 ∈ tc.1 ∧ (q_19 ∈ tc.1 ∧ ((((nI q_19) &&& a1) = 0 → (wb_X7_childrenIn_42 k a1 tc (wb_X7_childrenIn_4 k a1 tc Q fu) Q x3 x2 0)) ∧ (¬ ((nI q_19) &&& a1) = 0 → (wb_X7_childrenIn_42 k a1 tc (wb_X7_childrenIn_4 k a1 tc Q fu) Q x3 x2 ((1 : Int32) <<< (x3 &&& 31)))))))))))))))
def wp_X7_childrenIn (k : Nat) (a1 : Int32) (tc : g_TC) (Q : Int32 → Prop) : Prop := (∃ f4, wb_X7_childrenIn_4 k a1 tc Q f4 0 0)
set_option maxHeartbeats 4000000 in
set_option maxRecDepth 100000 in
theorem met_X7_childrenIn (l : Launch) (hl0 : l.stackTraces = false) (d : g_D) (tn : Nat → Nat) (k : Nat) (a1 : Int32) (tl : Nat → Nat) (tr : Nat → Nat) (tc : g_TC) (Q : Int32 → Prop) (hw : wp_X7_childrenIn k a1 tc Q) : g_Met l d yX7_childrenIn cX7_childrenIn 4 (Option.some FieldType.int) ({ frames := 3, cells := 0, slots := 0, locals := 64 } : Room) [.ref (tn k), .int a1] [(g_T d tn tl tr tc)] 0 0 (fun v w1 => ∃ (r : Int32), v = some (.int r) ∧ w1 = [(g_T d tn tl tr tc)] ∧ Q r) := by
  refine g_enter (by decide) (Nat.le_of_ble_eq_true rfl) ?_
  intro p e s m args below meth c A ls hF hH hl hin
  have hF : g_F p m c cX7_childrenIn 4 s args RX7 meth (Option.some FieldType.int) := hF
  have hl : lv_has ls 4 [(0, .ref (tn k)), (1, .int a1)] := hl
  have bk_42 : ∀ (K4 : Int32 → Int32 → Prop) (hK4 : ∀ (x2 : Int32) (x3 : Int32) (H : Heap) (locs : List Loc) (ls : Array Slot), g_HS d A s [(g_T d tn tl tr tc)] H locs → lv_has ls 4 [(0, .ref (tn k)), (1, .int a1), (2, .int x2), (3, .int x3)] → K4 x2 x3 → W p l e ({ frames := 3, cells := 0, slots := 0, locals := 64 } : Room) s m args below meth c H locs 0 0 (g_E d (fun v w1 => ∃ (r : Int32), v = some (.int r) ∧ w1 = [(g_T d tn tl tr tc)] ∧ Q r) A below args s 0 0) (F0 m 4 ls [])) (x3 : Int32) (y0 : Int32) (y1 : Int32) (H : Heap) (locs : List Loc) (ls : Array Slot), g_HS d A s [(g_T d tn tl tr tc)] H locs → lv_has ls 4 [(0, .ref (tn k)), (1, .int a1), (3, .int x3)] → wb_X7_childrenIn_42 k a1 tc K4 Q x3 y0 y1 → W p l e ({ frames := 3, cells := 0, slots := 0, locals := 64 } : Room) s m args below meth c H locs 0 0 (g_E d (fun v w1 => ∃ (r : Int32), v = some (.int r) ∧ w1 = [(g_T d tn tl tr tc)] ∧ Q r) A below args s 0 0) (F0 m 42 ls [.int y1, .int y0]) := by
    intro K4 hK4 x3 y0 y1 H locs ls hH hl hw
    unfold wb_X7_childrenIn_42 at hw
    refine lv_ior hF.1.1 hF.1.2.1 dX7_childrenIn_42 ?_
    refine lv_istore_n (lv' := [(2, .int (y0 ||| y1)), (0, .ref (tn k)), (1, .int a1), (3, .int x3)]) hF.1.1 hF.1.2.1 dX7_childrenIn_43 rfl hl (by decide) rfl (fun ls hl => ?_)
    refine lv_iinc (v := (x3 + 1)) (lv' := [(3, .int (x3 + 1)), (2, .int (y0 ||| y1)), (0, .ref (tn k)), (1, .int a1)]) hF.1.1 hF.1.2.1 dX7_childrenIn_44 hl (k := 3) rfl rfl (by decide) rfl (fun ls hl => ?_)
    refine lv_goto (tgt := 4) hF.1.1 hF.1.2.1 dX7_childrenIn_47 (by decide) ?_
    have hl := lv_sub hl (l' := [(0, .ref (tn k)), (1, .int a1), (2, .int (y0 ||| y1)), (3, .int (x3 + 1))]) [2, 3, 1, 0] rfl
    exact hK4 (y0 ||| y1) (x3 + 1) _ _ _ hH hl hw
  have bk_4 : ∀ (fu : Nat) (x2 : Int32) (x3 : Int32) (H : Heap) (locs : List Loc) (ls : Array Slot), g_HS d A s [(g_T d tn tl tr tc)] H locs → lv_has ls 4 [(0, .ref (tn k)), (1, .int a1), (2, .int x2), (3, .int x3)] → wb_X7_childrenIn_4 k a1 tc Q fu x2 x3 → W p l e ({ frames := 3, cells := 0, slots := 0, locals := 64 } : Room) s m args below meth c H locs 0 0 (g_E d (fun v w1 => ∃ (r : Int32), v = some (.int r) ∧ w1 = [(g_T d tn tl tr tc)] ∧ Q r) A below args s 0 0) (F0 m 4 ls []) := by
    intro fu
    induction fu with
    | zero => intro x2 x3 H locs ls hH hl hw; rw [wb_X7_childrenIn_4] at hw; exact hw.elim
    | succ fu ih =>
      intro x2 x3 H locs ls hH hl hw
      rw [wb_X7_childrenIn_4] at hw
      refine lv_iload_n hF.1.1 hF.1.2.1 dX7_childrenIn_4 rfl (lv_at hl 3 rfl) ?_
      refine lv_aload_n hF.1.1 hF.1.2.1 dX7_childrenIn_5 rfl (lv_at hl 0 rfl) ?_
      obtain ⟨hk_13, hk_14, hw⟩ := hw
      refine g_tch hF hH 0 rfl hk_13 hk_14 q503 dX7_childrenIn_6 ?_
      refine g_cVr [] 0 rfl hF (met_J10_size_T l hl0 d tn tl tr tc k _ hw) q899 q601 q602 q107 q603 rfl rfl (by decide +kernel) ⟨Nat.le_of_ble_eq_true rfl, Nat.le_of_ble_eq_true rfl⟩ hH [0] rfl rfl rfl (g_trecC hH 0 rfl hw.1 hw.2.1) hl.1 (Nat.le_of_ble_eq_true rfl) dX7_childrenIn_9 ⟨(by first | exact Nat.le_of_ble_eq_true rfl | omega | (dsimp only; omega)), (by first | exact Nat.le_of_ble_eq_true rfl | omega | (dsimp only; omega))⟩ (fun v w1 H locs hq hH => ?_)
      obtain ⟨r_15, rfl, rfl, hw⟩ := hq
      have hH : g_HS d A s [(g_T d tn tl tr tc)] H locs := hH
      refine W.eq (g2 := (F0 m 12 ls [.int r_15, .int x3])) rfl ?_
      refine lv_icmp_ge (tgt := 50) hF.1.1 hF.1.2.1 dX7_childrenIn_12 (by decide) (fun c_16 => ?_) (fun c_16 => ?_)
      · have hw := hw.1 c_16
        refine lv_iload_n hF.1.1 hF.1.2.1 dX7_childrenIn_50 rfl (lv_at hl 2 rfl) ?_
        exact g_iret hF hH ⟨x2, rfl, rfl, hw⟩ dX7_childrenIn_51
      · have hw := hw.2 c_16
        refine lv_iload_n hF.1.1 hF.1.2.1 dX7_childrenIn_15 rfl (lv_at hl 2 rfl) ?_
        refine lv_aload_n hF.1.1 hF.1.2.1 dX7_childrenIn_16 rfl (lv_at hl 0 rfl) ?_
        obtain ⟨hk_17, hk_18, hw⟩ := hw
        refine g_tch hF hH 0 rfl hk_17 hk_18 q503 dX7_childrenIn_17 ?_
        refine lv_iload_n hF.1.1 hF.1.2.1 dX7_childrenIn_20 rfl (lv_at hl 3 rfl) ?_
        refine g_cVr [.int x3] 1 rfl hF (met_J10_get_T l hl0 d tn tl tr x3 tc k _ hw) q900 q605 q606 q107 q607 rfl rfl (by decide +kernel) ⟨Nat.le_of_ble_eq_true rfl, Nat.le_of_ble_eq_true rfl⟩ hH [0] rfl rfl rfl (g_trecC hH 0 rfl hw.1 hw.2.1) hl.1 (Nat.le_of_ble_eq_true rfl) dX7_childrenIn_21 ⟨(by first | exact Nat.le_of_ble_eq_true rfl | omega | (dsimp only; omega)), (by first | exact Nat.le_of_ble_eq_true rfl | omega | (dsimp only; omega))⟩ (fun v w1 H locs hq hH => ?_)
        obtain ⟨q_19, rfl, rfl, hw⟩ := hq
        have hH : g_HS d A s [(g_T d tn tl tr tc)] H locs := hH
        refine W.eq (g2 := (F0 m 24 ls [.ref (tn q_19), .int x2])) rfl ?_
        obtain ⟨hk_20, hw⟩ := hw
        refine g_tcT hF hH 0 rfl hk_20 q901 dX7_childrenIn_24 ?_
        obtain ⟨hk_22, hw⟩ := hw
        refine g_tset hF hH 0 rfl hk_22 q462 dX7_childrenIn_27 ?_
        refine lv_iload_n hF.1.1 hF.1.2.1 dX7_childrenIn_30 rfl (lv_at hl 1 rfl) ?_
        refine lv_iand hF.1.1 hF.1.2.1 dX7_childrenIn_31 ?_
        refine lv_if_eq (tgt := 41) hF.1.1 hF.1.2.1 dX7_childrenIn_32 (by decide) (fun c_24 => ?_) (fun c_24 => ?_)
        · have hw := hw.1 c_24
          refine lv_iconst (v := 0) hF.1.1 hF.1.2.1 dX7_childrenIn_41 (by decide) ?_
          have hl := lv_sub hl (l' := [(0, .ref (tn k)), (1, .int a1), (3, .int x3)]) [0, 1, 3] rfl
          exact bk_42 (wb_X7_childrenIn_4 k a1 tc Q fu) ih x3 x2 0 _ _ _ hH hl hw
        · have hw := hw.2 c_24
          refine lv_iconst (v := 1) hF.1.1 hF.1.2.1 dX7_childrenIn_35 (by decide) ?_
          refine lv_iload_n hF.1.1 hF.1.2.1 dX7_childrenIn_36 rfl (lv_at hl 3 rfl) ?_
          refine lv_ishl hF.1.1 hF.1.2.1 dX7_childrenIn_37 ?_
          refine lv_goto (tgt := 42) hF.1.1 hF.1.2.1 dX7_childrenIn_38 (by decide) ?_
          have hl := lv_sub hl (l' := [(0, .ref (tn k)), (1, .int a1), (3, .int x3)]) [0, 1, 3] rfl
          exact bk_42 (wb_X7_childrenIn_4 k a1 tc Q fu) ih x3 x2 ((1 : Int32) <<< (x3 &&& 31)) _ _ _ hH hl hw
  unfold wp_X7_childrenIn at hw
  refine lv_iconst (v := 0) hF.1.1 hF.1.2.1 dX7_childrenIn_0 (by decide) ?_
  refine lv_istore_n (lv' := [(2, .int 0), (0, .ref (tn k)), (1, .int a1)]) hF.1.1 hF.1.2.1 dX7_childrenIn_1 rfl hl (by decide) rfl (fun ls hl => ?_)
  refine lv_iconst (v := 0) hF.1.1 hF.1.2.1 dX7_childrenIn_2 (by decide) ?_
  refine lv_istore_n (lv' := [(3, .int 0), (2, .int 0), (0, .ref (tn k)), (1, .int a1)]) hF.1.1 hF.1.2.1 dX7_childrenIn_3 rfl hl (by decide) rfl (fun ls hl => ?_)
  obtain ⟨f_25, hw⟩ := hw
  have hl := lv_sub hl (l' := [(0, .ref (tn k)), (1, .int a1), (2, .int 0), (3, .int 0)]) [2, 3, 1, 0] rfl
  exact bk_4 f_25 0 0 _ _ _ hH hl hw

def wp_X0_children (k : Nat) (tc : g_TC) (Q : Int32 → Prop) : Prop := (k ∈ tc.1 ∧ (tc.2.2.1 k = 0 → (Q 0)) ∧ (tc.2.2.1 k ≠ 0 → (k ∈ tc.1 ∧ tc.2.2.1 k ≠ 0 ∧ (k ∈ tc.1 ∧ tc.2.2.1 k ≠ 0 ∧ (wp_J10_size_T tc k (fun r_14 => (Q r_14)))))))
set_option maxHeartbeats 4000000 in
set_option maxRecDepth 100000 in
theorem met_X0_children (l : Launch) (hl0 : l.stackTraces = false) (d : g_D) (tn : Nat → Nat) (k : Nat) (tl : Nat → Nat) (tr : Nat → Nat) (tc : g_TC) (Q : Int32 → Prop) (hw : wp_X0_children k tc Q) : g_Met l d yX0_children cX0_children 1 (Option.some FieldType.int) ({ frames := 1, cells := 0, slots := 0, locals := 20 } : Room) [.ref (tn k)] [(g_T d tn tl tr tc)] 0 0 (fun v w1 => ∃ (r : Int32), v = some (.int r) ∧ w1 = [(g_T d tn tl tr tc)] ∧ Q r) := by
  refine g_enter (by decide) (Nat.le_of_ble_eq_true rfl) ?_
  intro p e s m args below meth c A ls hF hH hl hin
  have hF : g_F p m c cX0_children 1 s args RX0 meth (Option.some FieldType.int) := hF
  have hl : lv_has ls 1 [(0, .ref (tn k))] := hl
  unfold wp_X0_children at hw
  refine lv_aload_n hF.1.1 hF.1.2.1 dX0_children_0 rfl (lv_at hl 0 rfl) ?_
  obtain ⟨hk_8, hw⟩ := hw
  refine g_tisI hF hH 0 rfl hk_8 q472 dX0_children_1 (fun hk_9 => ?_) (fun hk_9 => ?_)
  · have hw := hw.1 hk_9
    refine lv_if_eq (tgt := 20) hF.1.1 hF.1.2.1 dX0_children_4 (by decide) (fun _ => ?_) (fun z => absurd z (by decide))
    refine lv_iconst (v := 0) hF.1.1 hF.1.2.1 dX0_children_20 (by decide) ?_
    exact g_iret hF hH ⟨0, rfl, rfl, hw⟩ dX0_children_21
  · have hw := hw.2 hk_9
    refine lv_if_eq (tgt := 20) hF.1.1 hF.1.2.1 dX0_children_4 (by decide) (fun z => absurd z (by decide)) (fun _ => ?_)
    refine lv_aload_n hF.1.1 hF.1.2.1 dX0_children_7 rfl (lv_at hl 0 rfl) ?_
    obtain ⟨hk_10, hk_11, hw⟩ := hw
    refine g_tcI hF hH 0 rfl hk_10 hk_11 q472 dX0_children_8 ?_
    obtain ⟨hk_12, hk_13, hw⟩ := hw
    refine g_tchN hF hH 0 rfl hk_12 hk_13 q505 dX0_children_11 ?_
    refine g_cVr [] 0 rfl hF (met_J10_size_T l hl0 d tn tl tr tc k _ hw) q723 q601 q602 q107 q603 rfl rfl (by decide +kernel) ⟨Nat.le_of_ble_eq_true rfl, Nat.le_of_ble_eq_true rfl⟩ hH [0] rfl rfl rfl (g_trecC hH 0 rfl hw.1 hw.2.1) hl.1 (Nat.le_of_ble_eq_true rfl) dX0_children_14 ⟨(by first | exact Nat.le_of_ble_eq_true rfl | omega | (dsimp only; omega)), (by first | exact Nat.le_of_ble_eq_true rfl | omega | (dsimp only; omega))⟩ (fun v w1 H locs hq hH => ?_)
    obtain ⟨r_14, rfl, rfl, hw⟩ := hq
    have hH : g_HS d A s [(g_T d tn tl tr tc)] H locs := hH
    refine W.eq (g2 := (F0 m 17 ls [.int r_14])) rfl ?_
    refine lv_goto (tgt := 21) hF.1.1 hF.1.2.1 dX0_children_17 (by decide) ?_
    exact g_iret hF hH ⟨r_14, rfl, rfl, hw⟩ dX0_children_21
