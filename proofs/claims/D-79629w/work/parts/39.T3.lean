def wp_X0_kindOf (a1 : Int32) (n : Int32) (near : Nat → Int32) (Q : Nat → Prop) : Prop := (wp_X0_lowest a1 (fun r_6 => (wp_X2_reach r_6 a1 1 n near (fun r_7 => ((r_7 = a1 → (wp_X2_reach r_6 a1 0 n near (fun r_9 => ((r_9 = a1 → (Q 3)) ∧ (¬ r_9 = a1 → (Q 2)))))) ∧ (¬ r_7 = a1 → (Q 1)))))))
set_option maxHeartbeats 4000000 in
set_option maxRecDepth 100000 in
theorem met_X0_kindOf (l : Launch) (hl0 : l.stackTraces = false) (d : g_D) (gA : Nat) (a1 : Int32) (n : Int32) (gB : Nat) (near : Nat → Int32) (Q : Nat → Prop) (hw : wp_X0_kindOf a1 n near Q) : g_Met l d yX0_kindOf cX0_kindOf 3 (Option.some (FieldType.object "GraphModules$Kind")) ({ frames := 2, cells := 0, slots := 0, locals := 48 } : Room) [.ref gA, .int a1] [[(gA, .inr (2, [.int n, .ref gB]))], [(gB, .inl (d.2.1 0, 10, .inl near))]] 0 0 (fun v w1 => ∃ (kq : Nat), v = some (.ref (d.2.2 kq)) ∧ w1 = [[(gA, .inr (2, [.int n, .ref gB]))], [(gB, .inl (d.2.1 0, 10, .inl near))]] ∧ Q kq) := by
  refine g_enter (by decide) (Nat.le_of_ble_eq_true rfl) ?_
  intro p e s m args below meth c A ls hF hH hl hin
  have hF : g_F p m c cX0_kindOf 3 s args RX0 meth (Option.some (FieldType.object "GraphModules$Kind")) := hF
  have hl : lv_has ls 3 [(0, .ref gA), (1, .int a1)] := hl
  unfold wp_X0_kindOf at hw
  refine lv_iload_n hF.1.1 hF.1.2.1 dX0_kindOf_0 rfl (lv_at hl 1 rfl) ?_
  refine g_cS [.int a1] 1 rfl hF (met_X0_lowest l hl0 d a1 _ hw) q477 q478 q92 q479 rfl rfl (by decide +kernel) ⟨Nat.le_of_ble_eq_true rfl, Nat.le_of_ble_eq_true rfl⟩ hH [] rfl rfl rfl hl.1 (Nat.le_of_ble_eq_true rfl) dX0_kindOf_1 ⟨(by first | exact Nat.le_of_ble_eq_true rfl | omega | (dsimp only; omega)), (by first | exact Nat.le_of_ble_eq_true rfl | omega | (dsimp only; omega))⟩ (fun v w1 H locs hq hH => ?_)
  obtain ⟨r_6, rfl, rfl, hw⟩ := hq
  have hH : g_HS d A s [[(gA, .inr (2, [.int n, .ref gB]))], [(gB, .inl (d.2.1 0, 10, .inl near))]] H locs := hH
  refine W.eq (g2 := (F0 m 4 ls [.int r_6])) rfl ?_
  refine lv_istore_n (lv' := [(2, .int r_6), (0, .ref gA), (1, .int a1)]) hF.1.1 hF.1.2.1 dX0_kindOf_4 rfl hl (by decide) rfl (fun ls hl => ?_)
  refine lv_aload_n hF.1.1 hF.1.2.1 dX0_kindOf_5 rfl (lv_at hl 1 rfl) ?_
  refine lv_iload_n hF.1.1 hF.1.2.1 dX0_kindOf_6 rfl (lv_at hl 0 rfl) ?_
  refine lv_iload_n hF.1.1 hF.1.2.1 dX0_kindOf_7 rfl (lv_at hl 2 rfl) ?_
  refine lv_iconst (v := 1) hF.1.1 hF.1.2.1 dX0_kindOf_8 (by decide) ?_
  refine g_cV [.int r_6, .int a1, .int 1] 3 rfl hF (met_X2_reach l hl0 d gA r_6 a1 1 n gB near _ hw) q484 q485 q486 q94 q487 rfl rfl (by decide +kernel) ⟨Nat.le_of_ble_eq_true rfl, Nat.le_of_ble_eq_true rfl⟩ hH [0, 1] rfl rfl rfl 0 0 rfl rfl rfl hl.1 (Nat.le_of_ble_eq_true rfl) dX0_kindOf_9 ⟨(by first | exact Nat.le_of_ble_eq_true rfl | omega | (dsimp only; omega)), (by first | exact Nat.le_of_ble_eq_true rfl | omega | (dsimp only; omega))⟩ (fun v w1 H locs hq hH => ?_)
  obtain ⟨r_7, rfl, rfl, hw⟩ := hq
  have hH : g_HS d A s [[(gA, .inr (2, [.int n, .ref gB]))], [(gB, .inl (d.2.1 0, 10, .inl near))]] H locs := hH
  refine W.eq (g2 := (F0 m 12 ls [.int r_7])) rfl ?_
  refine lv_iload_n hF.1.1 hF.1.2.1 dX0_kindOf_12 rfl (lv_at hl 2 rfl) ?_
  refine lv_icmp_eq (tgt := 20) hF.1.1 hF.1.2.1 dX0_kindOf_13 (by decide) (fun c_8 => ?_) (fun c_8 => ?_)
  · have hw := hw.1 c_8
    refine lv_aload_n hF.1.1 hF.1.2.1 dX0_kindOf_20 rfl (lv_at hl 1 rfl) ?_
    refine lv_iload_n hF.1.1 hF.1.2.1 dX0_kindOf_21 rfl (lv_at hl 0 rfl) ?_
    refine lv_iload_n hF.1.1 hF.1.2.1 dX0_kindOf_22 rfl (lv_at hl 2 rfl) ?_
    refine lv_iconst (v := 0) hF.1.1 hF.1.2.1 dX0_kindOf_23 (by decide) ?_
    refine g_cV [.int r_6, .int a1, .int 0] 3 rfl hF (met_X2_reach l hl0 d gA r_6 a1 0 n gB near _ hw) q484 q485 q486 q94 q487 rfl rfl (by decide +kernel) ⟨Nat.le_of_ble_eq_true rfl, Nat.le_of_ble_eq_true rfl⟩ hH [0, 1] rfl rfl rfl 0 0 rfl rfl rfl hl.1 (Nat.le_of_ble_eq_true rfl) dX0_kindOf_24 ⟨(by first | exact Nat.le_of_ble_eq_true rfl | omega | (dsimp only; omega)), (by first | exact Nat.le_of_ble_eq_true rfl | omega | (dsimp only; omega))⟩ (fun v w1 H locs hq hH => ?_)
    obtain ⟨r_9, rfl, rfl, hw⟩ := hq
    have hH : g_HS d A s [[(gA, .inr (2, [.int n, .ref gB]))], [(gB, .inl (d.2.1 0, 10, .inl near))]] H locs := hH
    refine W.eq (g2 := (F0 m 27 ls [.int r_9])) rfl ?_
    refine lv_iload_n hF.1.1 hF.1.2.1 dX0_kindOf_27 rfl (lv_at hl 2 rfl) ?_
    refine lv_icmp_eq (tgt := 37) hF.1.1 hF.1.2.1 dX0_kindOf_28 (by decide) (fun c_10 => ?_) (fun c_10 => ?_)
    · have hw := hw.1 c_10
      refine g_gets (v := .ref (d.2.2 3)) hF hH (g_zk hH (i := 3) (by decide)).1 q492 (fun _ h9 => h9) dX0_kindOf_37 ?_
      exact g_aret hF (Or.inl ⟨_, rfl⟩) (Or.inr ⟨_, rfl⟩) hH ⟨3, rfl, rfl, hw⟩ dX0_kindOf_40
    · have hw := hw.2 c_10
      refine g_gets (v := .ref (d.2.2 2)) hF hH (g_zk hH (i := 2) (by decide)).1 q490 (fun _ h9 => h9) dX0_kindOf_31 ?_
      refine lv_goto (tgt := 40) hF.1.1 hF.1.2.1 dX0_kindOf_34 (by decide) ?_
      exact g_aret hF (Or.inl ⟨_, rfl⟩) (Or.inr ⟨_, rfl⟩) hH ⟨2, rfl, rfl, hw⟩ dX0_kindOf_40
  · have hw := hw.2 c_8
    refine g_gets (v := .ref (d.2.2 1)) hF hH (g_zk hH (i := 1) (by decide)).1 q488 (fun _ h9 => h9) dX0_kindOf_16 ?_
    exact g_aret hF (Or.inl ⟨_, rfl⟩) (Or.inr ⟨_, rfl⟩) hH ⟨1, rfl, rfl, hw⟩ dX0_kindOf_19

def wb_X0_childOf_80 (a1 : Int32) (a2 : Int32) (n : Int32) (near : Nat → Int32) (K34 : Int32 → Int32 → Prop) (Q : Int32 → Prop) (x5 : Int32) (y0 : Int32) (y1 : Int32) : Prop := K34 (y0 ||| y1) (x5 + 1)
def wb_X0_childOf_79 (a1 : Int32) (a2 : Int32) (n : Int32) (near : Nat → Int32) (K34 : Int32 → Int32 → Prop) (Q : Int32 → Prop) (x5 : Int32) (y0 : Int32) : Prop := (wb_X0_childOf_80 a1 a2 n near K34 Q x5 y0 0)
def wb_X0_childOf_34 (a1 : Int32) (a2 : Int32) (n : Int32) (near : Nat → Int32) (Q : Int32 → Prop) : Nat → Int32 → Int32 → Prop
  | 0, _, _ => False
  | fu + 1, x4, x5 => ((n ≤ x5 → (Q x4)) ∧ (¬ n ≤ x5 → (wp_X0_has a1 x5 (fun r_12 => ((r_12 = 0 → (wb_X0_childOf_79 a1 a2 n near (wb_X0_childOf_34 a1 a2 n near Q fu) Q x5 x4)) ∧ (¬ r_12 = 0 → (wp_X2_module (((1 : Int32) <<< (a2 &&& 31)) ||| ((1 : Int32) <<< (x5 &&& 31))) n near (fun r_14 => ((r_14 = a1 → (wb_X0_childOf_79 a1 a2 n near (wb_X0_childOf_34 a1 a2 n near Q fu) Q x5 x4)) ∧ (¬ r_14 = a1 → (wb_X0_childOf_80 a1 a2 n near (wb_X0_childOf_34 a1 a2 n near Q fu) Q x5 x4 (((1 : Int32) <<< (a2 &&& 31)) ||| ((1 : Int32) <<< (x5 &&& 31))))))))))))))
def wb_X0_childOf_22 (a2 : Int32) (a1 : Int32) (n : Int32) (near : Nat → Int32) (Q : Int32 → Prop) (y3 : Int32) : Prop := (wp_X2_reach a2 a1 y3 n near (fun r_16 => (Q r_16)))
def wp_X0_childOf (a1 : Int32) (ki : Nat) (a2 : Int32) (n : Int32) (near : Nat → Int32) (Q : Int32 → Prop) : Prop := (ki < 4 ∧ (ki = 3 → (∃ f34, wb_X0_childOf_34 a1 a2 n near Q f34 ((1 : Int32) <<< (a2 &&& 31)) 0)) ∧ (¬ ki = 3 → (ki < 4 ∧ (ki = 1 → (wb_X0_childOf_22 a2 a1 n near Q 1)) ∧ (¬ ki = 1 → (wb_X0_childOf_22 a2 a1 n near Q 0)))))
set_option maxHeartbeats 4000000 in
set_option maxRecDepth 100000 in
theorem met_X0_childOf (l : Launch) (hl0 : l.stackTraces = false) (d : g_D) (gA : Nat) (a1 : Int32) (ki : Nat) (a2 : Int32) (n : Int32) (gB : Nat) (near : Nat → Int32) (Q : Int32 → Prop) (hw : wp_X0_childOf a1 ki a2 n near Q) : g_Met l d yX0_childOf cX0_childOf 7 (Option.some FieldType.int) ({ frames := 3, cells := 0, slots := 0, locals := 68 } : Room) [.ref gA, .int a1, .ref (d.2.2 ki), .int a2] [[(gA, .inr (2, [.int n, .ref gB]))], [(gB, .inl (d.2.1 0, 10, .inl near))]] 0 0 (fun v w1 => ∃ (r : Int32), v = some (.int r) ∧ w1 = [[(gA, .inr (2, [.int n, .ref gB]))], [(gB, .inl (d.2.1 0, 10, .inl near))]] ∧ Q r) := by
  refine g_enter (by decide) (Nat.le_of_ble_eq_true rfl) ?_
  intro p e s m args below meth c A ls hF hH hl hin
  have hF : g_F p m c cX0_childOf 7 s args RX0 meth (Option.some FieldType.int) := hF
  have hl : lv_has ls 7 [(0, .ref gA), (1, .int a1), (2, .ref (d.2.2 ki)), (3, .int a2)] := hl
  have bk_80 : ∀ (K34 : Int32 → Int32 → Prop) (hK34 : ∀ (x4 : Int32) (x5 : Int32) (H : Heap) (locs : List Loc) (ls : Array Slot), g_HS d A s [[(gA, .inr (2, [.int n, .ref gB]))], [(gB, .inl (d.2.1 0, 10, .inl near))]] H locs → lv_has ls 7 [(0, .ref gA), (1, .int a1), (3, .int a2), (4, .int x4), (5, .int x5)] → K34 x4 x5 → W p l e ({ frames := 3, cells := 0, slots := 0, locals := 68 } : Room) s m args below meth c H locs 0 0 (g_E d (fun v w1 => ∃ (r : Int32), v = some (.int r) ∧ w1 = [[(gA, .inr (2, [.int n, .ref gB]))], [(gB, .inl (d.2.1 0, 10, .inl near))]] ∧ Q r) A below args s 0 0) (F0 m 34 ls [])) (x5 : Int32) (y0 : Int32) (y1 : Int32) (H : Heap) (locs : List Loc) (ls : Array Slot), g_HS d A s [[(gA, .inr (2, [.int n, .ref gB]))], [(gB, .inl (d.2.1 0, 10, .inl near))]] H locs → lv_has ls 7 [(0, .ref gA), (1, .int a1), (3, .int a2), (5, .int x5)] → wb_X0_childOf_80 a1 a2 n near K34 Q x5 y0 y1 → W p l e ({ frames := 3, cells := 0, slots := 0, locals := 68 } : Room) s m args below meth c H locs 0 0 (g_E d (fun v w1 => ∃ (r : Int32), v = some (.int r) ∧ w1 = [[(gA, .inr (2, [.int n, .ref gB]))], [(gB, .inl (d.2.1 0, 10, .inl near))]] ∧ Q r) A below args s 0 0) (F0 m 80 ls [.int y1, .int y0]) := by
    intro K34 hK34 x5 y0 y1 H locs ls hH hl hw
    unfold wb_X0_childOf_80 at hw
    refine lv_ior hF.1.1 hF.1.2.1 dX0_childOf_80 ?_
    refine lv_istore (lv' := [(4, .int (y0 ||| y1)), (0, .ref gA), (1, .int a1), (3, .int a2), (5, .int x5)]) hF.1.1 hF.1.2.1 dX0_childOf_81 hl (by decide) rfl (fun ls hl => ?_)
    refine lv_iinc (v := (x5 + 1)) (lv' := [(5, .int (x5 + 1)), (4, .int (y0 ||| y1)), (0, .ref gA), (1, .int a1), (3, .int a2)]) hF.1.1 hF.1.2.1 dX0_childOf_83 hl (k := 4) rfl rfl (by decide) rfl (fun ls hl => ?_)
    refine lv_goto (tgt := 34) hF.1.1 hF.1.2.1 dX0_childOf_86 (by decide) ?_
    have hl := lv_sub hl (l' := [(0, .ref gA), (1, .int a1), (3, .int a2), (4, .int (y0 ||| y1)), (5, .int (x5 + 1))]) [2, 3, 4, 1, 0] rfl
    exact hK34 (y0 ||| y1) (x5 + 1) _ _ _ hH hl hw
  have bk_79 : ∀ (K34 : Int32 → Int32 → Prop) (hK34 : ∀ (x4 : Int32) (x5 : Int32) (H : Heap) (locs : List Loc) (ls : Array Slot), g_HS d A s [[(gA, .inr (2, [.int n, .ref gB]))], [(gB, .inl (d.2.1 0, 10, .inl near))]] H locs → lv_has ls 7 [(0, .ref gA), (1, .int a1), (3, .int a2), (4, .int x4), (5, .int x5)] → K34 x4 x5 → W p l e ({ frames := 3, cells := 0, slots := 0, locals := 68 } : Room) s m args below meth c H locs 0 0 (g_E d (fun v w1 => ∃ (r : Int32), v = some (.int r) ∧ w1 = [[(gA, .inr (2, [.int n, .ref gB]))], [(gB, .inl (d.2.1 0, 10, .inl near))]] ∧ Q r) A below args s 0 0) (F0 m 34 ls [])) (x5 : Int32) (y0 : Int32) (H : Heap) (locs : List Loc) (ls : Array Slot), g_HS d A s [[(gA, .inr (2, [.int n, .ref gB]))], [(gB, .inl (d.2.1 0, 10, .inl near))]] H locs → lv_has ls 7 [(0, .ref gA), (1, .int a1), (3, .int a2), (5, .int x5)] → wb_X0_childOf_79 a1 a2 n near K34 Q x5 y0 → W p l e ({ frames := 3, cells := 0, slots := 0, locals := 68 } : Room) s m args below meth c H locs 0 0 (g_E d (fun v w1 => ∃ (r : Int32), v = some (.int r) ∧ w1 = [[(gA, .inr (2, [.int n, .ref gB]))], [(gB, .inl (d.2.1 0, 10, .inl near))]] ∧ Q r) A below args s 0 0) (F0 m 79 ls [.int y0]) := by
    intro K34 hK34 x5 y0 H locs ls hH hl hw
    unfold wb_X0_childOf_79 at hw
    refine lv_iconst (v := 0) hF.1.1 hF.1.2.1 dX0_childOf_79 (by decide) ?_
    exact bk_80 K34 hK34 x5 y0 0 _ _ _ hH hl hw
  have bk_34 : ∀ (fu : Nat) (x4 : Int32) (x5 : Int32) (H : Heap) (locs : List Loc) (ls : Array Slot), g_HS d A s [[(gA, .inr (2, [.int n, .ref gB]))], [(gB, .inl (d.2.1 0, 10, .inl near))]] H locs → lv_has ls 7 [(0, .ref gA), (1, .int a1), (3, .int a2), (4, .int x4), (5, .int x5)] → wb_X0_childOf_34 a1 a2 n near Q fu x4 x5 → W p l e ({ frames := 3, cells := 0, slots := 0, locals := 68 } : Room) s m args below meth c H locs 0 0 (g_E d (fun v w1 => ∃ (r : Int32), v = some (.int r) ∧ w1 = [[(gA, .inr (2, [.int n, .ref gB]))], [(gB, .inl (d.2.1 0, 10, .inl near))]] ∧ Q r) A below args s 0 0) (F0 m 34 ls []) := by
    intro fu
    induction fu with
    | zero => intro x4 x5 H locs ls hH hl hw; rw [wb_X0_childOf_34] at hw; exact hw.elim
    | succ fu ih =>
      intro x4 x5 H locs ls hH hl hw
      rw [wb_X0_childOf_34] at hw
      refine lv_iload hF.1.1 hF.1.2.1 dX0_childOf_34 (lv_at hl 4 rfl) ?_
      refine lv_aload_n hF.1.1 hF.1.2.1 dX0_childOf_36 rfl (lv_at hl 0 rfl) ?_
      refine g_getN (v := .int n) hF hH in_X2 rfl 0 0 rfl rfl 0 (by decide) q169 (fun _ h9 => h9) rfl dX0_childOf_37 ?_
      refine lv_icmp_ge (tgt := 89) hF.1.1 hF.1.2.1 dX0_childOf_40 (by decide) (fun c_11 => ?_) (fun c_11 => ?_)
      · have hw := hw.1 c_11
        refine lv_iload hF.1.1 hF.1.2.1 dX0_childOf_89 (lv_at hl 3 rfl) ?_
        exact g_iret hF hH ⟨x4, rfl, rfl, hw⟩ dX0_childOf_91
      · have hw := hw.2 c_11
        refine lv_iconst (v := 1) hF.1.1 hF.1.2.1 dX0_childOf_43 (by decide) ?_
        refine lv_iload_n hF.1.1 hF.1.2.1 dX0_childOf_44 rfl (lv_at hl 2 rfl) ?_
        refine lv_ishl hF.1.1 hF.1.2.1 dX0_childOf_45 ?_
        refine lv_iconst (v := 1) hF.1.1 hF.1.2.1 dX0_childOf_46 (by decide) ?_
        refine lv_iload hF.1.1 hF.1.2.1 dX0_childOf_47 (lv_at hl 4 rfl) ?_
        refine lv_ishl hF.1.1 hF.1.2.1 dX0_childOf_49 ?_
        refine lv_ior hF.1.1 hF.1.2.1 dX0_childOf_50 ?_
        refine lv_istore (lv' := [(6, .int (((1 : Int32) <<< (a2 &&& 31)) ||| ((1 : Int32) <<< (x5 &&& 31)))), (0, .ref gA), (1, .int a1), (3, .int a2), (4, .int x4), (5, .int x5)]) hF.1.1 hF.1.2.1 dX0_childOf_51 hl (by decide) rfl (fun ls hl => ?_)
        refine lv_iload hF.1.1 hF.1.2.1 dX0_childOf_53 (lv_at hl 4 rfl) ?_
        refine lv_iload_n hF.1.1 hF.1.2.1 dX0_childOf_55 rfl (lv_at hl 2 rfl) ?_
        refine lv_iload hF.1.1 hF.1.2.1 dX0_childOf_56 (lv_at hl 5 rfl) ?_
        refine g_cS [.int a1, .int x5] 2 rfl hF (met_X0_has l hl0 d a1 x5 _ hw) q516 q241 q92 q242 rfl rfl (by decide +kernel) ⟨Nat.le_of_ble_eq_true rfl, Nat.le_of_ble_eq_true rfl⟩ hH [] rfl rfl rfl hl.1 (Nat.le_of_ble_eq_true rfl) dX0_childOf_58 ⟨(by first | exact Nat.le_of_ble_eq_true rfl | omega | (dsimp only; omega)), (by first | exact Nat.le_of_ble_eq_true rfl | omega | (dsimp only; omega))⟩ (fun v w1 H locs hq hH => ?_)
        obtain ⟨r_12, rfl, rfl, hw⟩ := hq
        have hH : g_HS d A s [[(gA, .inr (2, [.int n, .ref gB]))], [(gB, .inl (d.2.1 0, 10, .inl near))]] H locs := hH
        refine W.eq (g2 := (F0 m 61 ls [.int r_12, .int x4])) rfl ?_
        refine lv_if_eq (tgt := 79) hF.1.1 hF.1.2.1 dX0_childOf_61 (by decide) (fun c_13 => ?_) (fun c_13 => ?_)
        · have hw := hw.1 c_13
          have hl := lv_sub hl (l' := [(0, .ref gA), (1, .int a1), (3, .int a2), (5, .int x5)]) [1, 2, 3, 5] rfl
          exact bk_79 (wb_X0_childOf_34 a1 a2 n near Q fu) ih x5 x4 _ _ _ hH hl hw
        · have hw := hw.2 c_13
          refine lv_aload_n hF.1.1 hF.1.2.1 dX0_childOf_64 rfl (lv_at hl 1 rfl) ?_
          refine lv_iload hF.1.1 hF.1.2.1 dX0_childOf_65 (lv_at hl 0 rfl) ?_
          refine g_cV [.int (((1 : Int32) <<< (a2 &&& 31)) ||| ((1 : Int32) <<< (x5 &&& 31)))] 1 rfl hF (met_X2_module l hl0 d gA (((1 : Int32) <<< (a2 &&& 31)) ||| ((1 : Int32) <<< (x5 &&& 31))) n gB near _ hw) q517 q518 q519 q94 q520 rfl rfl (by decide +kernel) ⟨Nat.le_of_ble_eq_true rfl, Nat.le_of_ble_eq_true rfl⟩ hH [0, 1] rfl rfl rfl 0 0 rfl rfl rfl hl.1 (Nat.le_of_ble_eq_true rfl) dX0_childOf_67 ⟨(by first | exact Nat.le_of_ble_eq_true rfl | omega | (dsimp only; omega)), (by first | exact Nat.le_of_ble_eq_true rfl | omega | (dsimp only; omega))⟩ (fun v w1 H locs hq hH => ?_)
          obtain ⟨r_14, rfl, rfl, hw⟩ := hq
          have hH : g_HS d A s [[(gA, .inr (2, [.int n, .ref gB]))], [(gB, .inl (d.2.1 0, 10, .inl near))]] H locs := hH
          refine W.eq (g2 := (F0 m 70 ls [.int r_14, .int x4])) rfl ?_
          refine lv_iload_n hF.1.1 hF.1.2.1 dX0_childOf_70 rfl (lv_at hl 2 rfl) ?_
          refine lv_icmp_eq (tgt := 79) hF.1.1 hF.1.2.1 dX0_childOf_71 (by decide) (fun c_15 => ?_) (fun c_15 => ?_)
          · have hw := hw.1 c_15
            have hl := lv_sub hl (l' := [(0, .ref gA), (1, .int a1), (3, .int a2), (5, .int x5)]) [1, 2, 3, 5] rfl
            exact bk_79 (wb_X0_childOf_34 a1 a2 n near Q fu) ih x5 x4 _ _ _ hH hl hw
          · have hw := hw.2 c_15
            refine lv_iload hF.1.1 hF.1.2.1 dX0_childOf_74 (lv_at hl 0 rfl) ?_
            refine lv_goto (tgt := 80) hF.1.1 hF.1.2.1 dX0_childOf_76 (by decide) ?_
            have hl := lv_sub hl (l' := [(0, .ref gA), (1, .int a1), (3, .int a2), (5, .int x5)]) [1, 2, 3, 5] rfl
            exact bk_80 (wb_X0_childOf_34 a1 a2 n near Q fu) ih x5 x4 (((1 : Int32) <<< (a2 &&& 31)) ||| ((1 : Int32) <<< (x5 &&& 31))) _ _ _ hH hl hw
  have bk_22 : ∀ (y3 : Int32) (H : Heap) (locs : List Loc) (ls : Array Slot), g_HS d A s [[(gA, .inr (2, [.int n, .ref gB]))], [(gB, .inl (d.2.1 0, 10, .inl near))]] H locs → lv_has ls 7 [] → wb_X0_childOf_22 a2 a1 n near Q y3 → W p l e ({ frames := 3, cells := 0, slots := 0, locals := 68 } : Room) s m args below meth c H locs 0 0 (g_E d (fun v w1 => ∃ (r : Int32), v = some (.int r) ∧ w1 = [[(gA, .inr (2, [.int n, .ref gB]))], [(gB, .inl (d.2.1 0, 10, .inl near))]] ∧ Q r) A below args s 0 0) (F0 m 22 ls [.int y3, .int a1, .int a2, .ref gA]) := by
    intro y3 H locs ls hH hl hw
    unfold wb_X0_childOf_22 at hw
    refine g_cV [.int a2, .int a1, .int y3] 3 rfl hF (met_X2_reach l hl0 d gA a2 a1 y3 n gB near _ hw) q484 q485 q486 q94 q487 rfl rfl (by decide +kernel) ⟨Nat.le_of_ble_eq_true rfl, Nat.le_of_ble_eq_true rfl⟩ hH [0, 1] rfl rfl rfl 0 0 rfl rfl rfl hl.1 (Nat.le_of_ble_eq_true rfl) dX0_childOf_22 ⟨(by first | exact Nat.le_of_ble_eq_true rfl | omega | (dsimp only; omega)), (by first | exact Nat.le_of_ble_eq_true rfl | omega | (dsimp only; omega))⟩ (fun v w1 H locs hq hH => ?_)
    obtain ⟨r_16, rfl, rfl, hw⟩ := hq
    have hH : g_HS d A s [[(gA, .inr (2, [.int n, .ref gB]))], [(gB, .inl (d.2.1 0, 10, .inl near))]] H locs := hH
    refine W.eq (g2 := (F0 m 25 ls [.int r_16])) rfl ?_
    exact g_iret hF hH ⟨r_16, rfl, rfl, hw⟩ dX0_childOf_25
  unfold wp_X0_childOf at hw
  refine lv_aload_n hF.1.1 hF.1.2.1 dX0_childOf_0 rfl (lv_at hl 2 rfl) ?_
  refine g_gets (v := .ref (d.2.2 3)) hF hH (g_zk hH (i := 3) (by decide)).1 q492 (fun _ h9 => h9) dX0_childOf_1 ?_
  obtain ⟨hk_17, hw⟩ := hw
  refine lv_acmp_eq (rx := (some (d.2.2 ki))) (ry := (some (d.2.2 3))) (tgt := 26) hF.1.1 hF.1.2.1 dX0_childOf_4 (by decide) (fun c_18 => ?_) (fun c_18 => ?_)
  · have hw := hw.1 (hH.2.2.2.2.2.2.2.1 ki 3 hk_17 (by decide) (Option.some.inj c_18))
    refine lv_iconst (v := 1) hF.1.1 hF.1.2.1 dX0_childOf_26 (by decide) ?_
    refine lv_iload_n hF.1.1 hF.1.2.1 dX0_childOf_27 rfl (lv_at hl 3 rfl) ?_
    refine lv_ishl hF.1.1 hF.1.2.1 dX0_childOf_28 ?_
    refine lv_istore (lv' := [(4, .int ((1 : Int32) <<< (a2 &&& 31))), (0, .ref gA), (1, .int a1), (2, .ref (d.2.2 ki)), (3, .int a2)]) hF.1.1 hF.1.2.1 dX0_childOf_29 hl (by decide) rfl (fun ls hl => ?_)
    refine lv_iconst (v := 0) hF.1.1 hF.1.2.1 dX0_childOf_31 (by decide) ?_
    refine lv_istore (lv' := [(5, .int 0), (4, .int ((1 : Int32) <<< (a2 &&& 31))), (0, .ref gA), (1, .int a1), (2, .ref (d.2.2 ki)), (3, .int a2)]) hF.1.1 hF.1.2.1 dX0_childOf_32 hl (by decide) rfl (fun ls hl => ?_)
    obtain ⟨f_19, hw⟩ := hw
    have hl := lv_sub hl (l' := [(0, .ref gA), (1, .int a1), (3, .int a2), (4, .int ((1 : Int32) <<< (a2 &&& 31))), (5, .int 0)]) [2, 3, 5, 1, 0] rfl
    exact bk_34 f_19 ((1 : Int32) <<< (a2 &&& 31)) 0 _ _ _ hH hl hw
  · have hw := hw.2 (fun z => c_18 (by rw [z]))
    refine lv_aload_n hF.1.1 hF.1.2.1 dX0_childOf_7 rfl (lv_at hl 0 rfl) ?_
    refine lv_iload_n hF.1.1 hF.1.2.1 dX0_childOf_8 rfl (lv_at hl 3 rfl) ?_
    refine lv_iload_n hF.1.1 hF.1.2.1 dX0_childOf_9 rfl (lv_at hl 1 rfl) ?_
    refine lv_aload_n hF.1.1 hF.1.2.1 dX0_childOf_10 rfl (lv_at hl 2 rfl) ?_
    refine g_gets (v := .ref (d.2.2 1)) hF hH (g_zk hH (i := 1) (by decide)).1 q488 (fun _ h9 => h9) dX0_childOf_11 ?_
    obtain ⟨hk_20, hw⟩ := hw
    refine lv_acmp_ne (rx := (some (d.2.2 ki))) (ry := (some (d.2.2 1))) (tgt := 21) hF.1.1 hF.1.2.1 dX0_childOf_14 (by decide) (fun c_21 => ?_) (fun c_21 => ?_)
    · have hw := hw.2 (fun z => c_21 (by rw [z]))
      refine lv_iconst (v := 0) hF.1.1 hF.1.2.1 dX0_childOf_21 (by decide) ?_
      have hl := lv_sub hl (l' := []) [] rfl
      exact bk_22 0 _ _ _ hH hl hw
    · have hw := hw.1 (hH.2.2.2.2.2.2.2.1 ki 1 hk_20 (by decide) (Option.some.inj c_21))
      refine lv_iconst (v := 1) hF.1.1 hF.1.2.1 dX0_childOf_17 (by decide) ?_
      refine lv_goto (tgt := 22) hF.1.1 hF.1.2.1 dX0_childOf_18 (by decide) ?_
      have hl := lv_sub hl (l' := []) [] rfl
      exact bk_22 1 _ _ _ hH hl hw
