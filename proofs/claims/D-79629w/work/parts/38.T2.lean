def wb_X4_numberOf_7 (ns : List Nat) (tc : g_TC) (x2 : Int32) (Q : Int32 → Prop) : Nat → Int32 → Prop
  | 0, _ => False
  | fu + 1, x3 => (wp_J10_get_A x3 ns (fun q_9 => (q_9 ∈ tc.1 ∧ (q_9 ∈ tc.1 ∧ (((nI q_9) = x2 → (Q x3)) ∧ (¬ (nI q_9) = x2 → (wb_X4_numberOf_7 ns tc x2 Q fu) (x3 + 1)))))))
def wp_X4_numberOf (k : Nat) (ns : List Nat) (tc : g_TC) (Q : Int32 → Prop) : Prop := (k ∈ tc.1 ∧ (∃ f7, wb_X4_numberOf_7 ns tc (nI k) Q f7 0))
set_option maxHeartbeats 4000000 in
set_option maxRecDepth 100000 in
theorem met_X4_numberOf (l : Launch) (hl0 : l.stackTraces = false) (d : g_D) (ob : Nat) (tn : Nat → Nat) (k : Nat) (rk : Nat) (na : Nat) (va : Nat) (nb : Nat) (ns : List Nat) (tl : Nat → Nat) (tr : Nat → Nat) (tc : g_TC) (Q : Int32 → Prop) (hw : wp_X4_numberOf k ns tc Q) : g_Met l d yX4_numberOf cX4_numberOf 4 (Option.some FieldType.int) ({ frames := 3, cells := 0, slots := 0, locals := 64 } : Room) [.ref ob, .ref (tn k)] [[(ob, .inr (4, [.ref (tn rk), .ref na, .ref va]))], (g_AL d na nb tn ns), (g_T d tn tl tr tc)] 0 0 (fun v w1 => ∃ (r : Int32), v = some (.int r) ∧ w1 = [[(ob, .inr (4, [.ref (tn rk), .ref na, .ref va]))], (g_AL d na nb tn ns), (g_T d tn tl tr tc)] ∧ Q r) := by
  refine g_enter (by decide) (Nat.le_of_ble_eq_true rfl) ?_
  intro p e s m args below meth c A ls hF hH hl hin
  have hF : g_F p m c cX4_numberOf 4 s args RX4 meth (Option.some FieldType.int) := hF
  have hl : lv_has ls 4 [(0, .ref ob), (1, .ref (tn k))] := hl
  have bk_7 : ∀ (x2 : Int32) (fu : Nat) (x3 : Int32) (H : Heap) (locs : List Loc) (ls : Array Slot), g_HS d A s [[(ob, .inr (4, [.ref (tn rk), .ref na, .ref va]))], (g_AL d na nb tn ns), (g_T d tn tl tr tc)] H locs → lv_has ls 4 [(0, .ref ob), (2, .int x2), (3, .int x3)] → wb_X4_numberOf_7 ns tc x2 Q fu x3 → W p l e ({ frames := 3, cells := 0, slots := 0, locals := 64 } : Room) s m args below meth c H locs 0 0 (g_E d (fun v w1 => ∃ (r : Int32), v = some (.int r) ∧ w1 = [[(ob, .inr (4, [.ref (tn rk), .ref na, .ref va]))], (g_AL d na nb tn ns), (g_T d tn tl tr tc)] ∧ Q r) A below args s 0 0) (F0 m 7 ls []) := by
    intro x2 fu
    induction fu with
    | zero => intro x3 H locs ls hH hl hw; rw [wb_X4_numberOf_7] at hw; exact hw.elim
    | succ fu ih =>
      intro x3 H locs ls hH hl hw
      rw [wb_X4_numberOf_7] at hw
      refine lv_aload_n hF.1.1 hF.1.2.1 dX4_numberOf_7 rfl (lv_at hl 0 rfl) ?_
      refine g_get (v := .ref na) hF hH in_X4 rfl 0 0 rfl rfl 1 (by decide) q679 (fun _ h9 => h9) rfl dX4_numberOf_8 ?_
      refine lv_iload_n hF.1.1 hF.1.2.1 dX4_numberOf_11 rfl (lv_at hl 2 rfl) ?_
      refine g_cVr [.int x3] 1 rfl hF (met_J10_get_A l hl0 d na nb tn x3 ns _ hw) q604 q605 q606 q107 q607 rfl rfl (by decide +kernel) ⟨Nat.le_of_ble_eq_true rfl, Nat.le_of_ble_eq_true rfl⟩ hH [1] rfl rfl rfl (g_lrec hH 1 rfl) hl.1 (Nat.le_of_ble_eq_true rfl) dX4_numberOf_12 ⟨(by first | exact Nat.le_of_ble_eq_true rfl | omega | (dsimp only; omega)), (by first | exact Nat.le_of_ble_eq_true rfl | omega | (dsimp only; omega))⟩ (fun v w1 H locs hq hH => ?_)
      obtain ⟨q_9, rfl, rfl, hw⟩ := hq
      have hH : g_HS d A s [[(ob, .inr (4, [.ref (tn rk), .ref na, .ref va]))], (g_T d tn tl tr tc), (g_AL d na nb tn ns)] H locs := hH
      refine W.eq (g2 := (F0 m 15 ls [.ref (tn q_9)])) rfl ?_
      obtain ⟨hk_10, hw⟩ := hw
      refine g_tcT hF hH 1 rfl hk_10 q618 dX4_numberOf_15 ?_
      obtain ⟨hk_12, hw⟩ := hw
      refine g_tset hF hH 1 rfl hk_12 q461 dX4_numberOf_18 ?_
      refine lv_iload_n hF.1.1 hF.1.2.1 dX4_numberOf_21 rfl (lv_at hl 1 rfl) ?_
      refine lv_icmp_eq (tgt := 31) hF.1.1 hF.1.2.1 dX4_numberOf_22 (by decide) (fun c_14 => ?_) (fun c_14 => ?_)
      · have hw := hw.1 c_14
        refine lv_iload_n hF.1.1 hF.1.2.1 dX4_numberOf_31 rfl (lv_at hl 2 rfl) ?_
        have hH := hH.sub (cs' := [[(ob, .inr (4, [.ref (tn rk), .ref na, .ref va]))], (g_AL d na nb tn ns), (g_T d tn tl tr tc)]) [0, 2, 1] rfl rfl
        exact g_iret hF hH ⟨x3, rfl, rfl, hw⟩ dX4_numberOf_32
      · have hw := hw.2 c_14
        refine lv_iinc (v := (x3 + 1)) (lv' := [(3, .int (x3 + 1)), (0, .ref ob), (2, .int x2)]) hF.1.1 hF.1.2.1 dX4_numberOf_25 hl (k := 2) rfl rfl (by decide) rfl (fun ls hl => ?_)
        refine lv_goto (tgt := 7) hF.1.1 hF.1.2.1 dX4_numberOf_28 (by decide) ?_
        have hH := hH.sub (cs' := [[(ob, .inr (4, [.ref (tn rk), .ref na, .ref va]))], (g_AL d na nb tn ns), (g_T d tn tl tr tc)]) [0, 2, 1] rfl rfl
        have hl := lv_sub hl (l' := [(0, .ref ob), (2, .int x2), (3, .int (x3 + 1))]) [1, 2, 0] rfl
        exact ih (x3 + 1) _ _ _ hH hl hw
  unfold wp_X4_numberOf at hw
  refine lv_aload_n hF.1.1 hF.1.2.1 dX4_numberOf_0 rfl (lv_at hl 1 rfl) ?_
  obtain ⟨hk_15, hw⟩ := hw
  refine g_tset hF hH 2 rfl hk_15 q461 dX4_numberOf_1 ?_
  refine lv_istore_n (lv' := [(2, .int (nI k)), (0, .ref ob), (1, .ref (tn k))]) hF.1.1 hF.1.2.1 dX4_numberOf_4 rfl hl (by decide) rfl (fun ls hl => ?_)
  refine lv_iconst (v := 0) hF.1.1 hF.1.2.1 dX4_numberOf_5 (by decide) ?_
  refine lv_istore_n (lv' := [(3, .int 0), (2, .int (nI k)), (0, .ref ob), (1, .ref (tn k))]) hF.1.1 hF.1.2.1 dX4_numberOf_6 rfl hl (by decide) rfl (fun ls hl => ?_)
  obtain ⟨f_17, hw⟩ := hw
  have hl := lv_sub hl (l' := [(0, .ref ob), (2, .int (nI k)), (3, .int 0)]) [2, 1, 0] rfl
  exact bk_7 (nI k) f_17 0 _ _ _ hH hl hw

def wp_X4_numberOf_null (ns : List Nat) (tc : g_TC) (Q : Int32 → Prop) (X : Prop) : Prop := X
set_option maxHeartbeats 4000000 in
set_option maxRecDepth 100000 in
theorem met_X4_numberOf_null (l : Launch) (hl0 : l.stackTraces = false) (d : g_D) (ob : Nat) (tn : Nat → Nat) (rk : Nat) (na : Nat) (va : Nat) (nb : Nat) (ns : List Nat) (tl : Nat → Nat) (tr : Nat → Nat) (tc : g_TC) (Q : Int32 → Prop) (X : Prop) (hw : wp_X4_numberOf_null ns tc Q X) : g_MetX l d yX4_numberOf cX4_numberOf 4 (Option.some FieldType.int) ({ frames := 8, cells := 1, slots := 8, locals := 10300 } : Room) [.ref ob, .null] [[(ob, .inr (4, [.ref (tn rk), .ref na, .ref va]))], (g_AL d na nb tn ns), (g_T d tn tl tr tc)] 1 8 (fun v w1 => ∃ (r : Int32), v = some (.int r) ∧ w1 = [[(ob, .inr (4, [.ref (tn rk), .ref na, .ref va]))], (g_AL d na nb tn ns), (g_T d tn tl tr tc)] ∧ Q r) (fun E qx w1 => E = "java/lang/NullPointerException" ∧ w1 = [[(ob, .inr (4, [.ref (tn rk), .ref na, .ref va]))], (g_AL d na nb tn ns), (g_T d tn tl tr tc)] ∧ X) := by
  refine g_enterX (by decide) (Nat.le_of_ble_eq_true rfl) ?_
  intro p e s m args below meth c A ls htab hF hH hl
  have hF : g_F p m c cX4_numberOf 4 s args RX4 meth (Option.some FieldType.int) := hF
  have hl : lv_has ls 4 [(0, .ref ob), (1, .null)] := hl
  unfold wp_X4_numberOf_null at hw
  refine lv_aload_nN hF.1.1 hF.1.2.1 dX4_numberOf_0 rfl (lv_at hl 1 rfl) ?_
  refine vx_getfN (D := d.1) (cl := g_cl) (tys := g_tys d) (ci := 5) hF.1.1 hF.1.2.1 hF.1.2.2.2.2 in_X6 hF.1.2.2.2.1 hH.2.2.2.2.1 rfl 0 (by decide) (hF.1.2.2.2.2 _ q461) (fun _ h9 => h9) dX4_numberOf_1 ?_
  refine g_noteN hF hH hl0 g_good_NP hl.1 (Nat.le_of_ble_eq_true rfl) (Nat.le_of_ble_eq_true rfl) (by first | exact Nat.le_of_ble_eq_true rfl | omega | (dsimp only; omega)) (by first | exact Nat.le_of_ble_eq_true rfl | omega | (dsimp only; omega)) (fun H q_2 ce hH hce hcv hcc => ?_)
  exact g_out hF hH (fun x hx => (htab x hx).elim) hce hcv hcc ⟨rfl, rfl, hw⟩ (by first | exact Nat.le_of_ble_eq_true rfl | omega | (dsimp only; omega)) (by first | exact Nat.le_of_ble_eq_true rfl | omega | (dsimp only; omega))

def wb_X4_many_10 (kk : Nat) (tc : g_TC) (ns : List Nat) (Q : Int32 → Prop) : Nat → Int32 → Nat → Prop
  | 0, _, _ => False
  | fu + 1, x2, v_q_1 => (wp_J16_hasNext_B v_q_1 ns (fun r_11 => ((r_11 = 0 → (Q x2)) ∧ (¬ r_11 = 0 → (wp_J16_next_A v_q_1 ns (fun q_13 => (q_13 ∈ tc.1 ∧ (q_13 ∈ tc.1 ∧ ((tc.2.2.1 q_13) < 4 ∧ kk < 4 ∧ ((tc.2.2.1 q_13) = kk → (wb_X4_many_10 kk tc ns Q fu) (x2 + 1) (v_q_1 + 1)) ∧ (¬ (tc.2.2.1 q_13) = kk → (wb_X4_many_10 kk tc ns Q fu) (x2 + 0) (v_q_1 + 1)))))))))))
def wp_X4_many (kk : Nat) (ns : List Nat) (tc : g_TC) (Q : Int32 → Prop) : Prop := (wp_J10_iterator_A ns (∃ f10, wb_X4_many_10 kk tc ns Q f10 0 0))
set_option maxHeartbeats 4000000 in
set_option maxRecDepth 100000 in
theorem met_X4_many (l : Launch) (hl0 : l.stackTraces = false) (d : g_D) (ob : Nat) (kk : Nat) (tn : Nat → Nat) (rk : Nat) (na : Nat) (va : Nat) (nb : Nat) (ns : List Nat) (tl : Nat → Nat) (tr : Nat → Nat) (tc : g_TC) (Q : Int32 → Prop) (hw : wp_X4_many kk ns tc Q) : g_Met l d yX4_many cX4_many 5 (Option.some FieldType.int) ({ frames := 3, cells := 1, slots := 4, locals := 53 } : Room) [.ref ob, .ref (d.2.2 kk)] [[(ob, .inr (4, [.ref (tn rk), .ref na, .ref va]))], (g_AL d na nb tn ns), (g_T d tn tl tr tc)] 1 4 (fun v w1 => ∃ (r : Int32), v = some (.int r) ∧ w1 = [[(ob, .inr (4, [.ref (tn rk), .ref na, .ref va]))], (g_AL d na nb tn ns), (g_T d tn tl tr tc)] ∧ Q r) := by
  refine g_enter (by decide) (Nat.le_of_ble_eq_true rfl) ?_
  intro p e s m args below meth c A ls hF hH hl hin
  have hF : g_F p m c cX4_many 5 s args RX4 meth (Option.some FieldType.int) := hF
  have hl : lv_has ls 5 [(0, .ref ob), (1, .ref (d.2.2 kk))] := hl
  have bk_10 : ∀ (fu : Nat) (q_1 : Nat) (x2 : Int32) (v_q_1 : Nat) (H : Heap) (locs : List Loc) (ls : Array Slot), g_HS d A s [[(ob, .inr (4, [.ref (tn rk), .ref na, .ref va]))], (g_T d tn tl tr tc), (g_AL d na nb tn ns), (g_IT d q_1 na v_q_1 ns.length)] H locs → lv_has ls 5 [(1, .ref (d.2.2 kk)), (2, .int x2), (3, .ref q_1)] → wb_X4_many_10 kk tc ns Q fu x2 v_q_1 → W p l e ({ frames := 3, cells := 1, slots := 4, locals := 53 } : Room) s m args below meth c H locs 1 4 (g_E d (fun v w1 => ∃ (r : Int32), v = some (.int r) ∧ w1 = [[(ob, .inr (4, [.ref (tn rk), .ref na, .ref va]))], (g_AL d na nb tn ns), (g_T d tn tl tr tc)] ∧ Q r) A below args s 1 4) (F0 m 10 ls []) := by
    intro fu
    induction fu with
    | zero => intro q_1 x2 v_q_1 H locs ls hH hl hw; rw [wb_X4_many_10] at hw; exact hw.elim
    | succ fu ih =>
      intro q_1 x2 v_q_1 H locs ls hH hl hw
      rw [wb_X4_many_10] at hw
      refine lv_aload_n hF.1.1 hF.1.2.1 dX4_many_10 rfl (lv_at hl 2 rfl) ?_
      refine g_cF (x := ⟨"java/util/Iterator", "hasNext", "()Z"⟩) (C := "java/util/ArrayList$Itr") [] 0 rfl hF (met_J16_hasNext_A l hl0 d q_1 v_q_1 na nb tn ns _ hw) q653 (g_fwH hH) q657 q659 q118 q661 rfl rfl (by decide +kernel) ⟨Nat.le_of_ble_eq_true rfl, Nat.le_of_ble_eq_true rfl⟩ hH [3, 2] rfl rfl rfl 0 0 rfl rfl rfl hl.1 (Nat.le_of_ble_eq_true rfl) dX4_many_11 ⟨(by first | exact Nat.le_of_ble_eq_true rfl | omega | (dsimp only; omega)), (by first | exact Nat.le_of_ble_eq_true rfl | omega | (dsimp only; omega))⟩ (fun v w1 H locs hq hH => ?_)
      obtain ⟨r_11, rfl, rfl, hw⟩ := hq
      have hH : g_HS d A s [[(ob, .inr (4, [.ref (tn rk), .ref na, .ref va]))], (g_T d tn tl tr tc), (g_IT d q_1 na v_q_1 ns.length), (g_AL d na nb tn ns)] H locs := hH
      refine W.eq (g2 := (F0 m 16 ls [.int r_11])) rfl ?_
      refine lv_if_eq (tgt := 50) hF.1.1 hF.1.2.1 dX4_many_16 (by decide) (fun c_12 => ?_) (fun c_12 => ?_)
      · have hw := hw.1 c_12
        refine lv_iload_n hF.1.1 hF.1.2.1 dX4_many_50 rfl (lv_at hl 1 rfl) ?_
        have hH := hH.sub (cs' := [[(ob, .inr (4, [.ref (tn rk), .ref na, .ref va]))], (g_AL d na nb tn ns), (g_T d tn tl tr tc)]) [0, 3, 1] rfl rfl
        exact g_iret hF hH ⟨x2, rfl, rfl, hw⟩ dX4_many_51
      · have hw := hw.2 c_12
        refine lv_aload_n hF.1.1 hF.1.2.1 dX4_many_19 rfl (lv_at hl 2 rfl) ?_
        refine g_cF (x := ⟨"java/util/Iterator", "next", "()Ljava/lang/Object;"⟩) (C := "java/util/ArrayList$Itr") [] 0 rfl hF (met_J16_next_A l hl0 d q_1 v_q_1 na nb tn ns _ hw) q663 (g_fwN hH) q666 q668 q118 q670 rfl rfl (by decide +kernel) ⟨Nat.le_of_ble_eq_true rfl, Nat.le_of_ble_eq_true rfl⟩ hH [2, 3] rfl rfl rfl 0 0 rfl rfl rfl hl.1 (Nat.le_of_ble_eq_true rfl) dX4_many_20 ⟨(by first | exact Nat.le_of_ble_eq_true rfl | omega | (dsimp only; omega)), (by first | exact Nat.le_of_ble_eq_true rfl | omega | (dsimp only; omega))⟩ (fun v w1 H locs hq hH => ?_)
        obtain ⟨q_13, rfl, rfl, hw⟩ := hq
        have hH : g_HS d A s [[(ob, .inr (4, [.ref (tn rk), .ref na, .ref va]))], (g_T d tn tl tr tc), (g_IT d q_1 na (v_q_1 + 1) ns.length), (g_AL d na nb tn ns)] H locs := hH
        refine W.eq (g2 := (F0 m 25 ls [.ref (tn q_13)])) rfl ?_
        obtain ⟨hk_14, hw⟩ := hw
        refine g_tcT hF hH 1 rfl hk_14 q618 dX4_many_25 ?_
        refine lv_astore (lv' := [(4, .ref (tn q_13)), (1, .ref (d.2.2 kk)), (2, .int x2), (3, .ref q_1)]) hF.1.1 hF.1.2.1 dX4_many_28 hl (by decide) rfl (fun ls hl => ?_)
        refine lv_iload_n hF.1.1 hF.1.2.1 dX4_many_30 rfl (lv_at hl 2 rfl) ?_
        refine lv_aload hF.1.1 hF.1.2.1 dX4_many_31 (lv_at hl 0 rfl) ?_
        obtain ⟨hk_16, hw⟩ := hw
        refine g_tkind hl0 hF hH 1 rfl hk_16 q728 hl.1 (Nat.le_of_ble_eq_true rfl) dX4_many_33 (Nat.le_of_ble_eq_true rfl) (Nat.le_of_ble_eq_true rfl) (by first | exact Nat.le_of_ble_eq_true rfl | omega | (dsimp only; omega)) (by first | exact Nat.le_of_ble_eq_true rfl | omega | (dsimp only; omega)) (fun H locs hH => ?_)
        have hH : g_HS d A s [[(ob, .inr (4, [.ref (tn rk), .ref na, .ref va]))], (g_T d tn tl tr tc), (g_IT d q_1 na (v_q_1 + 1) ns.length), (g_AL d na nb tn ns)] H locs := hH
        refine W.eq (g2 := (F0 m 36 ls [.ref (d.2.2 (tc.2.2.1 q_13)), .int x2])) rfl ?_
        refine lv_aload_n hF.1.1 hF.1.2.1 dX4_many_36 rfl (lv_at hl 1 rfl) ?_
        obtain ⟨hk_17, hk_19, hw⟩ := hw
        refine lv_acmp_ne (rx := (some (d.2.2 (tc.2.2.1 q_13)))) (ry := (some (d.2.2 kk))) (tgt := 44) hF.1.1 hF.1.2.1 dX4_many_37 (by decide) (fun c_18 => ?_) (fun c_18 => ?_)
        · have hw := hw.2 (fun z => c_18 (by rw [z]))
          refine lv_iconst (v := 0) hF.1.1 hF.1.2.1 dX4_many_44 (by decide) ?_
          refine lv_iadd hF.1.1 hF.1.2.1 dX4_many_45 ?_
          refine lv_istore_n (lv' := [(2, .int (x2 + 0)), (4, .ref (tn q_13)), (1, .ref (d.2.2 kk)), (3, .ref q_1)]) hF.1.1 hF.1.2.1 dX4_many_46 rfl hl (by decide) rfl (fun ls hl => ?_)
          refine lv_goto (tgt := 10) hF.1.1 hF.1.2.1 dX4_many_47 (by decide) ?_
          have hH := hH.sub (cs' := [[(ob, .inr (4, [.ref (tn rk), .ref na, .ref va]))], (g_T d tn tl tr tc), (g_AL d na nb tn ns), (g_IT d q_1 na (v_q_1 + 1) ns.length)]) [0, 1, 3, 2] rfl rfl
          have hl := lv_sub hl (l' := [(1, .ref (d.2.2 kk)), (2, .int (x2 + 0)), (3, .ref q_1)]) [2, 0, 3] rfl
          exact ih q_1 (x2 + 0) (v_q_1 + 1) _ _ _ hH hl hw
        · have hw := hw.1 (hH.2.2.2.2.2.2.2.1 (tc.2.2.1 q_13) kk hk_17 hk_19 (Option.some.inj c_18))
          refine lv_iconst (v := 1) hF.1.1 hF.1.2.1 dX4_many_40 (by decide) ?_
          refine lv_goto (tgt := 45) hF.1.1 hF.1.2.1 dX4_many_41 (by decide) ?_
          refine lv_iadd hF.1.1 hF.1.2.1 dX4_many_45 ?_
          refine lv_istore_n (lv' := [(2, .int (x2 + 1)), (4, .ref (tn q_13)), (1, .ref (d.2.2 kk)), (3, .ref q_1)]) hF.1.1 hF.1.2.1 dX4_many_46 rfl hl (by decide) rfl (fun ls hl => ?_)
          refine lv_goto (tgt := 10) hF.1.1 hF.1.2.1 dX4_many_47 (by decide) ?_
          have hH := hH.sub (cs' := [[(ob, .inr (4, [.ref (tn rk), .ref na, .ref va]))], (g_T d tn tl tr tc), (g_AL d na nb tn ns), (g_IT d q_1 na (v_q_1 + 1) ns.length)]) [0, 1, 3, 2] rfl rfl
          have hl := lv_sub hl (l' := [(1, .ref (d.2.2 kk)), (2, .int (x2 + 1)), (3, .ref q_1)]) [2, 0, 3] rfl
          exact ih q_1 (x2 + 1) (v_q_1 + 1) _ _ _ hH hl hw
  unfold wp_X4_many at hw
  refine lv_iconst (v := 0) hF.1.1 hF.1.2.1 dX4_many_0 (by decide) ?_
  refine lv_istore_n (lv' := [(2, .int 0), (0, .ref ob), (1, .ref (d.2.2 kk))]) hF.1.1 hF.1.2.1 dX4_many_1 rfl hl (by decide) rfl (fun ls hl => ?_)
  refine lv_aload_n hF.1.1 hF.1.2.1 dX4_many_2 rfl (lv_at hl 1 rfl) ?_
  refine g_get (v := .ref na) hF hH in_X4 rfl 0 0 rfl rfl 1 (by decide) q679 (fun _ h9 => h9) rfl dX4_many_3 ?_
  refine g_cVr [] 0 rfl hF (met_J10_iterator_B l hl0 d na nb tn ns _ hw) q629 q630 q631 q107 q632 rfl rfl (by decide +kernel) ⟨Nat.le_of_ble_eq_true rfl, Nat.le_of_ble_eq_true rfl⟩ hH [1] rfl rfl rfl (g_lrec hH 1 rfl) hl.1 (Nat.le_of_ble_eq_true rfl) dX4_many_6 ⟨(by first | exact Nat.le_of_ble_eq_true rfl | omega | (dsimp only; omega)), (by first | exact Nat.le_of_ble_eq_true rfl | omega | (dsimp only; omega))⟩ (fun v w1 H locs hq hH => ?_)
  obtain ⟨q_20, rfl, rfl, hw⟩ := hq
  have hH : g_HS d A s [[(ob, .inr (4, [.ref (tn rk), .ref na, .ref va]))], (g_T d tn tl tr tc), (g_AL d na nb tn ns), (g_IT d q_20 na 0 ns.length)] H locs := hH
  refine W.eq (g2 := (F0 m 9 ls [.ref q_20])) rfl ?_
  refine W.widen (k := 1) (n := 4) (by first | exact Nat.le_of_ble_eq_true rfl | omega | (dsimp only; omega)) (by first | exact Nat.le_of_ble_eq_true rfl | omega | (dsimp only; omega)) ?_
  refine lv_astore_n (lv' := [(3, .ref q_20), (2, .int 0), (0, .ref ob), (1, .ref (d.2.2 kk))]) hF.1.1 hF.1.2.1 dX4_many_9 rfl hl (by decide) rfl (fun ls hl => ?_)
  obtain ⟨f_21, hw⟩ := hw
  have hl := lv_sub hl (l' := [(1, .ref (d.2.2 kk)), (2, .int 0), (3, .ref q_20)]) [3, 1, 0] rfl
  exact bk_10 f_21 q_20 0 0 _ _ _ hH hl hw

def wb_X4_depth_10 (tc : g_TC) (ns : List Nat) (Q : Int32 → Prop) : Nat → Int32 → Nat → Prop
  | 0, _, _ => False
  | fu + 1, x1, v_q_1 => (wp_J16_hasNext_B v_q_1 ns (fun r_8 => ((r_8 = 0 → (Q x1)) ∧ (¬ r_8 = 0 → (wp_J16_next_A v_q_1 ns (fun q_10 => (q_10 ∈ tc.1 ∧ (q_10 ∈ tc.1 ∧ (wp_X5_depth q_10 tc (fun r_13 => (wb_X4_depth_10 tc ns Q fu) (if x1 < r_13 then r_13 else x1) (v_q_1 + 1)))))))))))
def wp_X4_depth (ns : List Nat) (tc : g_TC) (Q : Int32 → Prop) : Prop := (wp_J10_iterator_A ns (∃ f10, wb_X4_depth_10 tc ns Q f10 0 0))
set_option maxHeartbeats 4000000 in
set_option maxRecDepth 100000 in
theorem met_X4_depth (l : Launch) (hl0 : l.stackTraces = false) (d : g_D) (ob : Nat) (tn : Nat → Nat) (rk : Nat) (na : Nat) (va : Nat) (nb : Nat) (ns : List Nat) (tl : Nat → Nat) (tr : Nat → Nat) (tc : g_TC) (Q : Int32 → Prop) (hw : wp_X4_depth ns tc Q) : g_Met l d yX4_depth cX4_depth 4 (Option.some FieldType.int) ({ frames := 3, cells := 1, slots := 4, locals := 53 } : Room) [.ref ob] [[(ob, .inr (4, [.ref (tn rk), .ref na, .ref va]))], (g_AL d na nb tn ns), (g_T d tn tl tr tc)] 1 4 (fun v w1 => ∃ (r : Int32), v = some (.int r) ∧ w1 = [[(ob, .inr (4, [.ref (tn rk), .ref na, .ref va]))], (g_AL d na nb tn ns), (g_T d tn tl tr tc)] ∧ Q r) := by
  refine g_enter (by decide) (Nat.le_of_ble_eq_true rfl) ?_
  intro p e s m args below meth c A ls hF hH hl hin
  have hF : g_F p m c cX4_depth 4 s args RX4 meth (Option.some FieldType.int) := hF
  have hl : lv_has ls 4 [(0, .ref ob)] := hl
  have bk_10 : ∀ (fu : Nat) (q_1 : Nat) (x1 : Int32) (v_q_1 : Nat) (H : Heap) (locs : List Loc) (ls : Array Slot), g_HS d A s [[(ob, .inr (4, [.ref (tn rk), .ref na, .ref va]))], (g_T d tn tl tr tc), (g_AL d na nb tn ns), (g_IT d q_1 na v_q_1 ns.length)] H locs → lv_has ls 4 [(1, .int x1), (2, .ref q_1)] → wb_X4_depth_10 tc ns Q fu x1 v_q_1 → W p l e ({ frames := 3, cells := 1, slots := 4, locals := 53 } : Room) s m args below meth c H locs 1 4 (g_E d (fun v w1 => ∃ (r : Int32), v = some (.int r) ∧ w1 = [[(ob, .inr (4, [.ref (tn rk), .ref na, .ref va]))], (g_AL d na nb tn ns), (g_T d tn tl tr tc)] ∧ Q r) A below args s 1 4) (F0 m 10 ls []) := by
    intro fu
    induction fu with
    | zero => intro q_1 x1 v_q_1 H locs ls hH hl hw; rw [wb_X4_depth_10] at hw; exact hw.elim
    | succ fu ih =>
      intro q_1 x1 v_q_1 H locs ls hH hl hw
      rw [wb_X4_depth_10] at hw
      refine lv_aload_n hF.1.1 hF.1.2.1 dX4_depth_10 rfl (lv_at hl 1 rfl) ?_
      refine g_cF (x := ⟨"java/util/Iterator", "hasNext", "()Z"⟩) (C := "java/util/ArrayList$Itr") [] 0 rfl hF (met_J16_hasNext_A l hl0 d q_1 v_q_1 na nb tn ns _ hw) q653 (g_fwH hH) q657 q659 q118 q661 rfl rfl (by decide +kernel) ⟨Nat.le_of_ble_eq_true rfl, Nat.le_of_ble_eq_true rfl⟩ hH [3, 2] rfl rfl rfl 0 0 rfl rfl rfl hl.1 (Nat.le_of_ble_eq_true rfl) dX4_depth_11 ⟨(by first | exact Nat.le_of_ble_eq_true rfl | omega | (dsimp only; omega)), (by first | exact Nat.le_of_ble_eq_true rfl | omega | (dsimp only; omega))⟩ (fun v w1 H locs hq hH => ?_)
      obtain ⟨r_8, rfl, rfl, hw⟩ := hq
      have hH : g_HS d A s [[(ob, .inr (4, [.ref (tn rk), .ref na, .ref va]))], (g_T d tn tl tr tc), (g_IT d q_1 na v_q_1 ns.length), (g_AL d na nb tn ns)] H locs := hH
      refine W.eq (g2 := (F0 m 16 ls [.int r_8])) rfl ?_
      refine lv_if_eq (tgt := 41) hF.1.1 hF.1.2.1 dX4_depth_16 (by decide) (fun c_9 => ?_) (fun c_9 => ?_)
      · have hw := hw.1 c_9
        refine lv_iload_n hF.1.1 hF.1.2.1 dX4_depth_41 rfl (lv_at hl 0 rfl) ?_
        have hH := hH.sub (cs' := [[(ob, .inr (4, [.ref (tn rk), .ref na, .ref va]))], (g_AL d na nb tn ns), (g_T d tn tl tr tc)]) [0, 3, 1] rfl rfl
        exact g_iret hF hH ⟨x1, rfl, rfl, hw⟩ dX4_depth_42
      · have hw := hw.2 c_9
        refine lv_aload_n hF.1.1 hF.1.2.1 dX4_depth_19 rfl (lv_at hl 1 rfl) ?_
        refine g_cF (x := ⟨"java/util/Iterator", "next", "()Ljava/lang/Object;"⟩) (C := "java/util/ArrayList$Itr") [] 0 rfl hF (met_J16_next_A l hl0 d q_1 v_q_1 na nb tn ns _ hw) q663 (g_fwN hH) q666 q668 q118 q670 rfl rfl (by decide +kernel) ⟨Nat.le_of_ble_eq_true rfl, Nat.le_of_ble_eq_true rfl⟩ hH [2, 3] rfl rfl rfl 0 0 rfl rfl rfl hl.1 (Nat.le_of_ble_eq_true rfl) dX4_depth_20 ⟨(by first | exact Nat.le_of_ble_eq_true rfl | omega | (dsimp only; omega)), (by first | exact Nat.le_of_ble_eq_true rfl | omega | (dsimp only; omega))⟩ (fun v w1 H locs hq hH => ?_)
        obtain ⟨q_10, rfl, rfl, hw⟩ := hq
        have hH : g_HS d A s [[(ob, .inr (4, [.ref (tn rk), .ref na, .ref va]))], (g_T d tn tl tr tc), (g_IT d q_1 na (v_q_1 + 1) ns.length), (g_AL d na nb tn ns)] H locs := hH
        refine W.eq (g2 := (F0 m 25 ls [.ref (tn q_10)])) rfl ?_
        obtain ⟨hk_11, hw⟩ := hw
        refine g_tcT hF hH 1 rfl hk_11 q618 dX4_depth_25 ?_
        refine lv_astore_n (lv' := [(3, .ref (tn q_10)), (1, .int x1), (2, .ref q_1)]) hF.1.1 hF.1.2.1 dX4_depth_28 rfl hl (by decide) rfl (fun ls hl => ?_)
        refine lv_iload_n hF.1.1 hF.1.2.1 dX4_depth_29 rfl (lv_at hl 1 rfl) ?_
        refine lv_aload_n hF.1.1 hF.1.2.1 dX4_depth_30 rfl (lv_at hl 0 rfl) ?_
        obtain ⟨hk_C, hw⟩ := hw
        obtain ⟨C9, hrv, hsl⟩ := g_trs hF hH 1 rfl hk_C q746 q745
        refine g_cG (x := ⟨"GraphModules$Tree", "depth", "()I"⟩) (owner := "GraphModules$Tree") [] 0 rfl hF (met_X5_depth l hl0 d tn q_10 tl tr tc _ hw) q742 q744 (va_Decl.of (hF.1.2.2.2.2 _ q743) (hF.1.2.2.2.2 _ q747)) q743 q108 q747 rfl rfl (by decide +kernel) ⟨Nat.le_of_ble_eq_true rfl, Nat.le_of_ble_eq_true rfl⟩ hH [1] rfl rfl rfl (C := C9) hrv hsl hl.1 (Nat.le_of_ble_eq_true rfl) dX4_depth_31 ⟨(by first | exact Nat.le_of_ble_eq_true rfl | omega | (dsimp only; omega)), (by first | exact Nat.le_of_ble_eq_true rfl | omega | (dsimp only; omega))⟩ (fun v w1 H locs hq hH => ?_)
        obtain ⟨r_13, rfl, rfl, hw⟩ := hq
        have hH : g_HS d A s [[(ob, .inr (4, [.ref (tn rk), .ref na, .ref va]))], (g_IT d q_1 na (v_q_1 + 1) ns.length), (g_AL d na nb tn ns), (g_T d tn tl tr tc)] H locs := hH
        refine W.eq (g2 := (F0 m 34 ls [.int r_13, .int x1])) rfl ?_
        refine va_mmax hF.1.1 hF.1.2.1 (hF.1.2.2.1.trans hl.1.symm) hF.1.2.2.2.1 (hF.1.2.2.2.2 _ q748) (hF.1.2.2.2.2 _ q550) (hF.1.2.2.2.2 _ q102) (hF.1.2.2.2.2 _ q551) (Nat.le_of_ble_eq_true rfl) (Nat.le_of_ble_eq_true rfl) (by first | exact Nat.le_of_ble_eq_true rfl | omega | (dsimp only; omega)) (by first | exact Nat.le_of_ble_eq_true rfl | omega | (dsimp only; omega)) dX4_depth_34 ?_
        refine lv_istore_n (lv' := [(1, .int (if x1 < r_13 then r_13 else x1)), (3, .ref (tn q_10)), (2, .ref q_1)]) hF.1.1 hF.1.2.1 dX4_depth_37 rfl hl (by decide) rfl (fun ls hl => ?_)
        refine lv_goto (tgt := 10) hF.1.1 hF.1.2.1 dX4_depth_38 (by decide) ?_
        have hH := hH.sub (cs' := [[(ob, .inr (4, [.ref (tn rk), .ref na, .ref va]))], (g_T d tn tl tr tc), (g_AL d na nb tn ns), (g_IT d q_1 na (v_q_1 + 1) ns.length)]) [0, 3, 2, 1] rfl rfl
        have hl := lv_sub hl (l' := [(1, .int (if x1 < r_13 then r_13 else x1)), (2, .ref q_1)]) [0, 2] rfl
        exact ih q_1 (if x1 < r_13 then r_13 else x1) (v_q_1 + 1) _ _ _ hH hl hw
  unfold wp_X4_depth at hw
  refine lv_iconst (v := 0) hF.1.1 hF.1.2.1 dX4_depth_0 (by decide) ?_
  refine lv_istore_n (lv' := [(1, .int 0), (0, .ref ob)]) hF.1.1 hF.1.2.1 dX4_depth_1 rfl hl (by decide) rfl (fun ls hl => ?_)
  refine lv_aload_n hF.1.1 hF.1.2.1 dX4_depth_2 rfl (lv_at hl 1 rfl) ?_
  refine g_get (v := .ref na) hF hH in_X4 rfl 0 0 rfl rfl 1 (by decide) q679 (fun _ h9 => h9) rfl dX4_depth_3 ?_
  refine g_cVr [] 0 rfl hF (met_J10_iterator_B l hl0 d na nb tn ns _ hw) q629 q630 q631 q107 q632 rfl rfl (by decide +kernel) ⟨Nat.le_of_ble_eq_true rfl, Nat.le_of_ble_eq_true rfl⟩ hH [1] rfl rfl rfl (g_lrec hH 1 rfl) hl.1 (Nat.le_of_ble_eq_true rfl) dX4_depth_6 ⟨(by first | exact Nat.le_of_ble_eq_true rfl | omega | (dsimp only; omega)), (by first | exact Nat.le_of_ble_eq_true rfl | omega | (dsimp only; omega))⟩ (fun v w1 H locs hq hH => ?_)
  obtain ⟨q_14, rfl, rfl, hw⟩ := hq
  have hH : g_HS d A s [[(ob, .inr (4, [.ref (tn rk), .ref na, .ref va]))], (g_T d tn tl tr tc), (g_AL d na nb tn ns), (g_IT d q_14 na 0 ns.length)] H locs := hH
  refine W.eq (g2 := (F0 m 9 ls [.ref q_14])) rfl ?_
  refine W.widen (k := 1) (n := 4) (by first | exact Nat.le_of_ble_eq_true rfl | omega | (dsimp only; omega)) (by first | exact Nat.le_of_ble_eq_true rfl | omega | (dsimp only; omega)) ?_
  refine lv_astore_n (lv' := [(2, .ref q_14), (1, .int 0), (0, .ref ob)]) hF.1.1 hF.1.2.1 dX4_depth_9 rfl hl (by decide) rfl (fun ls hl => ?_)
  obtain ⟨f_15, hw⟩ := hw
  have hl := lv_sub hl (l' := [(1, .int 0), (2, .ref q_14)]) [1, 0] rfl
  exact bk_10 f_15 q_14 0 0 _ _ _ hH hl hw

def wb_X4_modules_2_137 (a2 : Int32) (k : Nat) (ns : List Nat) (tc : g_TC) (x4 : Int32) (K38 : Int32 → Int32 → Prop) (Q : Int32 → Prop) (x6 : Int32) (y0 : Int32) (y1 : Int32) : Prop := K38 (y0 + y1) (x6 + 1)
def wb_X4_modules_2_136 (a2 : Int32) (k : Nat) (ns : List Nat) (tc : g_TC) (x4 : Int32) (K38 : Int32 → Int32 → Prop) (Q : Int32 → Prop) (x6 : Int32) (y0 : Int32) : Prop := (wb_X4_modules_2_137 a2 k ns tc x4 K38 Q x6 y0 0)
def wb_X4_modules_2_132 (a2 : Int32) (k : Nat) (ns : List Nat) (tc : g_TC) (x4 : Int32) (K38 : Int32 → Int32 → Prop) (Q : Int32 → Prop) (x6 : Int32) (y0 : Int32) : Prop := (wb_X4_modules_2_137 a2 k ns tc x4 K38 Q x6 y0 1)
def wb_X4_modules_2_94 (a2 : Int32) (k : Nat) (ns : List Nat) (tc : g_TC) (x4 : Int32) (x5 : Int32) (x6 : Int32) (K38 : Int32 → Int32 → Prop) (K53 : Int32 → Int32 → Prop) (Q : Int32 → Prop) (x8 : Int32) (y0 : Int32) (y1 : Int32) : Prop := K53 (y0 + y1) (x8 + 1)
def wb_X4_modules_2_53 (a2 : Int32) (k : Nat) (ns : List Nat) (tc : g_TC) (x4 : Int32) (x5 : Int32) (x6 : Int32) (K38 : Int32 → Int32 → Prop) (Q : Int32 → Prop) : Nat → Int32 → Int32 → Prop
  | 0, _, _ => False
  | fu + 1, x7, x8 => ((x4 ≤ x8 → (k ∈ tc.1 ∧ tc.2.2.1 k ≠ 0 ∧ (wp_J7_bitCount x6 (fun r_32 => ((tc.2.2.1 k) < 4 ∧ wp_K_isModule (tc.2.2.1 k) r_32 x4 (fun r_34 => ((r_34 = 0 → (wb_X4_modules_2_136 a2 k ns tc x4 K38 Q x6 x5)) ∧ (¬ r_34 = 0 → ((a2 = 0 → (wb_X4_modules_2_132 a2 k ns tc x4 K38 Q x6 x5)) ∧ (¬ a2 = 0 → ((¬ x7 = a2 → (wb_X4_modules_2_136 a2 k ns tc x4 K38 Q x6 x5)) ∧ (x7 = a2 → (wb_X4_modules_2_132 a2 k ns tc x4 K38 Q x6 x5))))))))))))) ∧ (¬ x4 ≤ x8 → (wp_X0_has x6 x8 (fun r_38 => ((r_38 = 0 → (wb_X4_modules_2_94 a2 k ns tc x4 x5 x6 K38 (wb_X4_modules_2_53 a2 k ns tc x4 x5 x6 K38 Q fu) Q x8 x7 0)) ∧ (¬ r_38 = 0 → (k ∈ tc.1 ∧ tc.2.2.1 k ≠ 0 ∧ (wp_J10_get_T x8 tc k (fun q_42 => (q_42 ∈ tc.1 ∧ (q_42 ∈ tc.1 ∧ (wp_J7_bitCount (nI q_42) (fun r_47 => (wb_X4_modules_2_94 a2 k ns tc x4 x5 x6 K38 (wb_X4_modules_2_53 a2 k ns tc x4 x5 x6 K38 Q fu) Q x8 x7 r_47))))))))))))))
def wb_X4_modules_2_38 (a2 : Int32) (k : Nat) (ns : List Nat) (tc : g_TC) (x4 : Int32) (Q : Int32 → Prop) : Nat → Int32 → Int32 → Prop
  | 0, _, _ => False
  | fu + 1, x5, x6 => ((((1 : Int32) <<< (x4 &&& 31)) ≤ x6 → (Q x5)) ∧ (¬ ((1 : Int32) <<< (x4 &&& 31)) ≤ x6 → (∃ f53, wb_X4_modules_2_53 a2 k ns tc x4 x5 x6 (wb_X4_modules_2_38 a2 k ns tc x4 Q fu) Q f53 0 0)))
def wp_X4_modules_2 (k : Nat) (a2 : Int32) (ns : List Nat) (tc : g_TC) (Q : Int32 → Prop) : Prop := (k ∈ tc.1 ∧ (tc.2.2.1 k = 0 → ((2 ≤ a2 → (Q 0)) ∧ (¬ 2 ≤ a2 → (Q 1)))) ∧ (tc.2.2.1 k ≠ 0 → (k ∈ tc.1 ∧ tc.2.2.1 k ≠ 0 ∧ (k ∈ tc.1 ∧ tc.2.2.1 k ≠ 0 ∧ (wp_J10_size_T tc k (fun r_57 => (∃ f38, wb_X4_modules_2_38 a2 k ns tc r_57 Q f38 0 1)))))))
set_option maxHeartbeats 4000000 in
set_option maxRecDepth 100000 in
theorem met_X4_modules_2 (l : Launch) (hl0 : l.stackTraces = false) (d : g_D) (ob : Nat) (tn : Nat → Nat) (k : Nat) (a2 : Int32) (rk : Nat) (na : Nat) (va : Nat) (nb : Nat) (ns : List Nat) (tl : Nat → Nat) (tr : Nat → Nat) (tc : g_TC) (Q : Int32 → Prop) (hw : wp_X4_modules_2 k a2 ns tc Q) : g_Met l d yX4_modules_2 cX4_modules_2 9 (Option.some FieldType.int) ({ frames := 3, cells := 0, slots := 0, locals := 82 } : Room) [.ref ob, .ref (tn k), .int a2] [[(ob, .inr (4, [.ref (tn rk), .ref na, .ref va]))], (g_AL d na nb tn ns), (g_T d tn tl tr tc)] 0 0 (fun v w1 => ∃ (r : Int32), v = some (.int r) ∧ w1 = [[(ob, .inr (4, [.ref (tn rk), .ref na, .ref va]))], (g_AL d na nb tn ns), (g_T d tn tl tr tc)] ∧ Q r) := by
  refine g_enter (by decide) (Nat.le_of_ble_eq_true rfl) ?_
  intro p e s m args below meth c A ls hF hH hl hin
  have hF : g_F p m c cX4_modules_2 9 s args RX4 meth (Option.some FieldType.int) := hF
  have hl : lv_has ls 9 [(0, .ref ob), (1, .ref (tn k)), (2, .int a2)] := hl
  have bk_137 : ∀ (x4 : Int32) (K38 : Int32 → Int32 → Prop) (hK38 : ∀ (x5 : Int32) (x6 : Int32) (H : Heap) (locs : List Loc) (ls : Array Slot), g_HS d A s [[(ob, .inr (4, [.ref (tn rk), .ref na, .ref va]))], (g_AL d na nb tn ns), (g_T d tn tl tr tc)] H locs → lv_has ls 9 [(2, .int a2), (3, .ref (tn k)), (4, .int x4), (5, .int x5), (6, .int x6)] → K38 x5 x6 → W p l e ({ frames := 3, cells := 0, slots := 0, locals := 82 } : Room) s m args below meth c H locs 0 0 (g_E d (fun v w1 => ∃ (r : Int32), v = some (.int r) ∧ w1 = [[(ob, .inr (4, [.ref (tn rk), .ref na, .ref va]))], (g_AL d na nb tn ns), (g_T d tn tl tr tc)] ∧ Q r) A below args s 0 0) (F0 m 38 ls [])) (x6 : Int32) (y0 : Int32) (y1 : Int32) (H : Heap) (locs : List Loc) (ls : Array Slot), g_HS d A s [[(ob, .inr (4, [.ref (tn rk), .ref na, .ref va]))], (g_AL d na nb tn ns), (g_T d tn tl tr tc)] H locs → lv_has ls 9 [(2, .int a2), (3, .ref (tn k)), (4, .int x4), (6, .int x6)] → wb_X4_modules_2_137 a2 k ns tc x4 K38 Q x6 y0 y1 → W p l e ({ frames := 3, cells := 0, slots := 0, locals := 82 } : Room) s m args below meth c H locs 0 0 (g_E d (fun v w1 => ∃ (r : Int32), v = some (.int r) ∧ w1 = [[(ob, .inr (4, [.ref (tn rk), .ref na, .ref va]))], (g_AL d na nb tn ns), (g_T d tn tl tr tc)] ∧ Q r) A below args s 0 0) (F0 m 137 ls [.int y1, .int y0]) := by
    intro x4 K38 hK38 x6 y0 y1 H locs ls hH hl hw
    unfold wb_X4_modules_2_137 at hw
    refine lv_iadd hF.1.1 hF.1.2.1 dX4_modules_2_137 ?_
    refine lv_istore (lv' := [(5, .int (y0 + y1)), (2, .int a2), (3, .ref (tn k)), (4, .int x4), (6, .int x6)]) hF.1.1 hF.1.2.1 dX4_modules_2_138 hl (by decide) rfl (fun ls hl => ?_)
    refine lv_iinc (v := (x6 + 1)) (lv' := [(6, .int (x6 + 1)), (5, .int (y0 + y1)), (2, .int a2), (3, .ref (tn k)), (4, .int x4)]) hF.1.1 hF.1.2.1 dX4_modules_2_140 hl (k := 4) rfl rfl (by decide) rfl (fun ls hl => ?_)
    refine lv_goto (tgt := 38) hF.1.1 hF.1.2.1 dX4_modules_2_143 (by decide) ?_
    have hl := lv_sub hl (l' := [(2, .int a2), (3, .ref (tn k)), (4, .int x4), (5, .int (y0 + y1)), (6, .int (x6 + 1))]) [2, 3, 4, 1, 0] rfl
    exact hK38 (y0 + y1) (x6 + 1) _ _ _ hH hl hw
  have bk_136 : ∀ (x4 : Int32) (K38 : Int32 → Int32 → Prop) (hK38 : ∀ (x5 : Int32) (x6 : Int32) (H : Heap) (locs : List Loc) (ls : Array Slot), g_HS d A s [[(ob, .inr (4, [.ref (tn rk), .ref na, .ref va]))], (g_AL d na nb tn ns), (g_T d tn tl tr tc)] H locs → lv_has ls 9 [(2, .int a2), (3, .ref (tn k)), (4, .int x4), (5, .int x5), (6, .int x6)] → K38 x5 x6 → W p l e ({ frames := 3, cells := 0, slots := 0, locals := 82 } : Room) s m args below meth c H locs 0 0 (g_E d (fun v w1 => ∃ (r : Int32), v = some (.int r) ∧ w1 = [[(ob, .inr (4, [.ref (tn rk), .ref na, .ref va]))], (g_AL d na nb tn ns), (g_T d tn tl tr tc)] ∧ Q r) A below args s 0 0) (F0 m 38 ls [])) (x6 : Int32) (y0 : Int32) (H : Heap) (locs : List Loc) (ls : Array Slot), g_HS d A s [[(ob, .inr (4, [.ref (tn rk), .ref na, .ref va]))], (g_AL d na nb tn ns), (g_T d tn tl tr tc)] H locs → lv_has ls 9 [(2, .int a2), (3, .ref (tn k)), (4, .int x4), (6, .int x6)] → wb_X4_modules_2_136 a2 k ns tc x4 K38 Q x6 y0 → W p l e ({ frames := 3, cells := 0, slots := 0, locals := 82 } : Room) s m args below meth c H locs 0 0 (g_E d (fun v w1 => ∃ (r : Int32), v = some (.int r) ∧ w1 = [[(ob, .inr (4, [.ref (tn rk), .ref na, .ref va]))], (g_AL d na nb tn ns), (g_T d tn tl tr tc)] ∧ Q r) A below args s 0 0) (F0 m 136 ls [.int y0]) := by
    intro x4 K38 hK38 x6 y0 H locs ls hH hl hw
    unfold wb_X4_modules_2_136 at hw
    refine lv_iconst (v := 0) hF.1.1 hF.1.2.1 dX4_modules_2_136 (by decide) ?_
    exact bk_137 x4 K38 hK38 x6 y0 0 _ _ _ hH hl hw
  have bk_132 : ∀ (x4 : Int32) (K38 : Int32 → Int32 → Prop) (hK38 : ∀ (x5 : Int32) (x6 : Int32) (H : Heap) (locs : List Loc) (ls : Array Slot), g_HS d A s [[(ob, .inr (4, [.ref (tn rk), .ref na, .ref va]))], (g_AL d na nb tn ns), (g_T d tn tl tr tc)] H locs → lv_has ls 9 [(2, .int a2), (3, .ref (tn k)), (4, .int x4), (5, .int x5), (6, .int x6)] → K38 x5 x6 → W p l e ({ frames := 3, cells := 0, slots := 0, locals := 82 } : Room) s m args below meth c H locs 0 0 (g_E d (fun v w1 => ∃ (r : Int32), v = some (.int r) ∧ w1 = [[(ob, .inr (4, [.ref (tn rk), .ref na, .ref va]))], (g_AL d na nb tn ns), (g_T d tn tl tr tc)] ∧ Q r) A below args s 0 0) (F0 m 38 ls [])) (x6 : Int32) (y0 : Int32) (H : Heap) (locs : List Loc) (ls : Array Slot), g_HS d A s [[(ob, .inr (4, [.ref (tn rk), .ref na, .ref va]))], (g_AL d na nb tn ns), (g_T d tn tl tr tc)] H locs → lv_has ls 9 [(2, .int a2), (3, .ref (tn k)), (4, .int x4), (6, .int x6)] → wb_X4_modules_2_132 a2 k ns tc x4 K38 Q x6 y0 → W p l e ({ frames := 3, cells := 0, slots := 0, locals := 82 } : Room) s m args below meth c H locs 0 0 (g_E d (fun v w1 => ∃ (r : Int32), v = some (.int r) ∧ w1 = [[(ob, .inr (4, [.ref (tn rk), .ref na, .ref va]))], (g_AL d na nb tn ns), (g_T d tn tl tr tc)] ∧ Q r) A below args s 0 0) (F0 m 132 ls [.int y0]) := by
    intro x4 K38 hK38 x6 y0 H locs ls hH hl hw
    unfold wb_X4_modules_2_132 at hw
    refine lv_iconst (v := 1) hF.1.1 hF.1.2.1 dX4_modules_2_132 (by decide) ?_
    refine lv_goto (tgt := 137) hF.1.1 hF.1.2.1 dX4_modules_2_133 (by decide) ?_
    exact bk_137 x4 K38 hK38 x6 y0 1 _ _ _ hH hl hw
  have bk_94 : ∀ (x4 : Int32) (x5 : Int32) (x6 : Int32) (K38 : Int32 → Int32 → Prop) (hK38 : ∀ (x5 : Int32) (x6 : Int32) (H : Heap) (locs : List Loc) (ls : Array Slot), g_HS d A s [[(ob, .inr (4, [.ref (tn rk), .ref na, .ref va]))], (g_AL d na nb tn ns), (g_T d tn tl tr tc)] H locs → lv_has ls 9 [(2, .int a2), (3, .ref (tn k)), (4, .int x4), (5, .int x5), (6, .int x6)] → K38 x5 x6 → W p l e ({ frames := 3, cells := 0, slots := 0, locals := 82 } : Room) s m args below meth c H locs 0 0 (g_E d (fun v w1 => ∃ (r : Int32), v = some (.int r) ∧ w1 = [[(ob, .inr (4, [.ref (tn rk), .ref na, .ref va]))], (g_AL d na nb tn ns), (g_T d tn tl tr tc)] ∧ Q r) A below args s 0 0) (F0 m 38 ls [])) (K53 : Int32 → Int32 → Prop) (hK53 : ∀ (x7 : Int32) (x8 : Int32) (H : Heap) (locs : List Loc) (ls : Array Slot), g_HS d A s [[(ob, .inr (4, [.ref (tn rk), .ref na, .ref va]))], (g_AL d na nb tn ns), (g_T d tn tl tr tc)] H locs → lv_has ls 9 [(2, .int a2), (3, .ref (tn k)), (4, .int x4), (5, .int x5), (6, .int x6), (7, .int x7), (8, .int x8)] → K53 x7 x8 → W p l e ({ frames := 3, cells := 0, slots := 0, locals := 82 } : Room) s m args below meth c H locs 0 0 (g_E d (fun v w1 => ∃ (r : Int32), v = some (.int r) ∧ w1 = [[(ob, .inr (4, [.ref (tn rk), .ref na, .ref va]))], (g_AL d na nb tn ns), (g_T d tn tl tr tc)] ∧ Q r) A below args s 0 0) (F0 m 53 ls [])) (x8 : Int32) (y0 : Int32) (y1 : Int32) (H : Heap) (locs : List Loc) (ls : Array Slot), g_HS d A s [[(ob, .inr (4, [.ref (tn rk), .ref na, .ref va]))], (g_AL d na nb tn ns), (g_T d tn tl tr tc)] H locs → lv_has ls 9 [(2, .int a2), (3, .ref (tn k)), (4, .int x4), (5, .int x5), (6, .int x6), (8, .int x8)] → wb_X4_modules_2_94 a2 k ns tc x4 x5 x6 K38 K53 Q x8 y0 y1 → W p l e ({ frames := 3, cells := 0, slots := 0, locals := 82 } : Room) s m args below meth c H locs 0 0 (g_E d (fun v w1 => ∃ (r : Int32), v = some (.int r) ∧ w1 = [[(ob, .inr (4, [.ref (tn rk), .ref na, .ref va]))], (g_AL d na nb tn ns), (g_T d tn tl tr tc)] ∧ Q r) A below args s 0 0) (F0 m 94 ls [.int y1, .int y0]) := by
    intro x4 x5 x6 K38 hK38 K53 hK53 x8 y0 y1 H locs ls hH hl hw
    unfold wb_X4_modules_2_94 at hw
    refine lv_iadd hF.1.1 hF.1.2.1 dX4_modules_2_94 ?_
    refine lv_istore (lv' := [(7, .int (y0 + y1)), (2, .int a2), (3, .ref (tn k)), (4, .int x4), (5, .int x5), (6, .int x6), (8, .int x8)]) hF.1.1 hF.1.2.1 dX4_modules_2_95 hl (by decide) rfl (fun ls hl => ?_)
    refine lv_iinc (v := (x8 + 1)) (lv' := [(8, .int (x8 + 1)), (7, .int (y0 + y1)), (2, .int a2), (3, .ref (tn k)), (4, .int x4), (5, .int x5), (6, .int x6)]) hF.1.1 hF.1.2.1 dX4_modules_2_97 hl (k := 6) rfl rfl (by decide) rfl (fun ls hl => ?_)
    refine lv_goto (tgt := 53) hF.1.1 hF.1.2.1 dX4_modules_2_100 (by decide) ?_
    have hl := lv_sub hl (l' := [(2, .int a2), (3, .ref (tn k)), (4, .int x4), (5, .int x5), (6, .int x6), (7, .int (y0 + y1)), (8, .int (x8 + 1))]) [2, 3, 4, 5, 6, 1, 0] rfl
    exact hK53 (y0 + y1) (x8 + 1) _ _ _ hH hl hw
  have bk_53 : ∀ (x4 : Int32) (x5 : Int32) (x6 : Int32) (K38 : Int32 → Int32 → Prop) (hK38 : ∀ (x5 : Int32) (x6 : Int32) (H : Heap) (locs : List Loc) (ls : Array Slot), g_HS d A s [[(ob, .inr (4, [.ref (tn rk), .ref na, .ref va]))], (g_AL d na nb tn ns), (g_T d tn tl tr tc)] H locs → lv_has ls 9 [(2, .int a2), (3, .ref (tn k)), (4, .int x4), (5, .int x5), (6, .int x6)] → K38 x5 x6 → W p l e ({ frames := 3, cells := 0, slots := 0, locals := 82 } : Room) s m args below meth c H locs 0 0 (g_E d (fun v w1 => ∃ (r : Int32), v = some (.int r) ∧ w1 = [[(ob, .inr (4, [.ref (tn rk), .ref na, .ref va]))], (g_AL d na nb tn ns), (g_T d tn tl tr tc)] ∧ Q r) A below args s 0 0) (F0 m 38 ls [])) (fu : Nat) (x7 : Int32) (x8 : Int32) (H : Heap) (locs : List Loc) (ls : Array Slot), g_HS d A s [[(ob, .inr (4, [.ref (tn rk), .ref na, .ref va]))], (g_AL d na nb tn ns), (g_T d tn tl tr tc)] H locs → lv_has ls 9 [(2, .int a2), (3, .ref (tn k)), (4, .int x4), (5, .int x5), (6, .int x6), (7, .int x7), (8, .int x8)] → wb_X4_modules_2_53 a2 k ns tc x4 x5 x6 K38 Q fu x7 x8 → W p l e ({ frames := 3, cells := 0, slots := 0, locals := 82 } : Room) s m args below meth c H locs 0 0 (g_E d (fun v w1 => ∃ (r : Int32), v = some (.int r) ∧ w1 = [[(ob, .inr (4, [.ref (tn rk), .ref na, .ref va]))], (g_AL d na nb tn ns), (g_T d tn tl tr tc)] ∧ Q r) A below args s 0 0) (F0 m 53 ls []) := by
    intro x4 x5 x6 K38 hK38 fu
    induction fu with
    | zero => intro x7 x8 H locs ls hH hl hw; rw [wb_X4_modules_2_53] at hw; exact hw.elim
    | succ fu ih =>
      intro x7 x8 H locs ls hH hl hw
      rw [wb_X4_modules_2_53] at hw
      refine lv_iload hF.1.1 hF.1.2.1 dX4_modules_2_53 (lv_at hl 6 rfl) ?_
      refine lv_iload hF.1.1 hF.1.2.1 dX4_modules_2_55 (lv_at hl 2 rfl) ?_
      refine lv_icmp_ge (tgt := 103) hF.1.1 hF.1.2.1 dX4_modules_2_57 (by decide) (fun c_29 => ?_) (fun c_29 => ?_)
      · have hw := hw.1 c_29
        refine lv_iload hF.1.1 hF.1.2.1 dX4_modules_2_103 (lv_at hl 3 rfl) ?_
        refine lv_aload_n hF.1.1 hF.1.2.1 dX4_modules_2_105 rfl (lv_at hl 1 rfl) ?_
        obtain ⟨hk_30, hk_31, hw⟩ := hw
        refine g_tkdN hF hH 2 rfl hk_30 hk_31 q501 dX4_modules_2_106 ?_
        refine lv_iload hF.1.1 hF.1.2.1 dX4_modules_2_109 (lv_at hl 4 rfl) ?_
        refine g_cS [.int x6] 1 rfl hF (met_J7_bitCount l hl0 d x6 _ hw) q700 q373 q103 q374 rfl rfl (by decide +kernel) ⟨Nat.le_of_ble_eq_true rfl, Nat.le_of_ble_eq_true rfl⟩ hH [] rfl rfl rfl hl.1 (Nat.le_of_ble_eq_true rfl) dX4_modules_2_111 ⟨(by first | exact Nat.le_of_ble_eq_true rfl | omega | (dsimp only; omega)), (by first | exact Nat.le_of_ble_eq_true rfl | omega | (dsimp only; omega))⟩ (fun v w1 H locs hq hH => ?_)
        obtain ⟨r_32, rfl, rfl, hw⟩ := hq
        have hH : g_HS d A s [[(ob, .inr (4, [.ref (tn rk), .ref na, .ref va]))], (g_AL d na nb tn ns), (g_T d tn tl tr tc)] H locs := hH
        refine W.eq (g2 := (F0 m 114 ls [.int r_32, .ref (d.2.2 (tc.2.2.1 k)), .int x5])) rfl ?_
        refine lv_iload hF.1.1 hF.1.2.1 dX4_modules_2_114 (lv_at hl 2 rfl) ?_
        obtain ⟨hk_33, hw⟩ := hw
        refine g_cK_isModule hl0 hF hH hk_33 hw hl.1 (Nat.le_of_ble_eq_true rfl) dX4_modules_2_116 (Nat.le_of_ble_eq_true rfl) (Nat.le_of_ble_eq_true rfl) (by first | exact Nat.le_of_ble_eq_true rfl | omega | (dsimp only; omega)) (by first | exact Nat.le_of_ble_eq_true rfl | omega | (dsimp only; omega)) (fun r_34 H locs hw hH => ?_)
        have hH : g_HS d A s [[(ob, .inr (4, [.ref (tn rk), .ref na, .ref va]))], (g_AL d na nb tn ns), (g_T d tn tl tr tc)] H locs := hH
        refine W.eq (g2 := (F0 m 119 ls [.int r_34, .int x5])) rfl ?_
        refine lv_if_eq (tgt := 136) hF.1.1 hF.1.2.1 dX4_modules_2_119 (by decide) (fun c_35 => ?_) (fun c_35 => ?_)
        · have hw := hw.1 c_35
          have hl := lv_sub hl (l' := [(2, .int a2), (3, .ref (tn k)), (4, .int x4), (6, .int x6)]) [0, 1, 2, 4] rfl
          exact bk_136 x4 K38 hK38 x6 x5 _ _ _ hH hl hw
        · have hw := hw.2 c_35
          refine lv_iload_n hF.1.1 hF.1.2.1 dX4_modules_2_122 rfl (lv_at hl 0 rfl) ?_
          refine lv_if_eq (tgt := 132) hF.1.1 hF.1.2.1 dX4_modules_2_123 (by decide) (fun c_36 => ?_) (fun c_36 => ?_)
          · have hw := hw.1 c_36
            have hl := lv_sub hl (l' := [(2, .int a2), (3, .ref (tn k)), (4, .int x4), (6, .int x6)]) [0, 1, 2, 4] rfl
            exact bk_132 x4 K38 hK38 x6 x5 _ _ _ hH hl hw
          · have hw := hw.2 c_36
            refine lv_iload hF.1.1 hF.1.2.1 dX4_modules_2_126 (lv_at hl 5 rfl) ?_
            refine lv_iload_n hF.1.1 hF.1.2.1 dX4_modules_2_128 rfl (lv_at hl 0 rfl) ?_
            refine lv_icmp_ne (tgt := 136) hF.1.1 hF.1.2.1 dX4_modules_2_129 (by decide) (fun c_37 => ?_) (fun c_37 => ?_)
            · have hw := hw.1 c_37
              have hl := lv_sub hl (l' := [(2, .int a2), (3, .ref (tn k)), (4, .int x4), (6, .int x6)]) [0, 1, 2, 4] rfl
              exact bk_136 x4 K38 hK38 x6 x5 _ _ _ hH hl hw
            · have hw := hw.2 c_37
              have hl := lv_sub hl (l' := [(2, .int a2), (3, .ref (tn k)), (4, .int x4), (6, .int x6)]) [0, 1, 2, 4] rfl
              exact bk_132 x4 K38 hK38 x6 x5 _ _ _ hH hl hw
      · have hw := hw.2 c_29
        refine lv_iload hF.1.1 hF.1.2.1 dX4_modules_2_60 (lv_at hl 5 rfl) ?_
        refine lv_iload hF.1.1 hF.1.2.1 dX4_modules_2_62 (lv_at hl 4 rfl) ?_
        refine lv_iload hF.1.1 hF.1.2.1 dX4_modules_2_64 (lv_at hl 6 rfl) ?_
        refine g_cSN [.int x6, .int x8] 2 rfl hF (met_X0_has l hl0 d x6 x8 _ hw) q699 q241 q92 q242 rfl rfl (by decide +kernel) ⟨Nat.le_of_ble_eq_true rfl, Nat.le_of_ble_eq_true rfl⟩ hH [] rfl rfl rfl hl.1 (Nat.le_of_ble_eq_true rfl) dX4_modules_2_66 ⟨(by first | exact Nat.le_of_ble_eq_true rfl | omega | (dsimp only; omega)), (by first | exact Nat.le_of_ble_eq_true rfl | omega | (dsimp only; omega))⟩ (fun v w1 H locs hq hH => ?_)
        obtain ⟨r_38, rfl, rfl, hw⟩ := hq
        have hH : g_HS d A s [[(ob, .inr (4, [.ref (tn rk), .ref na, .ref va]))], (g_AL d na nb tn ns), (g_T d tn tl tr tc)] H locs := hH
        refine W.eq (g2 := (F0 m 69 ls [.int r_38, .int x7])) rfl ?_
        refine lv_if_eq (tgt := 93) hF.1.1 hF.1.2.1 dX4_modules_2_69 (by decide) (fun c_39 => ?_) (fun c_39 => ?_)
        · have hw := hw.1 c_39
          refine lv_iconst (v := 0) hF.1.1 hF.1.2.1 dX4_modules_2_93 (by decide) ?_
          have hl := lv_sub hl (l' := [(2, .int a2), (3, .ref (tn k)), (4, .int x4), (5, .int x5), (6, .int x6), (8, .int x8)]) [0, 1, 2, 3, 4, 6] rfl
          exact bk_94 x4 x5 x6 K38 hK38 (wb_X4_modules_2_53 a2 k ns tc x4 x5 x6 K38 Q fu) ih x8 x7 0 _ _ _ hH hl hw
        · have hw := hw.2 c_39
          refine lv_aload_n hF.1.1 hF.1.2.1 dX4_modules_2_72 rfl (lv_at hl 1 rfl) ?_
          obtain ⟨hk_40, hk_41, hw⟩ := hw
          refine g_tchN hF hH 2 rfl hk_40 hk_41 q504 dX4_modules_2_73 ?_
          refine lv_iload hF.1.1 hF.1.2.1 dX4_modules_2_76 (lv_at hl 6 rfl) ?_
          refine g_cVr [.int x8] 1 rfl hF (met_J10_get_T l hl0 d tn tl tr x8 tc k _ hw) q604 q605 q606 q107 q607 rfl rfl (by decide +kernel) ⟨Nat.le_of_ble_eq_true rfl, Nat.le_of_ble_eq_true rfl⟩ hH [2] rfl rfl rfl (g_trecC hH 2 rfl hw.1 hw.2.1) hl.1 (Nat.le_of_ble_eq_true rfl) dX4_modules_2_78 ⟨(by first | exact Nat.le_of_ble_eq_true rfl | omega | (dsimp only; omega)), (by first | exact Nat.le_of_ble_eq_true rfl | omega | (dsimp only; omega))⟩ (fun v w1 H locs hq hH => ?_)
          obtain ⟨q_42, rfl, rfl, hw⟩ := hq
          have hH : g_HS d A s [[(ob, .inr (4, [.ref (tn rk), .ref na, .ref va]))], (g_AL d na nb tn ns), (g_T d tn tl tr tc)] H locs := hH
          refine W.eq (g2 := (F0 m 81 ls [.ref (tn q_42), .int x7])) rfl ?_
          obtain ⟨hk_43, hw⟩ := hw
          refine g_tcT hF hH 2 rfl hk_43 q618 dX4_modules_2_81 ?_
          obtain ⟨hk_45, hw⟩ := hw
          refine g_tset hF hH 2 rfl hk_45 q461 dX4_modules_2_84 ?_
          refine g_cS [.int (nI q_42)] 1 rfl hF (met_J7_bitCount l hl0 d (nI q_42) _ hw) q700 q373 q103 q374 rfl rfl (by decide +kernel) ⟨Nat.le_of_ble_eq_true rfl, Nat.le_of_ble_eq_true rfl⟩ hH [] rfl rfl rfl hl.1 (Nat.le_of_ble_eq_true rfl) dX4_modules_2_87 ⟨(by first | exact Nat.le_of_ble_eq_true rfl | omega | (dsimp only; omega)), (by first | exact Nat.le_of_ble_eq_true rfl | omega | (dsimp only; omega))⟩ (fun v w1 H locs hq hH => ?_)
          obtain ⟨r_47, rfl, rfl, hw⟩ := hq
          have hH : g_HS d A s [[(ob, .inr (4, [.ref (tn rk), .ref na, .ref va]))], (g_AL d na nb tn ns), (g_T d tn tl tr tc)] H locs := hH
          refine W.eq (g2 := (F0 m 90 ls [.int r_47, .int x7])) rfl ?_
          refine lv_goto (tgt := 94) hF.1.1 hF.1.2.1 dX4_modules_2_90 (by decide) ?_
          have hl := lv_sub hl (l' := [(2, .int a2), (3, .ref (tn k)), (4, .int x4), (5, .int x5), (6, .int x6), (8, .int x8)]) [0, 1, 2, 3, 4, 6] rfl
          exact bk_94 x4 x5 x6 K38 hK38 (wb_X4_modules_2_53 a2 k ns tc x4 x5 x6 K38 Q fu) ih x8 x7 r_47 _ _ _ hH hl hw
  have bk_38 : ∀ (x4 : Int32) (fu : Nat) (x5 : Int32) (x6 : Int32) (H : Heap) (locs : List Loc) (ls : Array Slot), g_HS d A s [[(ob, .inr (4, [.ref (tn rk), .ref na, .ref va]))], (g_AL d na nb tn ns), (g_T d tn tl tr tc)] H locs → lv_has ls 9 [(2, .int a2), (3, .ref (tn k)), (4, .int x4), (5, .int x5), (6, .int x6)] → wb_X4_modules_2_38 a2 k ns tc x4 Q fu x5 x6 → W p l e ({ frames := 3, cells := 0, slots := 0, locals := 82 } : Room) s m args below meth c H locs 0 0 (g_E d (fun v w1 => ∃ (r : Int32), v = some (.int r) ∧ w1 = [[(ob, .inr (4, [.ref (tn rk), .ref na, .ref va]))], (g_AL d na nb tn ns), (g_T d tn tl tr tc)] ∧ Q r) A below args s 0 0) (F0 m 38 ls []) := by
    intro x4 fu
    induction fu with
    | zero => intro x5 x6 H locs ls hH hl hw; rw [wb_X4_modules_2_38] at hw; exact hw.elim
    | succ fu ih =>
      intro x5 x6 H locs ls hH hl hw
      rw [wb_X4_modules_2_38] at hw
      refine lv_iload hF.1.1 hF.1.2.1 dX4_modules_2_38 (lv_at hl 4 rfl) ?_
      refine lv_iconst (v := 1) hF.1.1 hF.1.2.1 dX4_modules_2_40 (by decide) ?_
      refine lv_iload hF.1.1 hF.1.2.1 dX4_modules_2_41 (lv_at hl 2 rfl) ?_
      refine lv_ishl hF.1.1 hF.1.2.1 dX4_modules_2_43 ?_
      refine lv_icmp_ge (tgt := 146) hF.1.1 hF.1.2.1 dX4_modules_2_44 (by decide) (fun c_48 => ?_) (fun c_48 => ?_)
      · have hw := hw.1 c_48
        refine lv_iload hF.1.1 hF.1.2.1 dX4_modules_2_146 (lv_at hl 3 rfl) ?_
        exact g_iret hF hH ⟨x5, rfl, rfl, hw⟩ dX4_modules_2_148
      · have hw := hw.2 c_48
        refine lv_iconst (v := 0) hF.1.1 hF.1.2.1 dX4_modules_2_47 (by decide) ?_
        refine lv_istore (lv' := [(7, .int 0), (2, .int a2), (3, .ref (tn k)), (4, .int x4), (5, .int x5), (6, .int x6)]) hF.1.1 hF.1.2.1 dX4_modules_2_48 hl (by decide) rfl (fun ls hl => ?_)
        refine lv_iconst (v := 0) hF.1.1 hF.1.2.1 dX4_modules_2_50 (by decide) ?_
        refine lv_istore (lv' := [(8, .int 0), (7, .int 0), (2, .int a2), (3, .ref (tn k)), (4, .int x4), (5, .int x5), (6, .int x6)]) hF.1.1 hF.1.2.1 dX4_modules_2_51 hl (by decide) rfl (fun ls hl => ?_)
        obtain ⟨f_49, hw⟩ := hw
        have hl := lv_sub hl (l' := [(2, .int a2), (3, .ref (tn k)), (4, .int x4), (5, .int x5), (6, .int x6), (7, .int 0), (8, .int 0)]) [2, 3, 4, 5, 6, 1, 0] rfl
        exact bk_53 x4 x5 x6 (wb_X4_modules_2_38 a2 k ns tc x4 Q fu) ih f_49 0 0 _ _ _ hH hl hw
  unfold wp_X4_modules_2 at hw
  refine lv_aload_n hF.1.1 hF.1.2.1 dX4_modules_2_0 rfl (lv_at hl 1 rfl) ?_
  obtain ⟨hk_50, hw⟩ := hw
  refine g_tisL hF hH 2 rfl hk_50 q698 dX4_modules_2_1 (fun hk_51 => ?_) (fun hk_51 => ?_)
  · have hw := hw.1 hk_51
    refine lv_if_eq (tgt := 18) hF.1.1 hF.1.2.1 dX4_modules_2_4 (by decide) (fun z => absurd z (by decide)) (fun _ => ?_)
    refine lv_iload_n hF.1.1 hF.1.2.1 dX4_modules_2_7 rfl (lv_at hl 2 rfl) ?_
    refine lv_iconst (v := 2) hF.1.1 hF.1.2.1 dX4_modules_2_8 (by decide) ?_
    refine lv_icmp_ge (tgt := 16) hF.1.1 hF.1.2.1 dX4_modules_2_9 (by decide) (fun c_52 => ?_) (fun c_52 => ?_)
    · have hw := hw.1 c_52
      refine lv_iconst (v := 0) hF.1.1 hF.1.2.1 dX4_modules_2_16 (by decide) ?_
      exact g_iret hF hH ⟨0, rfl, rfl, hw⟩ dX4_modules_2_17
    · have hw := hw.2 c_52
      refine lv_iconst (v := 1) hF.1.1 hF.1.2.1 dX4_modules_2_12 (by decide) ?_
      refine lv_goto (tgt := 17) hF.1.1 hF.1.2.1 dX4_modules_2_13 (by decide) ?_
      exact g_iret hF hH ⟨1, rfl, rfl, hw⟩ dX4_modules_2_17
  · have hw := hw.2 hk_51
    refine lv_if_eq (tgt := 18) hF.1.1 hF.1.2.1 dX4_modules_2_4 (by decide) (fun _ => ?_) (fun z => absurd z (by decide))
    refine lv_aload_n hF.1.1 hF.1.2.1 dX4_modules_2_18 rfl (lv_at hl 1 rfl) ?_
    obtain ⟨hk_53, hk_54, hw⟩ := hw
    refine g_tcI hF hH 2 rfl hk_53 hk_54 q628 dX4_modules_2_19 ?_
    refine lv_astore_n (lv' := [(3, .ref (tn k)), (0, .ref ob), (1, .ref (tn k)), (2, .int a2)]) hF.1.1 hF.1.2.1 dX4_modules_2_22 rfl hl (by decide) rfl (fun ls hl => ?_)
    refine lv_aload_n hF.1.1 hF.1.2.1 dX4_modules_2_23 rfl (lv_at hl 0 rfl) ?_
    obtain ⟨hk_55, hk_56, hw⟩ := hw
    refine g_tchN hF hH 2 rfl hk_55 hk_56 q504 dX4_modules_2_24 ?_
    refine g_cVr [] 0 rfl hF (met_J10_size_T l hl0 d tn tl tr tc k _ hw) q600 q601 q602 q107 q603 rfl rfl (by decide +kernel) ⟨Nat.le_of_ble_eq_true rfl, Nat.le_of_ble_eq_true rfl⟩ hH [2] rfl rfl rfl (g_trecC hH 2 rfl hw.1 hw.2.1) hl.1 (Nat.le_of_ble_eq_true rfl) dX4_modules_2_27 ⟨(by first | exact Nat.le_of_ble_eq_true rfl | omega | (dsimp only; omega)), (by first | exact Nat.le_of_ble_eq_true rfl | omega | (dsimp only; omega))⟩ (fun v w1 H locs hq hH => ?_)
    obtain ⟨r_57, rfl, rfl, hw⟩ := hq
    have hH : g_HS d A s [[(ob, .inr (4, [.ref (tn rk), .ref na, .ref va]))], (g_AL d na nb tn ns), (g_T d tn tl tr tc)] H locs := hH
    refine W.eq (g2 := (F0 m 30 ls [.int r_57])) rfl ?_
    refine lv_istore (lv' := [(4, .int r_57), (3, .ref (tn k)), (0, .ref ob), (1, .ref (tn k)), (2, .int a2)]) hF.1.1 hF.1.2.1 dX4_modules_2_30 hl (by decide) rfl (fun ls hl => ?_)
    refine lv_iconst (v := 0) hF.1.1 hF.1.2.1 dX4_modules_2_32 (by decide) ?_
    refine lv_istore (lv' := [(5, .int 0), (4, .int r_57), (3, .ref (tn k)), (0, .ref ob), (1, .ref (tn k)), (2, .int a2)]) hF.1.1 hF.1.2.1 dX4_modules_2_33 hl (by decide) rfl (fun ls hl => ?_)
    refine lv_iconst (v := 1) hF.1.1 hF.1.2.1 dX4_modules_2_35 (by decide) ?_
    refine lv_istore (lv' := [(6, .int 1), (5, .int 0), (4, .int r_57), (3, .ref (tn k)), (0, .ref ob), (1, .ref (tn k)), (2, .int a2)]) hF.1.1 hF.1.2.1 dX4_modules_2_36 hl (by decide) rfl (fun ls hl => ?_)
    obtain ⟨f_58, hw⟩ := hw
    have hl := lv_sub hl (l' := [(2, .int a2), (3, .ref (tn k)), (4, .int r_57), (5, .int 0), (6, .int 1)]) [6, 3, 2, 1, 0] rfl
    exact bk_38 r_57 f_58 0 1 _ _ _ hH hl hw

def wb_X4_modules_10 (a1 : Int32) (tc : g_TC) (ns : List Nat) (Q : Int32 → Prop) : Nat → Int32 → Nat → Prop
  | 0, _, _ => False
  | fu + 1, x2, v_q_1 => (wp_J16_hasNext_B v_q_1 ns (fun r_8 => ((r_8 = 0 → (Q x2)) ∧ (¬ r_8 = 0 → (wp_J16_next_A v_q_1 ns (fun q_10 => (q_10 ∈ tc.1 ∧ (wp_X4_modules_2 q_10 a1 ns tc (fun r_13 => (wb_X4_modules_10 a1 tc ns Q fu) (x2 + r_13) (v_q_1 + 1))))))))))
def wp_X4_modules (a1 : Int32) (ns : List Nat) (tc : g_TC) (Q : Int32 → Prop) : Prop := (wp_J10_iterator_A ns (∃ f10, wb_X4_modules_10 a1 tc ns Q f10 0 0))
set_option maxHeartbeats 4000000 in
set_option maxRecDepth 100000 in
theorem met_X4_modules (l : Launch) (hl0 : l.stackTraces = false) (d : g_D) (ob : Nat) (a1 : Int32) (tn : Nat → Nat) (rk : Nat) (na : Nat) (va : Nat) (nb : Nat) (ns : List Nat) (tl : Nat → Nat) (tr : Nat → Nat) (tc : g_TC) (Q : Int32 → Prop) (hw : wp_X4_modules a1 ns tc Q) : g_Met l d yX4_modules cX4_modules 5 (Option.some FieldType.int) ({ frames := 4, cells := 1, slots := 4, locals := 110 } : Room) [.ref ob, .int a1] [[(ob, .inr (4, [.ref (tn rk), .ref na, .ref va]))], (g_AL d na nb tn ns), (g_T d tn tl tr tc)] 1 4 (fun v w1 => ∃ (r : Int32), v = some (.int r) ∧ w1 = [[(ob, .inr (4, [.ref (tn rk), .ref na, .ref va]))], (g_AL d na nb tn ns), (g_T d tn tl tr tc)] ∧ Q r) := by
  refine g_enter (by decide) (Nat.le_of_ble_eq_true rfl) ?_
  intro p e s m args below meth c A ls hF hH hl hin
  have hF : g_F p m c cX4_modules 5 s args RX4 meth (Option.some FieldType.int) := hF
  have hl : lv_has ls 5 [(0, .ref ob), (1, .int a1)] := hl
  have bk_10 : ∀ (fu : Nat) (q_1 : Nat) (x2 : Int32) (v_q_1 : Nat) (H : Heap) (locs : List Loc) (ls : Array Slot), g_HS d A s [[(ob, .inr (4, [.ref (tn rk), .ref na, .ref va]))], (g_T d tn tl tr tc), (g_AL d na nb tn ns), (g_IT d q_1 na v_q_1 ns.length)] H locs → lv_has ls 5 [(0, .ref ob), (1, .int a1), (2, .int x2), (3, .ref q_1)] → wb_X4_modules_10 a1 tc ns Q fu x2 v_q_1 → W p l e ({ frames := 4, cells := 1, slots := 4, locals := 110 } : Room) s m args below meth c H locs 1 4 (g_E d (fun v w1 => ∃ (r : Int32), v = some (.int r) ∧ w1 = [[(ob, .inr (4, [.ref (tn rk), .ref na, .ref va]))], (g_AL d na nb tn ns), (g_T d tn tl tr tc)] ∧ Q r) A below args s 1 4) (F0 m 10 ls []) := by
    intro fu
    induction fu with
    | zero => intro q_1 x2 v_q_1 H locs ls hH hl hw; rw [wb_X4_modules_10] at hw; exact hw.elim
    | succ fu ih =>
      intro q_1 x2 v_q_1 H locs ls hH hl hw
      rw [wb_X4_modules_10] at hw
      refine lv_aload_n hF.1.1 hF.1.2.1 dX4_modules_10 rfl (lv_at hl 3 rfl) ?_
      refine g_cF (x := ⟨"java/util/Iterator", "hasNext", "()Z"⟩) (C := "java/util/ArrayList$Itr") [] 0 rfl hF (met_J16_hasNext_A l hl0 d q_1 v_q_1 na nb tn ns _ hw) q653 (g_fwH hH) q657 q659 q118 q661 rfl rfl (by decide +kernel) ⟨Nat.le_of_ble_eq_true rfl, Nat.le_of_ble_eq_true rfl⟩ hH [3, 2] rfl rfl rfl 0 0 rfl rfl rfl hl.1 (Nat.le_of_ble_eq_true rfl) dX4_modules_11 ⟨(by first | exact Nat.le_of_ble_eq_true rfl | omega | (dsimp only; omega)), (by first | exact Nat.le_of_ble_eq_true rfl | omega | (dsimp only; omega))⟩ (fun v w1 H locs hq hH => ?_)
      obtain ⟨r_8, rfl, rfl, hw⟩ := hq
      have hH : g_HS d A s [[(ob, .inr (4, [.ref (tn rk), .ref na, .ref va]))], (g_T d tn tl tr tc), (g_IT d q_1 na v_q_1 ns.length), (g_AL d na nb tn ns)] H locs := hH
      refine W.eq (g2 := (F0 m 16 ls [.int r_8])) rfl ?_
      refine lv_if_eq (tgt := 43) hF.1.1 hF.1.2.1 dX4_modules_16 (by decide) (fun c_9 => ?_) (fun c_9 => ?_)
      · have hw := hw.1 c_9
        refine lv_iload_n hF.1.1 hF.1.2.1 dX4_modules_43 rfl (lv_at hl 2 rfl) ?_
        have hH := hH.sub (cs' := [[(ob, .inr (4, [.ref (tn rk), .ref na, .ref va]))], (g_AL d na nb tn ns), (g_T d tn tl tr tc)]) [0, 3, 1] rfl rfl
        exact g_iret hF hH ⟨x2, rfl, rfl, hw⟩ dX4_modules_44
      · have hw := hw.2 c_9
        refine lv_aload_n hF.1.1 hF.1.2.1 dX4_modules_19 rfl (lv_at hl 3 rfl) ?_
        refine g_cF (x := ⟨"java/util/Iterator", "next", "()Ljava/lang/Object;"⟩) (C := "java/util/ArrayList$Itr") [] 0 rfl hF (met_J16_next_A l hl0 d q_1 v_q_1 na nb tn ns _ hw) q663 (g_fwN hH) q666 q668 q118 q670 rfl rfl (by decide +kernel) ⟨Nat.le_of_ble_eq_true rfl, Nat.le_of_ble_eq_true rfl⟩ hH [2, 3] rfl rfl rfl 0 0 rfl rfl rfl hl.1 (Nat.le_of_ble_eq_true rfl) dX4_modules_20 ⟨(by first | exact Nat.le_of_ble_eq_true rfl | omega | (dsimp only; omega)), (by first | exact Nat.le_of_ble_eq_true rfl | omega | (dsimp only; omega))⟩ (fun v w1 H locs hq hH => ?_)
        obtain ⟨q_10, rfl, rfl, hw⟩ := hq
        have hH : g_HS d A s [[(ob, .inr (4, [.ref (tn rk), .ref na, .ref va]))], (g_T d tn tl tr tc), (g_IT d q_1 na (v_q_1 + 1) ns.length), (g_AL d na nb tn ns)] H locs := hH
        refine W.eq (g2 := (F0 m 25 ls [.ref (tn q_10)])) rfl ?_
        obtain ⟨hk_11, hw⟩ := hw
        refine g_tcT hF hH 1 rfl hk_11 q618 dX4_modules_25 ?_
        refine lv_astore (lv' := [(4, .ref (tn q_10)), (0, .ref ob), (1, .int a1), (2, .int x2), (3, .ref q_1)]) hF.1.1 hF.1.2.1 dX4_modules_28 hl (by decide) rfl (fun ls hl => ?_)
        refine lv_iload_n hF.1.1 hF.1.2.1 dX4_modules_30 rfl (lv_at hl 3 rfl) ?_
        refine lv_aload_n hF.1.1 hF.1.2.1 dX4_modules_31 rfl (lv_at hl 1 rfl) ?_
        refine lv_aload hF.1.1 hF.1.2.1 dX4_modules_32 (lv_at hl 0 rfl) ?_
        refine lv_iload_n hF.1.1 hF.1.2.1 dX4_modules_34 rfl (lv_at hl 2 rfl) ?_
        refine g_cV [.ref (tn q_10), .int a1] 2 rfl hF (met_X4_modules_2 l hl0 d ob tn q_10 a1 rk na va nb ns tl tr tc _ hw) q694 q696 qs14 q104 q697 rfl rfl (by decide +kernel) ⟨Nat.le_of_ble_eq_true rfl, Nat.le_of_ble_eq_true rfl⟩ hH [0, 3, 1] rfl rfl rfl 0 0 rfl rfl rfl hl.1 (Nat.le_of_ble_eq_true rfl) dX4_modules_35 ⟨(by first | exact Nat.le_of_ble_eq_true rfl | omega | (dsimp only; omega)), (by first | exact Nat.le_of_ble_eq_true rfl | omega | (dsimp only; omega))⟩ (fun v w1 H locs hq hH => ?_)
        obtain ⟨r_13, rfl, rfl, hw⟩ := hq
        have hH : g_HS d A s [(g_IT d q_1 na (v_q_1 + 1) ns.length), [(ob, .inr (4, [.ref (tn rk), .ref na, .ref va]))], (g_AL d na nb tn ns), (g_T d tn tl tr tc)] H locs := hH
        refine W.eq (g2 := (F0 m 38 ls [.int r_13, .int x2])) rfl ?_
        refine lv_iadd hF.1.1 hF.1.2.1 dX4_modules_38 ?_
        refine lv_istore_n (lv' := [(2, .int (x2 + r_13)), (4, .ref (tn q_10)), (0, .ref ob), (1, .int a1), (3, .ref q_1)]) hF.1.1 hF.1.2.1 dX4_modules_39 rfl hl (by decide) rfl (fun ls hl => ?_)
        refine lv_goto (tgt := 10) hF.1.1 hF.1.2.1 dX4_modules_40 (by decide) ?_
        have hH := hH.sub (cs' := [[(ob, .inr (4, [.ref (tn rk), .ref na, .ref va]))], (g_T d tn tl tr tc), (g_AL d na nb tn ns), (g_IT d q_1 na (v_q_1 + 1) ns.length)]) [1, 3, 2, 0] rfl rfl
        have hl := lv_sub hl (l' := [(0, .ref ob), (1, .int a1), (2, .int (x2 + r_13)), (3, .ref q_1)]) [2, 3, 0, 4] rfl
        exact ih q_1 (x2 + r_13) (v_q_1 + 1) _ _ _ hH hl hw
  unfold wp_X4_modules at hw
  refine lv_iconst (v := 0) hF.1.1 hF.1.2.1 dX4_modules_0 (by decide) ?_
  refine lv_istore_n (lv' := [(2, .int 0), (0, .ref ob), (1, .int a1)]) hF.1.1 hF.1.2.1 dX4_modules_1 rfl hl (by decide) rfl (fun ls hl => ?_)
  refine lv_aload_n hF.1.1 hF.1.2.1 dX4_modules_2 rfl (lv_at hl 1 rfl) ?_
  refine g_get (v := .ref na) hF hH in_X4 rfl 0 0 rfl rfl 1 (by decide) q679 (fun _ h9 => h9) rfl dX4_modules_3 ?_
  refine g_cVr [] 0 rfl hF (met_J10_iterator_B l hl0 d na nb tn ns _ hw) q629 q630 q631 q107 q632 rfl rfl (by decide +kernel) ⟨Nat.le_of_ble_eq_true rfl, Nat.le_of_ble_eq_true rfl⟩ hH [1] rfl rfl rfl (g_lrec hH 1 rfl) hl.1 (Nat.le_of_ble_eq_true rfl) dX4_modules_6 ⟨(by first | exact Nat.le_of_ble_eq_true rfl | omega | (dsimp only; omega)), (by first | exact Nat.le_of_ble_eq_true rfl | omega | (dsimp only; omega))⟩ (fun v w1 H locs hq hH => ?_)
  obtain ⟨q_14, rfl, rfl, hw⟩ := hq
  have hH : g_HS d A s [[(ob, .inr (4, [.ref (tn rk), .ref na, .ref va]))], (g_T d tn tl tr tc), (g_AL d na nb tn ns), (g_IT d q_14 na 0 ns.length)] H locs := hH
  refine W.eq (g2 := (F0 m 9 ls [.ref q_14])) rfl ?_
  refine W.widen (k := 1) (n := 4) (by first | exact Nat.le_of_ble_eq_true rfl | omega | (dsimp only; omega)) (by first | exact Nat.le_of_ble_eq_true rfl | omega | (dsimp only; omega)) ?_
  refine lv_astore_n (lv' := [(3, .ref q_14), (2, .int 0), (0, .ref ob), (1, .int a1)]) hF.1.1 hF.1.2.1 dX4_modules_9 rfl hl (by decide) rfl (fun ls hl => ?_)
  obtain ⟨f_15, hw⟩ := hw
  have hl := lv_sub hl (l' := [(0, .ref ob), (1, .int a1), (2, .int 0), (3, .ref q_14)]) [2, 3, 1, 0] rfl
  exact bk_10 f_15 q_14 0 0 _ _ _ hH hl hw

def wb_X4_rows_32 (tc : g_TC) (ns : List Nat) (x3 : Nat) (v_q_1 : Nat) (K10 : Int32 → Nat → Prop) (Q : Int32 → Prop) : Nat → Int32 → Int32 → Prop
  | 0, _, _ => False
  | fu + 1, x1, x4 => (wp_X0_children x3 tc (fun r_9 => ((r_9 < x4 → K10 x1 v_q_1) ∧ (¬ r_9 < x4 → (wb_X4_rows_32 tc ns x3 v_q_1 K10 Q fu) (x1 * x4) (x4 + 1)))))
def wb_X4_rows_10 (tc : g_TC) (ns : List Nat) (Q : Int32 → Prop) : Nat → Int32 → Nat → Prop
  | 0, _, _ => False
  | fu + 1, x1, v_q_1 => (wp_J16_hasNext_B v_q_1 ns (fun r_11 => ((r_11 = 0 → (Q x1)) ∧ (¬ r_11 = 0 → (wp_J16_next_A v_q_1 ns (fun q_13 => (q_13 ∈ tc.1 ∧ (∃ f32, wb_X4_rows_32 tc ns q_13 (v_q_1 + 1) (wb_X4_rows_10 tc ns Q fu) Q f32 x1 2))))))))
def wp_X4_rows (ns : List Nat) (tc : g_TC) (Q : Int32 → Prop) : Prop := (wp_J10_iterator_A ns (∃ f10, wb_X4_rows_10 tc ns Q f10 1 0))
set_option maxHeartbeats 4000000 in
set_option maxRecDepth 100000 in
theorem met_X4_rows (l : Launch) (hl0 : l.stackTraces = false) (d : g_D) (ob : Nat) (tn : Nat → Nat) (rk : Nat) (na : Nat) (va : Nat) (nb : Nat) (ns : List Nat) (tl : Nat → Nat) (tr : Nat → Nat) (tc : g_TC) (Q : Int32 → Prop) (hw : wp_X4_rows ns tc Q) : g_Met l d yX4_rows cX4_rows 5 (Option.some FieldType.int) ({ frames := 3, cells := 1, slots := 4, locals := 53 } : Room) [.ref ob] [[(ob, .inr (4, [.ref (tn rk), .ref na, .ref va]))], (g_AL d na nb tn ns), (g_T d tn tl tr tc)] 1 4 (fun v w1 => ∃ (r : Int32), v = some (.int r) ∧ w1 = [[(ob, .inr (4, [.ref (tn rk), .ref na, .ref va]))], (g_AL d na nb tn ns), (g_T d tn tl tr tc)] ∧ Q r) := by
  refine g_enter (by decide) (Nat.le_of_ble_eq_true rfl) ?_
  intro p e s m args below meth c A ls hF hH hl hin
  have hF : g_F p m c cX4_rows 5 s args RX4 meth (Option.some FieldType.int) := hF
  have hl : lv_has ls 5 [(0, .ref ob)] := hl
  have bk_32 : ∀ (x3 : Nat) (v_q_1 : Nat) (K10 : Int32 → Nat → Prop) (hK10 : ∀ (q_1 : Nat) (x1 : Int32) (v_q_1 : Nat) (H : Heap) (locs : List Loc) (ls : Array Slot), g_HS d A s [[(ob, .inr (4, [.ref (tn rk), .ref na, .ref va]))], (g_T d tn tl tr tc), (g_AL d na nb tn ns), (g_IT d q_1 na v_q_1 ns.length)] H locs → lv_has ls 5 [(1, .int x1), (2, .ref q_1)] → K10 x1 v_q_1 → W p l e ({ frames := 3, cells := 1, slots := 4, locals := 53 } : Room) s m args below meth c H locs 1 4 (g_E d (fun v w1 => ∃ (r : Int32), v = some (.int r) ∧ w1 = [[(ob, .inr (4, [.ref (tn rk), .ref na, .ref va]))], (g_AL d na nb tn ns), (g_T d tn tl tr tc)] ∧ Q r) A below args s 1 4) (F0 m 10 ls [])) (fu : Nat) (q_1 : Nat) (x1 : Int32) (x4 : Int32) (H : Heap) (locs : List Loc) (ls : Array Slot), g_HS d A s [[(ob, .inr (4, [.ref (tn rk), .ref na, .ref va]))], (g_T d tn tl tr tc), (g_IT d q_1 na v_q_1 ns.length), (g_AL d na nb tn ns)] H locs → lv_has ls 5 [(1, .int x1), (2, .ref q_1), (3, .ref (tn x3)), (4, .int x4)] → wb_X4_rows_32 tc ns x3 v_q_1 K10 Q fu x1 x4 → W p l e ({ frames := 3, cells := 1, slots := 4, locals := 53 } : Room) s m args below meth c H locs 1 4 (g_E d (fun v w1 => ∃ (r : Int32), v = some (.int r) ∧ w1 = [[(ob, .inr (4, [.ref (tn rk), .ref na, .ref va]))], (g_AL d na nb tn ns), (g_T d tn tl tr tc)] ∧ Q r) A below args s 1 4) (F0 m 32 ls []) := by
    intro x3 v_q_1 K10 hK10 fu
    induction fu with
    | zero => intro q_1 x1 x4 H locs ls hH hl hw; rw [wb_X4_rows_32] at hw; exact hw.elim
    | succ fu ih =>
      intro q_1 x1 x4 H locs ls hH hl hw
      rw [wb_X4_rows_32] at hw
      refine lv_iload hF.1.1 hF.1.2.1 dX4_rows_32 (lv_at hl 3 rfl) ?_
      refine lv_aload_n hF.1.1 hF.1.2.1 dX4_rows_34 rfl (lv_at hl 2 rfl) ?_
      refine g_cSN [.ref (tn x3)] 1 rfl hF (met_X0_children l hl0 d tn x3 tl tr tc _ hw) q980 q884 q92 q885 rfl rfl (by decide +kernel) ⟨Nat.le_of_ble_eq_true rfl, Nat.le_of_ble_eq_true rfl⟩ hH [1] rfl rfl rfl hl.1 (Nat.le_of_ble_eq_true rfl) dX4_rows_35 ⟨(by first | exact Nat.le_of_ble_eq_true rfl | omega | (dsimp only; omega)), (by first | exact Nat.le_of_ble_eq_true rfl | omega | (dsimp only; omega))⟩ (fun v w1 H locs hq hH => ?_)
      obtain ⟨r_9, rfl, rfl, hw⟩ := hq
      have hH : g_HS d A s [[(ob, .inr (4, [.ref (tn rk), .ref na, .ref va]))], (g_IT d q_1 na v_q_1 ns.length), (g_AL d na nb tn ns), (g_T d tn tl tr tc)] H locs := hH
      refine W.eq (g2 := (F0 m 38 ls [.int r_9, .int x4])) rfl ?_
      refine lv_icmp_gt (tgt := 52) hF.1.1 hF.1.2.1 dX4_rows_38 (by decide) (fun c_10 => ?_) (fun c_10 => ?_)
      · have hw := hw.1 c_10
        refine lv_goto (tgt := 10) hF.1.1 hF.1.2.1 dX4_rows_52 (by decide) ?_
        have hH := hH.sub (cs' := [[(ob, .inr (4, [.ref (tn rk), .ref na, .ref va]))], (g_T d tn tl tr tc), (g_AL d na nb tn ns), (g_IT d q_1 na v_q_1 ns.length)]) [0, 3, 2, 1] rfl rfl
        have hl := lv_sub hl (l' := [(1, .int x1), (2, .ref q_1)]) [0, 1] rfl
        exact hK10 q_1 x1 v_q_1 _ _ _ hH hl hw
      · have hw := hw.2 c_10
        refine lv_iload_n hF.1.1 hF.1.2.1 dX4_rows_41 rfl (lv_at hl 0 rfl) ?_
        refine lv_iload hF.1.1 hF.1.2.1 dX4_rows_42 (lv_at hl 3 rfl) ?_
        refine lv_imul hF.1.1 hF.1.2.1 dX4_rows_44 ?_
        refine lv_istore_n (lv' := [(1, .int (x1 * x4)), (2, .ref q_1), (3, .ref (tn x3)), (4, .int x4)]) hF.1.1 hF.1.2.1 dX4_rows_45 rfl hl (by decide) rfl (fun ls hl => ?_)
        refine lv_iinc (v := (x4 + 1)) (lv' := [(4, .int (x4 + 1)), (1, .int (x1 * x4)), (2, .ref q_1), (3, .ref (tn x3))]) hF.1.1 hF.1.2.1 dX4_rows_46 hl (k := 3) rfl rfl (by decide) rfl (fun ls hl => ?_)
        refine lv_goto (tgt := 32) hF.1.1 hF.1.2.1 dX4_rows_49 (by decide) ?_
        have hH := hH.sub (cs' := [[(ob, .inr (4, [.ref (tn rk), .ref na, .ref va]))], (g_T d tn tl tr tc), (g_IT d q_1 na v_q_1 ns.length), (g_AL d na nb tn ns)]) [0, 3, 1, 2] rfl rfl
        have hl := lv_sub hl (l' := [(1, .int (x1 * x4)), (2, .ref q_1), (3, .ref (tn x3)), (4, .int (x4 + 1))]) [1, 2, 3, 0] rfl
        exact ih q_1 (x1 * x4) (x4 + 1) _ _ _ hH hl hw
  have bk_10 : ∀ (fu : Nat) (q_1 : Nat) (x1 : Int32) (v_q_1 : Nat) (H : Heap) (locs : List Loc) (ls : Array Slot), g_HS d A s [[(ob, .inr (4, [.ref (tn rk), .ref na, .ref va]))], (g_T d tn tl tr tc), (g_AL d na nb tn ns), (g_IT d q_1 na v_q_1 ns.length)] H locs → lv_has ls 5 [(1, .int x1), (2, .ref q_1)] → wb_X4_rows_10 tc ns Q fu x1 v_q_1 → W p l e ({ frames := 3, cells := 1, slots := 4, locals := 53 } : Room) s m args below meth c H locs 1 4 (g_E d (fun v w1 => ∃ (r : Int32), v = some (.int r) ∧ w1 = [[(ob, .inr (4, [.ref (tn rk), .ref na, .ref va]))], (g_AL d na nb tn ns), (g_T d tn tl tr tc)] ∧ Q r) A below args s 1 4) (F0 m 10 ls []) := by
    intro fu
    induction fu with
    | zero => intro q_1 x1 v_q_1 H locs ls hH hl hw; rw [wb_X4_rows_10] at hw; exact hw.elim
    | succ fu ih =>
      intro q_1 x1 v_q_1 H locs ls hH hl hw
      rw [wb_X4_rows_10] at hw
      refine lv_aload_n hF.1.1 hF.1.2.1 dX4_rows_10 rfl (lv_at hl 1 rfl) ?_
      refine g_cF (x := ⟨"java/util/Iterator", "hasNext", "()Z"⟩) (C := "java/util/ArrayList$Itr") [] 0 rfl hF (met_J16_hasNext_A l hl0 d q_1 v_q_1 na nb tn ns _ hw) q653 (g_fwH hH) q657 q659 q118 q661 rfl rfl (by decide +kernel) ⟨Nat.le_of_ble_eq_true rfl, Nat.le_of_ble_eq_true rfl⟩ hH [3, 2] rfl rfl rfl 0 0 rfl rfl rfl hl.1 (Nat.le_of_ble_eq_true rfl) dX4_rows_11 ⟨(by first | exact Nat.le_of_ble_eq_true rfl | omega | (dsimp only; omega)), (by first | exact Nat.le_of_ble_eq_true rfl | omega | (dsimp only; omega))⟩ (fun v w1 H locs hq hH => ?_)
      obtain ⟨r_11, rfl, rfl, hw⟩ := hq
      have hH : g_HS d A s [[(ob, .inr (4, [.ref (tn rk), .ref na, .ref va]))], (g_T d tn tl tr tc), (g_IT d q_1 na v_q_1 ns.length), (g_AL d na nb tn ns)] H locs := hH
      refine W.eq (g2 := (F0 m 16 ls [.int r_11])) rfl ?_
      refine lv_if_eq (tgt := 55) hF.1.1 hF.1.2.1 dX4_rows_16 (by decide) (fun c_12 => ?_) (fun c_12 => ?_)
      · have hw := hw.1 c_12
        refine lv_iload_n hF.1.1 hF.1.2.1 dX4_rows_55 rfl (lv_at hl 0 rfl) ?_
        have hH := hH.sub (cs' := [[(ob, .inr (4, [.ref (tn rk), .ref na, .ref va]))], (g_AL d na nb tn ns), (g_T d tn tl tr tc)]) [0, 3, 1] rfl rfl
        exact g_iret hF hH ⟨x1, rfl, rfl, hw⟩ dX4_rows_56
      · have hw := hw.2 c_12
        refine lv_aload_n hF.1.1 hF.1.2.1 dX4_rows_19 rfl (lv_at hl 1 rfl) ?_
        refine g_cF (x := ⟨"java/util/Iterator", "next", "()Ljava/lang/Object;"⟩) (C := "java/util/ArrayList$Itr") [] 0 rfl hF (met_J16_next_A l hl0 d q_1 v_q_1 na nb tn ns _ hw) q663 (g_fwN hH) q666 q668 q118 q670 rfl rfl (by decide +kernel) ⟨Nat.le_of_ble_eq_true rfl, Nat.le_of_ble_eq_true rfl⟩ hH [2, 3] rfl rfl rfl 0 0 rfl rfl rfl hl.1 (Nat.le_of_ble_eq_true rfl) dX4_rows_20 ⟨(by first | exact Nat.le_of_ble_eq_true rfl | omega | (dsimp only; omega)), (by first | exact Nat.le_of_ble_eq_true rfl | omega | (dsimp only; omega))⟩ (fun v w1 H locs hq hH => ?_)
        obtain ⟨q_13, rfl, rfl, hw⟩ := hq
        have hH : g_HS d A s [[(ob, .inr (4, [.ref (tn rk), .ref na, .ref va]))], (g_T d tn tl tr tc), (g_IT d q_1 na (v_q_1 + 1) ns.length), (g_AL d na nb tn ns)] H locs := hH
        refine W.eq (g2 := (F0 m 25 ls [.ref (tn q_13)])) rfl ?_
        obtain ⟨hk_14, hw⟩ := hw
        refine g_tcT hF hH 1 rfl hk_14 q618 dX4_rows_25 ?_
        refine lv_astore_n (lv' := [(3, .ref (tn q_13)), (1, .int x1), (2, .ref q_1)]) hF.1.1 hF.1.2.1 dX4_rows_28 rfl hl (by decide) rfl (fun ls hl => ?_)
        refine lv_iconst (v := 2) hF.1.1 hF.1.2.1 dX4_rows_29 (by decide) ?_
        refine lv_istore (lv' := [(4, .int 2), (3, .ref (tn q_13)), (1, .int x1), (2, .ref q_1)]) hF.1.1 hF.1.2.1 dX4_rows_30 hl (by decide) rfl (fun ls hl => ?_)
        obtain ⟨f_16, hw⟩ := hw
        have hl := lv_sub hl (l' := [(1, .int x1), (2, .ref q_1), (3, .ref (tn q_13)), (4, .int 2)]) [2, 3, 1, 0] rfl
        exact bk_32 q_13 (v_q_1 + 1) (wb_X4_rows_10 tc ns Q fu) ih f_16 q_1 x1 2 _ _ _ hH hl hw
  unfold wp_X4_rows at hw
  refine lv_iconst (v := 1) hF.1.1 hF.1.2.1 dX4_rows_0 (by decide) ?_
  refine lv_istore_n (lv' := [(1, .int 1), (0, .ref ob)]) hF.1.1 hF.1.2.1 dX4_rows_1 rfl hl (by decide) rfl (fun ls hl => ?_)
  refine lv_aload_n hF.1.1 hF.1.2.1 dX4_rows_2 rfl (lv_at hl 1 rfl) ?_
  refine g_get (v := .ref na) hF hH in_X4 rfl 0 0 rfl rfl 1 (by decide) q679 (fun _ h9 => h9) rfl dX4_rows_3 ?_
  refine g_cVr [] 0 rfl hF (met_J10_iterator_B l hl0 d na nb tn ns _ hw) q629 q630 q631 q107 q632 rfl rfl (by decide +kernel) ⟨Nat.le_of_ble_eq_true rfl, Nat.le_of_ble_eq_true rfl⟩ hH [1] rfl rfl rfl (g_lrec hH 1 rfl) hl.1 (Nat.le_of_ble_eq_true rfl) dX4_rows_6 ⟨(by first | exact Nat.le_of_ble_eq_true rfl | omega | (dsimp only; omega)), (by first | exact Nat.le_of_ble_eq_true rfl | omega | (dsimp only; omega))⟩ (fun v w1 H locs hq hH => ?_)
  obtain ⟨q_17, rfl, rfl, hw⟩ := hq
  have hH : g_HS d A s [[(ob, .inr (4, [.ref (tn rk), .ref na, .ref va]))], (g_T d tn tl tr tc), (g_AL d na nb tn ns), (g_IT d q_17 na 0 ns.length)] H locs := hH
  refine W.eq (g2 := (F0 m 9 ls [.ref q_17])) rfl ?_
  refine W.widen (k := 1) (n := 4) (by first | exact Nat.le_of_ble_eq_true rfl | omega | (dsimp only; omega)) (by first | exact Nat.le_of_ble_eq_true rfl | omega | (dsimp only; omega)) ?_
  refine lv_astore_n (lv' := [(2, .ref q_17), (1, .int 1), (0, .ref ob)]) hF.1.1 hF.1.2.1 dX4_rows_9 rfl hl (by decide) rfl (fun ls hl => ?_)
  obtain ⟨f_18, hw⟩ := hw
  have hl := lv_sub hl (l' := [(1, .int 1), (2, .ref q_17)]) [1, 0] rfl
  exact bk_10 f_18 q_17 1 0 _ _ _ hH hl hw
