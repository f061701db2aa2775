def wp_J19_init (Q : Prop) : Prop := Q
set_option maxHeartbeats 4000000 in
set_option maxRecDepth 100000 in
theorem met_J19_init (l : Launch) (hl0 : l.stackTraces = false) (d : g_D) (ob : Nat) (Q : Prop) (hw : wp_J19_init Q) : g_Met l d yJ19_init cJ19_init 2 none ({ frames := 1, cells := 1, slots := 16, locals := 12 } : Room) [.ref ob, .int 16] [[(ob, .inr (13, [.null, .int 0, .int 0, .int 0]))]] 1 16 (fun v w1 => ∃ (va : Nat), v = none ∧ w1 = [[(ob, .inr (13, [.ref va, .int 0, .int 0, .int 0]))], [(va, .inl (d.2.1 2, 16, .inl (fun _ => 0)))]] ∧ Q) := by
  refine g_enter (by decide) (Nat.le_of_ble_eq_true rfl) ?_
  intro p e s m args below meth c A ls hF hH hl hin
  have hF : g_F p m c cJ19_init 2 s args RJ19 meth none := hF
  have hl : lv_has ls 2 [(0, .ref ob), (1, .int 16)] := hl
  have hin : meth.name = "<init>" := hin rfl
  unfold wp_J19_init at hw
  refine lv_aload_n hF.1.1 hF.1.2.1 dJ19_init_0 rfl (lv_at hl 0 rfl) ?_
  refine W.objInit hF.1.1 hF.1.2.1 hF.1.2.2.2.1 (hF.1.2.2.2.2 _ q1218) (hF.1.2.2.2.2 _ q137) (hF.1.2.2.2.2 _ q138) rfl (by rw [hF.1.2.2.1]; exact hl.1) rfl dJ19_init_1 (Nat.le_of_ble_eq_true rfl) (Nat.le_of_ble_eq_true rfl) ?_
  refine W.eq (g2 := (F0 m 4 ls [])) rfl ?_
  refine g_gets (v := .int 1) hF hH (g_z1 hH).2 q1219 (fun _ h9 => h9) dJ19_init_4 ?_
  refine lv_if_eq (tgt := 25) hF.1.1 hF.1.2.1 dJ19_init_7 (by decide) (fun z => absurd z (by decide)) (fun _ => ?_)
  refine lv_aload_n hF.1.1 hF.1.2.1 dJ19_init_10 rfl (lv_at hl 0 rfl) ?_
  refine lv_iload_n hF.1.1 hF.1.2.1 dJ19_init_11 rfl (lv_at hl 1 rfl) ?_
  refine g_newB (N' := 16) hF hH q179 (by decide) rfl (by decide) (by first | exact Nat.le_of_ble_eq_true rfl | omega | (dsimp only; omega)) (by first | exact Nat.le_of_ble_eq_true rfl | omega | (dsimp only; omega)) dJ19_init_12 (fun q_2 H hH => ?_)
  have hH : g_HS d A s [[(ob, .inr (13, [.null, .int 0, .int 0, .int 0]))], [(q_2, .inl (d.2.1 2, 16, .inl (fun _ => 0)))]] H _ := hH
  refine W.widen (k := 1) (n := 16) (by first | exact Nat.le_of_ble_eq_true rfl | omega | (dsimp only; omega)) (by first | exact Nat.le_of_ble_eq_true rfl | omega | (dsimp only; omega)) ?_
  refine g_put (cs' := [[(ob, .inr (13, [.ref q_2, .int 0, .int 0, .int 0]))], [(q_2, .inl (d.2.1 2, 16, .inl (fun _ => 0)))]]) (ch' := [(ob, .inr (13, [.ref q_2, .int 0, .int 0, .int 0]))]) (ty := (.array (.byte))) hF hH in_J20 rfl tyJ20 tyJ20_ok nmJ20 0 0 rfl rfl 0 (by decide) q1233 (fun _ h9 => h9) rfl (by decide +kernel) rfl rfl (Nat.le_of_ble_eq_true rfl) dJ19_init_14 rfl rfl (fun H locs hH => ?_)
  refine lv_aload_n hF.1.1 hF.1.2.1 dJ19_init_17 rfl (lv_at hl 0 rfl) ?_
  refine lv_iconst (v := 0) hF.1.1 hF.1.2.1 dJ19_init_18 (by decide) ?_
  refine g_put (cs' := [[(ob, .inr (13, [.ref q_2, .int 0, .int 0, .int 0]))], [(q_2, .inl (d.2.1 2, 16, .inl (fun _ => 0)))]]) (ch' := [(ob, .inr (13, [.ref q_2, .int 0, .int 0, .int 0]))]) (ty := .byte) hF hH in_J20 rfl tyJ20 tyJ20_ok nmJ20 0 0 rfl rfl 1 (by decide) q1234 (fun _ h9 => h9) rfl (by decide +kernel) rfl rfl (Nat.le_of_ble_eq_true rfl) dJ19_init_19 rfl rfl (fun H locs hH => ?_)
  refine lv_goto (tgt := 38) hF.1.1 hF.1.2.1 dJ19_init_22 (by decide) ?_
  exact g_vret hF hH ⟨q_2, rfl, rfl, hw⟩ dJ19_init_38

def wp_J20_init (Q : Prop) : Prop := (wp_J19_init Q)
set_option maxHeartbeats 4000000 in
set_option maxRecDepth 100000 in
theorem met_J20_init (l : Launch) (hl0 : l.stackTraces = false) (d : g_D) (ob : Nat) (Q : Prop) (hw : wp_J20_init Q) : g_Met l d yJ20_init cJ20_init 1 none ({ frames := 2, cells := 1, slots := 16, locals := 33 } : Room) [.ref ob] [[(ob, .inr (13, [.null, .int 0, .int 0, .int 0]))]] 1 16 (fun v w1 => ∃ (va : Nat), v = none ∧ w1 = [[(ob, .inr (13, [.ref va, .int 0, .int 0, .int 0]))], [(va, .inl (d.2.1 2, 16, .inl (fun _ => 0)))]] ∧ Q) := by
  refine g_enter (by decide) (Nat.le_of_ble_eq_true rfl) ?_
  intro p e s m args below meth c A ls hF hH hl hin
  have hF : g_F p m c cJ20_init 1 s args RJ20 meth none := hF
  have hl : lv_has ls 1 [(0, .ref ob)] := hl
  have hin : meth.name = "<init>" := hin rfl
  unfold wp_J20_init at hw
  refine lv_aload_n hF.1.1 hF.1.2.1 dJ20_init_0 rfl (lv_at hl 0 rfl) ?_
  refine lv_bipush (v := 16) hF.1.1 hF.1.2.1 dJ20_init_1 (by decide) ?_
  refine g_cI [.int 16] 1 rfl hF (met_J19_init l hl0 d ob _ hw) q1215 q1216 q127 q1217 rfl rfl rfl (by decide +kernel) ⟨Nat.le_of_ble_eq_true rfl, Nat.le_of_ble_eq_true rfl⟩ hH [0] rfl rfl rfl hl.1 (Nat.le_of_ble_eq_true rfl) dJ20_init_3 ⟨(by first | exact Nat.le_of_ble_eq_true rfl | omega | (dsimp only; omega)), (by first | exact Nat.le_of_ble_eq_true rfl | omega | (dsimp only; omega))⟩ (fun v w1 H locs hq hH => ?_)
  obtain ⟨q_2, rfl, rfl, hw⟩ := hq
  have hH : g_HS d A s [[(ob, .inr (13, [.ref q_2, .int 0, .int 0, .int 0]))], [(q_2, .inl (d.2.1 2, 16, .inl (fun _ => 0)))]] H locs := hH
  refine W.eq (g2 := (F0 m 6 ls [])) rfl ?_
  refine W.widen (k := 1) (n := 16) (by first | exact Nat.le_of_ble_eq_true rfl | omega | (dsimp only; omega)) (by first | exact Nat.le_of_ble_eq_true rfl | omega | (dsimp only; omega)) ?_
  exact g_vret hF hH ⟨q_2, rfl, rfl, hw⟩ dJ20_init_6

def wp_J19_isLatin1 (ct : Int32) (Q : Int32 → Prop) : Prop := (Q 1)
set_option maxHeartbeats 4000000 in
set_option maxRecDepth 100000 in
theorem met_J19_isLatin1 (l : Launch) (hl0 : l.stackTraces = false) (d : g_D) (ob : Nat) (va : Nat) (ct : Int32) (Q : Int32 → Prop) (hw : wp_J19_isLatin1 ct Q) : g_Met l d yJ19_isLatin1 cJ19_isLatin1 1 (Option.some FieldType.boolean) ({ frames := 0, cells := 0, slots := 0, locals := 0 } : Room) [.ref ob] [[(ob, .inr (13, [.ref va, .int 0, .int 0, .int ct]))]] 0 0 (fun v w1 => ∃ (r : Int32), v = some (.int r) ∧ w1 = [[(ob, .inr (13, [.ref va, .int 0, .int 0, .int ct]))]] ∧ Q r) := by
  refine g_enter (by decide) (Nat.le_of_ble_eq_true rfl) ?_
  intro p e s m args below meth c A ls hF hH hl hin
  have hF : g_F p m c cJ19_isLatin1 1 s args RJ19 meth (Option.some FieldType.boolean) := hF
  have hl : lv_has ls 1 [(0, .ref ob)] := hl
  unfold wp_J19_isLatin1 at hw
  refine g_gets (v := .int 1) hF hH (g_z1 hH).2 q1219 (fun _ h9 => h9) dJ19_isLatin1_0 ?_
  refine lv_if_eq (tgt := 17) hF.1.1 hF.1.2.1 dJ19_isLatin1_3 (by decide) (fun z => absurd z (by decide)) (fun _ => ?_)
  refine lv_aload_n hF.1.1 hF.1.2.1 dJ19_isLatin1_6 rfl (lv_at hl 0 rfl) ?_
  refine g_get (v := .int 0) hF hH in_J20 rfl 0 0 rfl rfl 1 (by decide) q1234 (fun _ h9 => h9) rfl dJ19_isLatin1_7 ?_
  refine lv_if_ne (tgt := 17) hF.1.1 hF.1.2.1 dJ19_isLatin1_10 (by decide) (fun z => absurd z (by decide)) (fun _ => ?_)
  refine lv_iconst (v := 1) hF.1.1 hF.1.2.1 dJ19_isLatin1_13 (by decide) ?_
  refine lv_goto (tgt := 18) hF.1.1 hF.1.2.1 dJ19_isLatin1_14 (by decide) ?_
  exact g_zret hF rfl hH ⟨1, rfl, rfl, hw⟩ dJ19_isLatin1_18

def wp_J22_canEncode (a1 : Int32) (Q : Int32 → Prop) : Prop := ((255 < a1 → (Q 0)) ∧ (¬ 255 < a1 → (Q 1)))
set_option maxHeartbeats 4000000 in
set_option maxRecDepth 100000 in
theorem met_J22_canEncode (l : Launch) (hl0 : l.stackTraces = false) (d : g_D) (a1 : Int32) (Q : Int32 → Prop) (hw : wp_J22_canEncode a1 Q) : g_Met l d yJ22_canEncode cJ22_canEncode 1 (Option.some FieldType.boolean) ({ frames := 0, cells := 0, slots := 0, locals := 0 } : Room) [.int a1] [] 0 0 (fun v w1 => ∃ (r : Int32), v = some (.int r) ∧ w1 = [] ∧ Q r) := by
  refine g_enter (by decide) (Nat.le_of_ble_eq_true rfl) ?_
  intro p e s m args below meth c A ls hF hH hl hin
  have hF : g_F p m c cJ22_canEncode 1 s args RJ22 meth (Option.some FieldType.boolean) := hF
  have hl : lv_has ls 1 [(0, .int a1)] := hl
  unfold wp_J22_canEncode at hw
  refine lv_iload_n hF.1.1 hF.1.2.1 dJ22_canEncode_0 rfl (lv_at hl 0 rfl) ?_
  refine lv_sipush (v := 255) hF.1.1 hF.1.2.1 dJ22_canEncode_1 (by decide) ?_
  refine lv_icmp_gt (tgt := 11) hF.1.1 hF.1.2.1 dJ22_canEncode_4 (by decide) (fun c_2 => ?_) (fun c_2 => ?_)
  · have hw := hw.1 c_2
    refine lv_iconst (v := 0) hF.1.1 hF.1.2.1 dJ22_canEncode_11 (by decide) ?_
    exact g_zret hF rfl hH ⟨0, rfl, rfl, hw⟩ dJ22_canEncode_12
  · have hw := hw.2 c_2
    refine lv_iconst (v := 1) hF.1.1 hF.1.2.1 dJ22_canEncode_7 (by decide) ?_
    refine lv_goto (tgt := 12) hF.1.1 hF.1.2.1 dJ22_canEncode_8 (by decide) ?_
    exact g_zret hF rfl hH ⟨1, rfl, rfl, hw⟩ dJ22_canEncode_12

def wp_J13_copyOf_3 (a1 : Int32) (tx : Nat → Int32) (cap : Nat) (Q : Nat → (Nat → Int32) → Prop) : Prop := ((¬ a1 = (nI cap) → (¬ a1 < 0 ∧ a1.toNatClampNeg ≤ 70 ∧ (¬ (0 : Int32) < 0 ∧ ¬ (0 : Int32) < 0 ∧ ¬ (if a1 < (nI cap) then a1 else (nI cap)) < 0 ∧ (0 : Int32).toNatClampNeg + (if a1 < (nI cap) then a1 else (nI cap)).toNatClampNeg ≤ cap ∧ (0 : Int32).toNatClampNeg + (if a1 < (nI cap) then a1 else (nI cap)).toNatClampNeg ≤ a1.toNatClampNeg ∧ (∀ i, i < (if a1 < (nI cap) then a1 else (nI cap)).toNatClampNeg → fits .byte (.int (tx ((0 : Int32).toNatClampNeg + i))) = true) ∧ (Q a1.toNatClampNeg (va_cpy tx (fun _ => 0) (0 : Int32).toNatClampNeg (0 : Int32).toNatClampNeg (if a1 < (nI cap) then a1 else (nI cap)).toNatClampNeg))))) ∧ (a1 = (nI cap) → False))
set_option maxHeartbeats 4000000 in
set_option maxRecDepth 100000 in
theorem met_J13_copyOf_3 (l : Launch) (hl0 : l.stackTraces = false) (d : g_D) (va : Nat) (a1 : Int32) (tx : Nat → Int32) (cap : Nat) (Q : Nat → (Nat → Int32) → Prop) (hw : wp_J13_copyOf_3 a1 tx cap Q) : g_Met l d yJ13_copyOf_3 cJ13_copyOf_3 3 (Option.some (FieldType.array FieldType.byte)) ({ frames := 1, cells := 1, slots := 70, locals := 32 } : Room) [.ref va, .int a1] [[(va, .inl (d.2.1 2, cap, .inl tx))]] 1 70 (fun v w1 => ∃ (va2 : Nat) (cap2 : Nat) (tx2 : Nat → Int32), v = some (.ref va2) ∧ w1 = [[(va, .inl (d.2.1 2, cap, .inl tx))], [(va2, .inl (d.2.1 2, cap2, .inl tx2))]] ∧ Q cap2 tx2) := by
  refine g_enter (by decide) (Nat.le_of_ble_eq_true rfl) ?_
  intro p e s m args below meth c A ls hF hH hl hin
  have hF : g_F p m c cJ13_copyOf_3 3 s args RJ13 meth (Option.some (FieldType.array FieldType.byte)) := hF
  have hl : lv_has ls 3 [(0, .ref va), (1, .int a1)] := hl
  unfold wp_J13_copyOf_3 at hw
  refine lv_iload_n hF.1.1 hF.1.2.1 dJ13_copyOf_3_0 rfl (lv_at hl 1 rfl) ?_
  refine lv_aload_n hF.1.1 hF.1.2.1 dJ13_copyOf_3_1 rfl (lv_at hl 0 rfl) ?_
  refine g_alen (v := (nI cap)) (ty := .byte) hF hH 0 0 2 rfl rfl rfl rfl dJ13_copyOf_3_2 ?_
  refine lv_icmp_ne (tgt := 14) hF.1.1 hF.1.2.1 dJ13_copyOf_3_3 (by decide) (fun c_11 => ?_) (fun c_11 => ?_)
  · have hw := hw.1 c_11
    refine lv_iload_n hF.1.1 hF.1.2.1 dJ13_copyOf_3_14 rfl (lv_at hl 1 rfl) ?_
    obtain ⟨hc_14, hb_13, hw⟩ := hw
    refine g_newB (N' := a1.toNatClampNeg) hF hH q179 hc_14 rfl (by omega) (by first | exact Nat.le_of_ble_eq_true rfl | omega | (dsimp only; omega)) (by first | exact Nat.le_of_ble_eq_true rfl | omega | (dsimp only; omega)) dJ13_copyOf_3_15 (fun q_12 H hH => ?_)
    have hH : g_HS d A s [[(va, .inl (d.2.1 2, cap, .inl tx))], [(q_12, .inl (d.2.1 2, a1.toNatClampNeg, .inl (fun _ => 0)))]] H _ := hH
    refine W.widen (k := 1) (n := 70) (by first | exact Nat.le_of_ble_eq_true rfl | omega | (dsimp only; omega)) (by first | exact Nat.le_of_ble_eq_true rfl | omega | (dsimp only; omega)) ?_
    refine lv_astore_n (lv' := [(2, .ref q_12), (0, .ref va), (1, .int a1)]) hF.1.1 hF.1.2.1 dJ13_copyOf_3_17 rfl hl (by decide) rfl (fun ls hl => ?_)
    refine lv_aload_n hF.1.1 hF.1.2.1 dJ13_copyOf_3_18 rfl (lv_at hl 1 rfl) ?_
    refine lv_iconst (v := 0) hF.1.1 hF.1.2.1 dJ13_copyOf_3_19 (by decide) ?_
    refine lv_aload_n hF.1.1 hF.1.2.1 dJ13_copyOf_3_20 rfl (lv_at hl 0 rfl) ?_
    refine lv_iconst (v := 0) hF.1.1 hF.1.2.1 dJ13_copyOf_3_21 (by decide) ?_
    refine lv_aload_n hF.1.1 hF.1.2.1 dJ13_copyOf_3_22 rfl (lv_at hl 1 rfl) ?_
    refine g_alen (v := (nI cap)) (ty := .byte) hF hH 0 0 2 rfl rfl rfl rfl dJ13_copyOf_3_23 ?_
    refine lv_iload_n hF.1.1 hF.1.2.1 dJ13_copyOf_3_24 rfl (lv_at hl 2 rfl) ?_
    refine va_mmin hF.1.1 hF.1.2.1 (hF.1.2.2.1.trans hl.1.symm) hF.1.2.2.2.1 (hF.1.2.2.2.2 _ q590) (hF.1.2.2.2.2 _ q362) (hF.1.2.2.2.2 _ q102) (hF.1.2.2.2.2 _ q363) (Nat.le_of_ble_eq_true rfl) (Nat.le_of_ble_eq_true rfl) (by first | exact Nat.le_of_ble_eq_true rfl | omega | (dsimp only; omega)) (by first | exact Nat.le_of_ble_eq_true rfl | omega | (dsimp only; omega)) dJ13_copyOf_3_25 ?_
    obtain ⟨ha_15, ha_16, ha_17, ha_18, ha_19, he_20, hw⟩ := hw
    refine g_copyB hF hH q591 hl.1 ha_15 ha_16 ha_17 ha_18 ha_19 he_20 (Nat.le_of_ble_eq_true rfl) (Nat.le_of_ble_eq_true rfl) dJ13_copyOf_3_28 (fun H locs hH => ?_)
    have hH : g_HS d A s [[(va, .inl (d.2.1 2, cap, .inl tx))], [(q_12, .inl (d.2.1 2, a1.toNatClampNeg, .inl (va_cpy tx (fun _ => 0) (0 : Int32).toNatClampNeg (0 : Int32).toNatClampNeg (if a1 < (nI cap) then a1 else (nI cap)).toNatClampNeg)))]] H _ := hH
    refine lv_aload_n hF.1.1 hF.1.2.1 dJ13_copyOf_3_31 rfl (lv_at hl 0 rfl) ?_
    exact g_aret hF (Or.inr ⟨_, rfl⟩) (Or.inr ⟨_, rfl⟩) hH ⟨q_12, a1.toNatClampNeg, (va_cpy tx (fun _ => 0) (0 : Int32).toNatClampNeg (0 : Int32).toNatClampNeg (if a1 < (nI cap) then a1 else (nI cap)).toNatClampNeg), rfl, rfl, hw⟩ dJ13_copyOf_3_32
  · have hw := hw.2 c_11
    refine lv_aload_n hF.1.1 hF.1.2.1 dJ13_copyOf_3_6 rfl (lv_at hl 0 rfl) ?_
    exact hw.elim

def wp_J19_newCapacity (a1 : Int32) (ct : Int32) (tx : Nat → Int32) (cap : Nat) (Q : Int32 → Prop) : Prop := (wp_J12_newLength (nI cap) ((a1 <<< (0 &&& 31)) - (nI cap)) ((nI cap) + ((2 : Int32) <<< (0 &&& 31))) (fun r_3 => ((¬ r_3 = 2147483647 → (Q (r_3 >>> (0 &&& 31)))) ∧ (r_3 = 2147483647 → False))))
set_option maxHeartbeats 4000000 in
set_option maxRecDepth 100000 in
theorem met_J19_newCapacity (l : Launch) (hl0 : l.stackTraces = false) (d : g_D) (ob : Nat) (a1 : Int32) (va : Nat) (ct : Int32) (tx : Nat → Int32) (cap : Nat) (Q : Int32 → Prop) (hw : wp_J19_newCapacity a1 ct tx cap Q) : g_Met l d yJ19_newCapacity cJ19_newCapacity 6 (Option.some FieldType.int) ({ frames := 2, cells := 0, slots := 0, locals := 55 } : Room) [.ref ob, .int a1] [[(ob, .inr (13, [.ref va, .int 0, .int 0, .int ct]))], [(va, .inl (d.2.1 2, cap, .inl tx))]] 0 0 (fun v w1 => ∃ (r : Int32), v = some (.int r) ∧ w1 = [[(ob, .inr (13, [.ref va, .int 0, .int 0, .int ct]))], [(va, .inl (d.2.1 2, cap, .inl tx))]] ∧ Q r) := by
  refine g_enter (by decide) (Nat.le_of_ble_eq_true rfl) ?_
  intro p e s m args below meth c A ls hF hH hl hin
  have hF : g_F p m c cJ19_newCapacity 6 s args RJ19 meth (Option.some FieldType.int) := hF
  have hl : lv_has ls 6 [(0, .ref ob), (1, .int a1)] := hl
  unfold wp_J19_newCapacity at hw
  refine lv_aload_n hF.1.1 hF.1.2.1 dJ19_newCapacity_0 rfl (lv_at hl 0 rfl) ?_
  refine g_get (v := .ref va) hF hH in_J20 rfl 0 0 rfl rfl 0 (by decide) q1233 (fun _ h9 => h9) rfl dJ19_newCapacity_1 ?_
  refine g_alen (v := (nI cap)) (ty := .byte) hF hH 1 0 2 rfl rfl rfl rfl dJ19_newCapacity_4 ?_
  refine lv_istore_n (lv' := [(2, .int (nI cap)), (0, .ref ob), (1, .int a1)]) hF.1.1 hF.1.2.1 dJ19_newCapacity_5 rfl hl (by decide) rfl (fun ls hl => ?_)
  refine lv_iload_n hF.1.1 hF.1.2.1 dJ19_newCapacity_6 rfl (lv_at hl 2 rfl) ?_
  refine lv_aload_n hF.1.1 hF.1.2.1 dJ19_newCapacity_7 rfl (lv_at hl 1 rfl) ?_
  refine g_get (v := .int 0) hF hH in_J20 rfl 0 0 rfl rfl 1 (by decide) q1234 (fun _ h9 => h9) rfl dJ19_newCapacity_8 ?_
  refine lv_ishl hF.1.1 hF.1.2.1 dJ19_newCapacity_11 ?_
  refine lv_istore_n (lv' := [(3, .int (a1 <<< (0 &&& 31))), (2, .int (nI cap)), (0, .ref ob), (1, .int a1)]) hF.1.1 hF.1.2.1 dJ19_newCapacity_12 rfl hl (by decide) rfl (fun ls hl => ?_)
  refine lv_iload_n hF.1.1 hF.1.2.1 dJ19_newCapacity_13 rfl (lv_at hl 0 rfl) ?_
  refine lv_iload_n hF.1.1 hF.1.2.1 dJ19_newCapacity_14 rfl (lv_at hl 1 rfl) ?_
  refine lv_isub hF.1.1 hF.1.2.1 dJ19_newCapacity_15 ?_
  refine lv_istore (lv' := [(4, .int ((a1 <<< (0 &&& 31)) - (nI cap))), (3, .int (a1 <<< (0 &&& 31))), (2, .int (nI cap)), (0, .ref ob), (1, .int a1)]) hF.1.1 hF.1.2.1 dJ19_newCapacity_16 hl (by decide) rfl (fun ls hl => ?_)
  refine lv_iload_n hF.1.1 hF.1.2.1 dJ19_newCapacity_18 rfl (lv_at hl 2 rfl) ?_
  refine lv_iload hF.1.1 hF.1.2.1 dJ19_newCapacity_19 (lv_at hl 0 rfl) ?_
  refine lv_iload_n hF.1.1 hF.1.2.1 dJ19_newCapacity_21 rfl (lv_at hl 2 rfl) ?_
  refine lv_iconst (v := 2) hF.1.1 hF.1.2.1 dJ19_newCapacity_22 (by decide) ?_
  refine lv_aload_n hF.1.1 hF.1.2.1 dJ19_newCapacity_23 rfl (lv_at hl 3 rfl) ?_
  refine g_get (v := .int 0) hF hH in_J20 rfl 0 0 rfl rfl 1 (by decide) q1234 (fun _ h9 => h9) rfl dJ19_newCapacity_24 ?_
  refine lv_ishl hF.1.1 hF.1.2.1 dJ19_newCapacity_27 ?_
  refine lv_iadd hF.1.1 hF.1.2.1 dJ19_newCapacity_28 ?_
  refine g_cS [.int (nI cap), .int ((a1 <<< (0 &&& 31)) - (nI cap)), .int ((nI cap) + ((2 : Int32) <<< (0 &&& 31)))] 3 rfl hF (met_J12_newLength l hl0 d (nI cap) ((a1 <<< (0 &&& 31)) - (nI cap)) ((nI cap) + ((2 : Int32) <<< (0 &&& 31))) _ hw) q1264 q547 q113 q548 rfl rfl (by decide +kernel) ⟨Nat.le_of_ble_eq_true rfl, Nat.le_of_ble_eq_true rfl⟩ hH [] rfl rfl rfl hl.1 (Nat.le_of_ble_eq_true rfl) dJ19_newCapacity_29 ⟨(by first | exact Nat.le_of_ble_eq_true rfl | omega | (dsimp only; omega)), (by first | exact Nat.le_of_ble_eq_true rfl | omega | (dsimp only; omega))⟩ (fun v w1 H locs hq hH => ?_)
  obtain ⟨r_3, rfl, rfl, hw⟩ := hq
  have hH : g_HS d A s [[(ob, .inr (13, [.ref va, .int 0, .int 0, .int ct]))], [(va, .inl (d.2.1 2, cap, .inl tx))]] H locs := hH
  refine W.eq (g2 := (F0 m 32 ls [.int r_3])) rfl ?_
  refine lv_istore (lv' := [(5, .int r_3), (4, .int ((a1 <<< (0 &&& 31)) - (nI cap))), (3, .int (a1 <<< (0 &&& 31))), (2, .int (nI cap)), (0, .ref ob), (1, .int a1)]) hF.1.1 hF.1.2.1 dJ19_newCapacity_32 hl (by decide) rfl (fun ls hl => ?_)
  refine lv_iload hF.1.1 hF.1.2.1 dJ19_newCapacity_34 (lv_at hl 0 rfl) ?_
  refine lv_ldc hF.1.1 hF.1.2.1 hF.1.2.2.2.1 (hF.1.2.2.2.2 _ q1265) dJ19_newCapacity_36 ?_
  refine lv_icmp_ne (tgt := 51) hF.1.1 hF.1.2.1 dJ19_newCapacity_38 (by decide) (fun c_4 => ?_) (fun c_4 => ?_)
  · have hw := hw.1 c_4
    refine lv_iload hF.1.1 hF.1.2.1 dJ19_newCapacity_51 (lv_at hl 0 rfl) ?_
    refine lv_aload_n hF.1.1 hF.1.2.1 dJ19_newCapacity_53 rfl (lv_at hl 4 rfl) ?_
    refine g_get (v := .int 0) hF hH in_J20 rfl 0 0 rfl rfl 1 (by decide) q1234 (fun _ h9 => h9) rfl dJ19_newCapacity_54 ?_
    refine lv_ishr hF.1.1 hF.1.2.1 dJ19_newCapacity_57 ?_
    exact g_iret hF hH ⟨(r_3 >>> (0 &&& 31)), rfl, rfl, hw⟩ dJ19_newCapacity_58
  · have hw := hw.2 c_4
    exact hw.elim

def wp_J19_ensureCapacityInternal (a1 : Int32) (ct : Int32) (tx : Nat → Int32) (cap : Nat) (Q : Nat → (Nat → Int32) → Prop) : Prop := (((a1 - ((nI cap) >>> (0 &&& 31))) ≤ 0 → (Q cap tx)) ∧ (¬ (a1 - ((nI cap) >>> (0 &&& 31))) ≤ 0 → (wp_J19_newCapacity a1 ct tx cap (fun r_7 => (wp_J13_copyOf_3 (r_7 <<< (0 &&& 31)) tx cap (fun q_9 n_10 => (Q q_9 n_10)))))))
set_option maxHeartbeats 4000000 in
set_option maxRecDepth 100000 in
theorem met_J19_ensureCapacityInternal (l : Launch) (hl0 : l.stackTraces = false) (d : g_D) (ob : Nat) (a1 : Int32) (va : Nat) (ct : Int32) (tx : Nat → Int32) (cap : Nat) (Q : Nat → (Nat → Int32) → Prop) (hw : wp_J19_ensureCapacityInternal a1 ct tx cap Q) : g_Met l d yJ19_ensureCapacityInternal cJ19_ensureCapacityInternal 3 none ({ frames := 3, cells := 1, slots := 70, locals := 80 } : Room) [.ref ob, .int a1] [[(ob, .inr (13, [.ref va, .int 0, .int 0, .int ct]))], [(va, .inl (d.2.1 2, cap, .inl tx))]] 1 70 (fun v w1 => ∃ (va2 : Nat) (cap2 : Nat) (tx2 : Nat → Int32), v = none ∧ w1 = [[(ob, .inr (13, [.ref va2, .int 0, .int 0, .int ct]))], [(va2, .inl (d.2.1 2, cap2, .inl tx2))]] ∧ Q cap2 tx2) := by
  refine g_enter (by decide) (Nat.le_of_ble_eq_true rfl) ?_
  intro p e s m args below meth c A ls hF hH hl hin
  have hF : g_F p m c cJ19_ensureCapacityInternal 3 s args RJ19 meth none := hF
  have hl : lv_has ls 3 [(0, .ref ob), (1, .int a1)] := hl
  unfold wp_J19_ensureCapacityInternal at hw
  refine lv_aload_n hF.1.1 hF.1.2.1 dJ19_ensureCapacityInternal_0 rfl (lv_at hl 0 rfl) ?_
  refine g_get (v := .ref va) hF hH in_J20 rfl 0 0 rfl rfl 0 (by decide) q1233 (fun _ h9 => h9) rfl dJ19_ensureCapacityInternal_1 ?_
  refine g_alen (v := (nI cap)) (ty := .byte) hF hH 1 0 2 rfl rfl rfl rfl dJ19_ensureCapacityInternal_4 ?_
  refine lv_aload_n hF.1.1 hF.1.2.1 dJ19_ensureCapacityInternal_5 rfl (lv_at hl 0 rfl) ?_
  refine g_get (v := .int 0) hF hH in_J20 rfl 0 0 rfl rfl 1 (by decide) q1234 (fun _ h9 => h9) rfl dJ19_ensureCapacityInternal_6 ?_
  refine lv_ishr hF.1.1 hF.1.2.1 dJ19_ensureCapacityInternal_9 ?_
  refine lv_istore_n (lv' := [(2, .int ((nI cap) >>> (0 &&& 31))), (0, .ref ob), (1, .int a1)]) hF.1.1 hF.1.2.1 dJ19_ensureCapacityInternal_10 rfl hl (by decide) rfl (fun ls hl => ?_)
  refine lv_iload_n hF.1.1 hF.1.2.1 dJ19_ensureCapacityInternal_11 rfl (lv_at hl 2 rfl) ?_
  refine lv_iload_n hF.1.1 hF.1.2.1 dJ19_ensureCapacityInternal_12 rfl (lv_at hl 0 rfl) ?_
  refine lv_isub hF.1.1 hF.1.2.1 dJ19_ensureCapacityInternal_13 ?_
  refine lv_if_le (tgt := 38) hF.1.1 hF.1.2.1 dJ19_ensureCapacityInternal_14 (by decide) (fun c_6 => ?_) (fun c_6 => ?_)
  · have hw := hw.1 c_6
    refine W.widen (k := 1) (n := 70) (by first | exact Nat.le_of_ble_eq_true rfl | omega | (dsimp only; omega)) (by first | exact Nat.le_of_ble_eq_true rfl | omega | (dsimp only; omega)) ?_
    exact g_vret hF hH ⟨va, cap, tx, rfl, rfl, hw⟩ dJ19_ensureCapacityInternal_38
  · have hw := hw.2 c_6
    refine lv_aload_n hF.1.1 hF.1.2.1 dJ19_ensureCapacityInternal_17 rfl (lv_at hl 1 rfl) ?_
    refine lv_aload_n hF.1.1 hF.1.2.1 dJ19_ensureCapacityInternal_18 rfl (lv_at hl 1 rfl) ?_
    refine g_get (v := .ref va) hF hH in_J20 rfl 0 0 rfl rfl 0 (by decide) q1233 (fun _ h9 => h9) rfl dJ19_ensureCapacityInternal_19 ?_
    refine lv_aload_n hF.1.1 hF.1.2.1 dJ19_ensureCapacityInternal_22 rfl (lv_at hl 1 rfl) ?_
    refine lv_iload_n hF.1.1 hF.1.2.1 dJ19_ensureCapacityInternal_23 rfl (lv_at hl 2 rfl) ?_
    refine g_cU [.int a1] 1 rfl hF (met_J19_newCapacity l hl0 d ob a1 va ct tx cap _ hw) q1260 q1845 (va_Decl.of (hF.1.2.2.2.2 _ q1262) (hF.1.2.2.2.2 _ q1263)) q1262 q127 q1263 rfl rfl (by decide +kernel) ⟨Nat.le_of_ble_eq_true rfl, Nat.le_of_ble_eq_true rfl⟩ hH [0, 1] rfl rfl rfl 0 0 rfl rfl rfl (g_selP (g_findC hH (ci := 13) rfl) (hF.1.2.2.2.2 _ q1845) (hF.1.2.2.2.2 _ q1262) (g_nwu hH q1261 rfl rfl)) hl.1 (Nat.le_of_ble_eq_true rfl) dJ19_ensureCapacityInternal_24 ⟨(by first | exact Nat.le_of_ble_eq_true rfl | omega | (dsimp only; omega)), (by first | exact Nat.le_of_ble_eq_true rfl | omega | (dsimp only; omega))⟩ (fun v w1 H locs hq hH => ?_)
    obtain ⟨r_7, rfl, rfl, hw⟩ := hq
    have hH : g_HS d A s [[(ob, .inr (13, [.ref va, .int 0, .int 0, .int ct]))], [(va, .inl (d.2.1 2, cap, .inl tx))]] H locs := hH
    refine W.eq (g2 := (F0 m 27 ls [.int r_7, .ref va, .ref ob])) rfl ?_
    refine lv_aload_n hF.1.1 hF.1.2.1 dJ19_ensureCapacityInternal_27 rfl (lv_at hl 1 rfl) ?_
    refine g_get (v := .int 0) hF hH in_J20 rfl 0 0 rfl rfl 1 (by decide) q1234 (fun _ h9 => h9) rfl dJ19_ensureCapacityInternal_28 ?_
    refine lv_ishl hF.1.1 hF.1.2.1 dJ19_ensureCapacityInternal_31 ?_
    refine g_cS [.ref va, .int (r_7 <<< (0 &&& 31))] 2 rfl hF (met_J13_copyOf_3 l hl0 d va (r_7 <<< (0 &&& 31)) tx cap _ hw) q1266 q1267 q114 q1268 rfl rfl (by decide +kernel) ⟨Nat.le_of_ble_eq_true rfl, Nat.le_of_ble_eq_true rfl⟩ hH [1] rfl rfl rfl hl.1 (Nat.le_of_ble_eq_true rfl) dJ19_ensureCapacityInternal_32 ⟨(by first | exact Nat.le_of_ble_eq_true rfl | omega | (dsimp only; omega)), (by first | exact Nat.le_of_ble_eq_true rfl | omega | (dsimp only; omega))⟩ (fun v w1 H locs hq hH => ?_)
    obtain ⟨q_8, q_9, n_10, rfl, rfl, hw⟩ := hq
    have hH : g_HS d A s [[(ob, .inr (13, [.ref va, .int 0, .int 0, .int ct]))], [(va, .inl (d.2.1 2, cap, .inl tx))], [(q_8, .inl (d.2.1 2, q_9, .inl n_10))]] H locs := hH
    refine W.eq (g2 := (F0 m 35 ls [.ref q_8, .ref ob])) rfl ?_
    refine W.widen (k := 1) (n := 70) (by first | exact Nat.le_of_ble_eq_true rfl | omega | (dsimp only; omega)) (by first | exact Nat.le_of_ble_eq_true rfl | omega | (dsimp only; omega)) ?_
    refine g_put (cs' := [[(ob, .inr (13, [.ref q_8, .int 0, .int 0, .int ct]))], [(va, .inl (d.2.1 2, cap, .inl tx))], [(q_8, .inl (d.2.1 2, q_9, .inl n_10))]]) (ch' := [(ob, .inr (13, [.ref q_8, .int 0, .int 0, .int ct]))]) (ty := (.array (.byte))) hF hH in_J20 rfl tyJ20 tyJ20_ok nmJ20 0 0 rfl rfl 0 (by decide) q1233 (fun _ h9 => h9) rfl (by decide +kernel) rfl rfl (Nat.le_of_ble_eq_true rfl) dJ19_ensureCapacityInternal_35 rfl rfl (fun H locs hH => ?_)
    have hH := hH.sub (cs' := [[(ob, .inr (13, [.ref q_8, .int 0, .int 0, .int ct]))], [(q_8, .inl (d.2.1 2, q_9, .inl n_10))]]) [0, 2] rfl rfl
    exact g_vret hF hH ⟨q_8, q_9, n_10, rfl, rfl, hw⟩ dJ19_ensureCapacityInternal_38

def wp_J19_append (a1 : Int32) (ct : Int32) (tx : Nat → Int32) (cap : Nat) (Q : Nat → (Nat → Int32) → Int32 → Prop) : Prop := (wp_J19_ensureCapacityInternal (ct + 1) ct tx cap (fun q_14 n_15 => (wp_J19_isLatin1 ct (fun r_16 => ((r_16 = 0 → (wp_J19_isLatin1 ct (fun r_18 => ((r_18 = 0 → False) ∧ (¬ r_18 = 0 → False))))) ∧ (¬ r_16 = 0 → (wp_J22_canEncode a1 (fun r_20 => ((r_20 = 0 → (wp_J19_isLatin1 ct (fun r_22 => ((r_22 = 0 → False) ∧ (¬ r_22 = 0 → False))))) ∧ (¬ r_20 = 0 → (vp_in ct q_14 ∧ (Q q_14 (upd n_15 ct.toNatClampNeg (vp_nar .byte (a1.toInt8.toInt32))) (ct + 1)))))))))))))
set_option maxHeartbeats 4000000 in
set_option maxRecDepth 100000 in
theorem met_J19_append (l : Launch) (hl0 : l.stackTraces = false) (d : g_D) (ob : Nat) (a1 : Int32) (va : Nat) (ct : Int32) (tx : Nat → Int32) (cap : Nat) (Q : Nat → (Nat → Int32) → Int32 → Prop) (hw : wp_J19_append a1 ct tx cap Q) : g_Met l d yJ19_append cJ19_append 2 (Option.some (FieldType.object "java/lang/AbstractStringBuilder")) ({ frames := 4, cells := 1, slots := 70, locals := 102 } : Room) [.ref ob, .int a1] [[(ob, .inr (13, [.ref va, .int 0, .int 0, .int ct]))], [(va, .inl (d.2.1 2, cap, .inl tx))]] 1 70 (fun v w1 => ∃ (va2 : Nat) (cap2 : Nat) (tx2 : Nat → Int32) (ct2 : Int32), v = some (.ref ob) ∧ w1 = [[(ob, .inr (13, [.ref va2, .int 0, .int 0, .int ct2]))], [(va2, .inl (d.2.1 2, cap2, .inl tx2))]] ∧ Q cap2 tx2 ct2) := by
  refine g_enter (by decide) (Nat.le_of_ble_eq_true rfl) ?_
  intro p e s m args below meth c A ls hF hH hl hin
  have hF : g_F p m c cJ19_append 2 s args RJ19 meth (Option.some (FieldType.object "java/lang/AbstractStringBuilder")) := hF
  have hl : lv_has ls 2 [(0, .ref ob), (1, .int a1)] := hl
  unfold wp_J19_append at hw
  refine lv_aload_n hF.1.1 hF.1.2.1 dJ19_append_0 rfl (lv_at hl 0 rfl) ?_
  refine lv_aload_n hF.1.1 hF.1.2.1 dJ19_append_1 rfl (lv_at hl 0 rfl) ?_
  refine g_get (v := .int ct) hF hH in_J20 rfl 0 0 rfl rfl 3 (by decide) q1235 (fun _ h9 => h9) rfl dJ19_append_2 ?_
  refine lv_iconst (v := 1) hF.1.1 hF.1.2.1 dJ19_append_5 (by decide) ?_
  refine lv_iadd hF.1.1 hF.1.2.1 dJ19_append_6 ?_
  refine g_cU [.int (ct + 1)] 1 rfl hF (met_J19_ensureCapacityInternal l hl0 d ob (ct + 1) va ct tx cap _ hw) q1256 q1844 (va_Decl.of (hF.1.2.2.2.2 _ q1258) (hF.1.2.2.2.2 _ q1259)) q1258 q127 q1259 rfl rfl (by decide +kernel) ⟨Nat.le_of_ble_eq_true rfl, Nat.le_of_ble_eq_true rfl⟩ hH [0, 1] rfl rfl rfl 0 0 rfl rfl rfl (g_selP (g_findC hH (ci := 13) rfl) (hF.1.2.2.2.2 _ q1844) (hF.1.2.2.2.2 _ q1258) (g_nwu hH q1257 rfl rfl)) hl.1 (Nat.le_of_ble_eq_true rfl) dJ19_append_7 ⟨(by first | exact Nat.le_of_ble_eq_true rfl | omega | (dsimp only; omega)), (by first | exact Nat.le_of_ble_eq_true rfl | omega | (dsimp only; omega))⟩ (fun v w1 H locs hq hH => ?_)
  obtain ⟨q_13, q_14, n_15, rfl, rfl, hw⟩ := hq
  have hH : g_HS d A s [[(ob, .inr (13, [.ref q_13, .int 0, .int 0, .int ct]))], [(q_13, .inl (d.2.1 2, q_14, .inl n_15))]] H locs := hH
  refine W.eq (g2 := (F0 m 10 ls [])) rfl ?_
  refine W.widen (k := 1) (n := 70) (by first | exact Nat.le_of_ble_eq_true rfl | omega | (dsimp only; omega)) (by first | exact Nat.le_of_ble_eq_true rfl | omega | (dsimp only; omega)) ?_
  refine lv_aload_n hF.1.1 hF.1.2.1 dJ19_append_10 rfl (lv_at hl 0 rfl) ?_
  refine g_cU [] 0 rfl hF (met_J19_isLatin1 l hl0 d ob q_13 ct _ hw) q1276 q1278 (va_Decl.of (hF.1.2.2.2.2 _ q1277) (hF.1.2.2.2.2 _ q1280)) q1277 q127 q1280 rfl rfl (by decide +kernel) ⟨Nat.le_of_ble_eq_true rfl, Nat.le_of_ble_eq_true rfl⟩ hH [0] rfl rfl rfl 0 0 rfl rfl rfl (hF.1.2.2.2.2 _ q1279) hl.1 (Nat.le_of_ble_eq_true rfl) dJ19_append_11 ⟨(by first | exact Nat.le_of_ble_eq_true rfl | omega | (dsimp only; omega)), (by first | exact Nat.le_of_ble_eq_true rfl | omega | (dsimp only; omega))⟩ (fun v w1 H locs hq hH => ?_)
  obtain ⟨r_16, rfl, rfl, hw⟩ := hq
  have hH : g_HS d A s [[(q_13, .inl (d.2.1 2, q_14, .inl n_15))], [(ob, .inr (13, [.ref q_13, .int 0, .int 0, .int ct]))]] H locs := hH
  refine W.eq (g2 := (F0 m 14 ls [.int r_16])) rfl ?_
  refine lv_if_eq (tgt := 45) hF.1.1 hF.1.2.1 dJ19_append_14 (by decide) (fun c_17 => ?_) (fun c_17 => ?_)
  · have hw := hw.1 c_17
    refine lv_aload_n hF.1.1 hF.1.2.1 dJ19_append_45 rfl (lv_at hl 0 rfl) ?_
    refine g_cU [] 0 rfl hF (met_J19_isLatin1 l hl0 d ob q_13 ct _ hw) q1276 q1278 (va_Decl.of (hF.1.2.2.2.2 _ q1277) (hF.1.2.2.2.2 _ q1280)) q1277 q127 q1280 rfl rfl (by decide +kernel) ⟨Nat.le_of_ble_eq_true rfl, Nat.le_of_ble_eq_true rfl⟩ hH [1] rfl rfl rfl 0 0 rfl rfl rfl (hF.1.2.2.2.2 _ q1279) hl.1 (Nat.le_of_ble_eq_true rfl) dJ19_append_46 ⟨(by first | exact Nat.le_of_ble_eq_true rfl | omega | (dsimp only; omega)), (by first | exact Nat.le_of_ble_eq_true rfl | omega | (dsimp only; omega))⟩ (fun v w1 H locs hq hH => ?_)
    obtain ⟨r_18, rfl, rfl, hw⟩ := hq
    have hH : g_HS d A s [[(q_13, .inl (d.2.1 2, q_14, .inl n_15))], [(ob, .inr (13, [.ref q_13, .int 0, .int 0, .int ct]))]] H locs := hH
    refine W.eq (g2 := (F0 m 49 ls [.int r_18])) rfl ?_
    refine lv_if_eq (tgt := 56) hF.1.1 hF.1.2.1 dJ19_append_49 (by decide) (fun c_19 => ?_) (fun c_19 => ?_)
    · have hw := hw.1 c_19
      refine lv_aload_n hF.1.1 hF.1.2.1 dJ19_append_56 rfl (lv_at hl 0 rfl) ?_
      refine g_get (v := .ref q_13) hF hH in_J20 rfl 1 0 rfl rfl 0 (by decide) q1233 (fun _ h9 => h9) rfl dJ19_append_57 ?_
      refine lv_aload_n hF.1.1 hF.1.2.1 dJ19_append_60 rfl (lv_at hl 0 rfl) ?_
      refine lv_dup hF.1.1 hF.1.2.1 dJ19_append_61 rfl ?_
      refine g_get (v := .int ct) hF hH in_J20 rfl 1 0 rfl rfl 3 (by decide) q1235 (fun _ h9 => h9) rfl dJ19_append_62 ?_
      refine lv_dup_x1 hF.1.1 hF.1.2.1 dJ19_append_65 rfl rfl ?_
      refine lv_iconst (v := 1) hF.1.1 hF.1.2.1 dJ19_append_66 (by decide) ?_
      refine lv_iadd hF.1.1 hF.1.2.1 dJ19_append_67 ?_
      refine g_put (cs' := [[(q_13, .inl (d.2.1 2, q_14, .inl n_15))], [(ob, .inr (13, [.ref q_13, .int 0, .int 0, .int (ct + 1)]))]]) (ch' := [(ob, .inr (13, [.ref q_13, .int 0, .int 0, .int (ct + 1)]))]) (ty := .int) hF hH in_J20 rfl tyJ20 tyJ20_ok nmJ20 1 0 rfl rfl 3 (by decide) q1235 (fun _ h9 => h9) rfl (by decide +kernel) rfl rfl (Nat.le_of_ble_eq_true rfl) dJ19_append_68 rfl rfl (fun H locs hH => ?_)
      refine lv_iload_n hF.1.1 hF.1.2.1 dJ19_append_71 rfl (lv_at hl 1 rfl) ?_
      exact hw.elim
    · have hw := hw.2 c_19
      refine lv_aload_n hF.1.1 hF.1.2.1 dJ19_append_52 rfl (lv_at hl 0 rfl) ?_
      exact hw.elim
  · have hw := hw.2 c_17
    refine lv_iload_n hF.1.1 hF.1.2.1 dJ19_append_17 rfl (lv_at hl 1 rfl) ?_
    refine g_cS [.int a1] 1 rfl hF (met_J22_canEncode l hl0 d a1 _ hw) q1281 q1282 q130 q1283 rfl rfl (by decide +kernel) ⟨Nat.le_of_ble_eq_true rfl, Nat.le_of_ble_eq_true rfl⟩ hH [] rfl rfl rfl hl.1 (Nat.le_of_ble_eq_true rfl) dJ19_append_18 ⟨(by first | exact Nat.le_of_ble_eq_true rfl | omega | (dsimp only; omega)), (by first | exact Nat.le_of_ble_eq_true rfl | omega | (dsimp only; omega))⟩ (fun v w1 H locs hq hH => ?_)
    obtain ⟨r_20, rfl, rfl, hw⟩ := hq
    have hH : g_HS d A s [[(q_13, .inl (d.2.1 2, q_14, .inl n_15))], [(ob, .inr (13, [.ref q_13, .int 0, .int 0, .int ct]))]] H locs := hH
    refine W.eq (g2 := (F0 m 21 ls [.int r_20])) rfl ?_
    refine lv_if_eq (tgt := 45) hF.1.1 hF.1.2.1 dJ19_append_21 (by decide) (fun c_21 => ?_) (fun c_21 => ?_)
    · have hw := hw.1 c_21
      refine lv_aload_n hF.1.1 hF.1.2.1 dJ19_append_45 rfl (lv_at hl 0 rfl) ?_
      refine g_cU [] 0 rfl hF (met_J19_isLatin1 l hl0 d ob q_13 ct _ hw) q1276 q1278 (va_Decl.of (hF.1.2.2.2.2 _ q1277) (hF.1.2.2.2.2 _ q1280)) q1277 q127 q1280 rfl rfl (by decide +kernel) ⟨Nat.le_of_ble_eq_true rfl, Nat.le_of_ble_eq_true rfl⟩ hH [1] rfl rfl rfl 0 0 rfl rfl rfl (hF.1.2.2.2.2 _ q1279) hl.1 (Nat.le_of_ble_eq_true rfl) dJ19_append_46 ⟨(by first | exact Nat.le_of_ble_eq_true rfl | omega | (dsimp only; omega)), (by first | exact Nat.le_of_ble_eq_true rfl | omega | (dsimp only; omega))⟩ (fun v w1 H locs hq hH => ?_)
      obtain ⟨r_22, rfl, rfl, hw⟩ := hq
      have hH : g_HS d A s [[(q_13, .inl (d.2.1 2, q_14, .inl n_15))], [(ob, .inr (13, [.ref q_13, .int 0, .int 0, .int ct]))]] H locs := hH
      refine W.eq (g2 := (F0 m 49 ls [.int r_22])) rfl ?_
      refine lv_if_eq (tgt := 56) hF.1.1 hF.1.2.1 dJ19_append_49 (by decide) (fun c_23 => ?_) (fun c_23 => ?_)
      · have hw := hw.1 c_23
        refine lv_aload_n hF.1.1 hF.1.2.1 dJ19_append_56 rfl (lv_at hl 0 rfl) ?_
        refine g_get (v := .ref q_13) hF hH in_J20 rfl 1 0 rfl rfl 0 (by decide) q1233 (fun _ h9 => h9) rfl dJ19_append_57 ?_
        refine lv_aload_n hF.1.1 hF.1.2.1 dJ19_append_60 rfl (lv_at hl 0 rfl) ?_
        refine lv_dup hF.1.1 hF.1.2.1 dJ19_append_61 rfl ?_
        refine g_get (v := .int ct) hF hH in_J20 rfl 1 0 rfl rfl 3 (by decide) q1235 (fun _ h9 => h9) rfl dJ19_append_62 ?_
        refine lv_dup_x1 hF.1.1 hF.1.2.1 dJ19_append_65 rfl rfl ?_
        refine lv_iconst (v := 1) hF.1.1 hF.1.2.1 dJ19_append_66 (by decide) ?_
        refine lv_iadd hF.1.1 hF.1.2.1 dJ19_append_67 ?_
        refine g_put (cs' := [[(q_13, .inl (d.2.1 2, q_14, .inl n_15))], [(ob, .inr (13, [.ref q_13, .int 0, .int 0, .int (ct + 1)]))]]) (ch' := [(ob, .inr (13, [.ref q_13, .int 0, .int 0, .int (ct + 1)]))]) (ty := .int) hF hH in_J20 rfl tyJ20 tyJ20_ok nmJ20 1 0 rfl rfl 3 (by decide) q1235 (fun _ h9 => h9) rfl (by decide +kernel) rfl rfl (Nat.le_of_ble_eq_true rfl) dJ19_append_68 rfl rfl (fun H locs hH => ?_)
        refine lv_iload_n hF.1.1 hF.1.2.1 dJ19_append_71 rfl (lv_at hl 1 rfl) ?_
        exact hw.elim
      · have hw := hw.2 c_23
        refine lv_aload_n hF.1.1 hF.1.2.1 dJ19_append_52 rfl (lv_at hl 0 rfl) ?_
        exact hw.elim
    · have hw := hw.2 c_21
      refine lv_aload_n hF.1.1 hF.1.2.1 dJ19_append_24 rfl (lv_at hl 0 rfl) ?_
      refine g_get (v := .ref q_13) hF hH in_J20 rfl 1 0 rfl rfl 0 (by decide) q1233 (fun _ h9 => h9) rfl dJ19_append_25 ?_
      refine lv_aload_n hF.1.1 hF.1.2.1 dJ19_append_28 rfl (lv_at hl 0 rfl) ?_
      refine lv_dup hF.1.1 hF.1.2.1 dJ19_append_29 rfl ?_
      refine g_get (v := .int ct) hF hH in_J20 rfl 1 0 rfl rfl 3 (by decide) q1235 (fun _ h9 => h9) rfl dJ19_append_30 ?_
      refine lv_dup_x1 hF.1.1 hF.1.2.1 dJ19_append_33 rfl rfl ?_
      refine lv_iconst (v := 1) hF.1.1 hF.1.2.1 dJ19_append_34 (by decide) ?_
      refine lv_iadd hF.1.1 hF.1.2.1 dJ19_append_35 ?_
      refine g_put (cs' := [[(q_13, .inl (d.2.1 2, q_14, .inl n_15))], [(ob, .inr (13, [.ref q_13, .int 0, .int 0, .int (ct + 1)]))]]) (ch' := [(ob, .inr (13, [.ref q_13, .int 0, .int 0, .int (ct + 1)]))]) (ty := .int) hF hH in_J20 rfl tyJ20 tyJ20_ok nmJ20 1 0 rfl rfl 3 (by decide) q1235 (fun _ h9 => h9) rfl (by decide +kernel) rfl rfl (Nat.le_of_ble_eq_true rfl) dJ19_append_36 rfl rfl (fun H locs hH => ?_)
      refine lv_iload_n hF.1.1 hF.1.2.1 dJ19_append_39 rfl (lv_at hl 1 rfl) ?_
      refine lv_i2b (v := (a1.toInt8.toInt32)) hF.1.1 hF.1.2.1 dJ19_append_40 rfl ?_
      obtain ⟨hi_24, hw⟩ := hw
      refine g_bast (cs' := [[(q_13, .inl (d.2.1 2, q_14, .inl (upd n_15 ct.toNatClampNeg (vp_nar .byte (a1.toInt8.toInt32)))))], [(ob, .inr (13, [.ref q_13, .int 0, .int 0, .int (ct + 1)]))]]) (ch' := [(q_13, .inl (d.2.1 2, q_14, .inl (upd n_15 ct.toNatClampNeg (vp_nar .byte (a1.toInt8.toInt32)))))]) hF hH 0 0 rfl rfl hi_24 dJ19_append_41 rfl rfl (fun H locs hH => ?_)
      refine lv_goto (tgt := 75) hF.1.1 hF.1.2.1 dJ19_append_42 (by decide) ?_
      refine lv_aload_n hF.1.1 hF.1.2.1 dJ19_append_75 rfl (lv_at hl 0 rfl) ?_
      have hH := hH.sub (cs' := [[(ob, .inr (13, [.ref q_13, .int 0, .int 0, .int (ct + 1)]))], [(q_13, .inl (d.2.1 2, q_14, .inl (upd n_15 ct.toNatClampNeg (vp_nar .byte (a1.toInt8.toInt32)))))]]) [1, 0] rfl rfl
      exact g_aret hF (Or.inl ⟨_, rfl⟩) (Or.inr ⟨_, rfl⟩) hH ⟨q_13, q_14, (upd n_15 ct.toNatClampNeg (vp_nar .byte (a1.toInt8.toInt32))), (ct + 1), rfl, rfl, hw⟩ dJ19_append_76

def wp_J20_append (a1 : Int32) (ct : Int32) (tx : Nat → Int32) (cap : Nat) (Q : Nat → (Nat → Int32) → Int32 → Prop) : Prop := (wp_J19_append a1 ct tx cap (fun q_6 n_7 n_8 => (Q q_6 n_7 n_8)))
set_option maxHeartbeats 4000000 in
set_option maxRecDepth 100000 in
theorem met_J20_append (l : Launch) (hl0 : l.stackTraces = false) (d : g_D) (ob : Nat) (a1 : Int32) (va : Nat) (ct : Int32) (tx : Nat → Int32) (cap : Nat) (Q : Nat → (Nat → Int32) → Int32 → Prop) (hw : wp_J20_append a1 ct tx cap Q) : g_Met l d yJ20_append cJ20_append 2 (Option.some (FieldType.object "java/lang/StringBuilder")) ({ frames := 5, cells := 1, slots := 70, locals := 123 } : Room) [.ref ob, .int a1] [[(ob, .inr (13, [.ref va, .int 0, .int 0, .int ct]))], [(va, .inl (d.2.1 2, cap, .inl tx))]] 1 70 (fun v w1 => ∃ (va2 : Nat) (cap2 : Nat) (tx2 : Nat → Int32) (ct2 : Int32), v = some (.ref ob) ∧ w1 = [[(ob, .inr (13, [.ref va2, .int 0, .int 0, .int ct2]))], [(va2, .inl (d.2.1 2, cap2, .inl tx2))]] ∧ Q cap2 tx2 ct2) := by
  refine g_enter (by decide) (Nat.le_of_ble_eq_true rfl) ?_
  intro p e s m args below meth c A ls hF hH hl hin
  have hF : g_F p m c cJ20_append 2 s args RJ20 meth (Option.some (FieldType.object "java/lang/StringBuilder")) := hF
  have hl : lv_has ls 2 [(0, .ref ob), (1, .int a1)] := hl
  unfold wp_J20_append at hw
  refine lv_aload_n hF.1.1 hF.1.2.1 dJ20_append_0 rfl (lv_at hl 0 rfl) ?_
  refine lv_iload_n hF.1.1 hF.1.2.1 dJ20_append_1 rfl (lv_at hl 1 rfl) ?_
  refine g_cSU [.int a1] 1 rfl hF (met_J19_append l hl0 d ob a1 va ct tx cap _ hw) q1253 q1843 q1244 q1254 q127 q1255 rfl rfl (by decide +kernel) ⟨Nat.le_of_ble_eq_true rfl, Nat.le_of_ble_eq_true rfl⟩ hH [0, 1] rfl rfl rfl 0 0 rfl rfl rfl hl.1 (Nat.le_of_ble_eq_true rfl) dJ20_append_2 ⟨(by first | exact Nat.le_of_ble_eq_true rfl | omega | (dsimp only; omega)), (by first | exact Nat.le_of_ble_eq_true rfl | omega | (dsimp only; omega))⟩ (fun v w1 H locs hq hH => ?_)
  obtain ⟨q_5, q_6, n_7, n_8, rfl, rfl, hw⟩ := hq
  have hH : g_HS d A s [[(ob, .inr (13, [.ref q_5, .int 0, .int 0, .int n_8]))], [(q_5, .inl (d.2.1 2, q_6, .inl n_7))]] H locs := hH
  refine W.eq (g2 := (F0 m 5 ls [.ref ob])) rfl ?_
  refine W.widen (k := 1) (n := 70) (by first | exact Nat.le_of_ble_eq_true rfl | omega | (dsimp only; omega)) (by first | exact Nat.le_of_ble_eq_true rfl | omega | (dsimp only; omega)) ?_
  refine lv_pop hF.1.1 hF.1.2.1 dJ20_append_5 rfl ?_
  refine lv_aload_n hF.1.1 hF.1.2.1 dJ20_append_6 rfl (lv_at hl 0 rfl) ?_
  exact g_aret hF (Or.inl ⟨_, rfl⟩) (Or.inr ⟨_, rfl⟩) hH ⟨q_5, q_6, n_7, n_8, rfl, rfl, hw⟩ dJ20_append_7

def wp_J19_length (ct : Int32) (Q : Int32 → Prop) : Prop := (Q ct)
set_option maxHeartbeats 4000000 in
set_option maxRecDepth 100000 in
theorem met_J19_length (l : Launch) (hl0 : l.stackTraces = false) (d : g_D) (ob : Nat) (va : Nat) (ct : Int32) (Q : Int32 → Prop) (hw : wp_J19_length ct Q) : g_Met l d yJ19_length cJ19_length 1 (Option.some FieldType.int) ({ frames := 0, cells := 0, slots := 0, locals := 0 } : Room) [.ref ob] [[(ob, .inr (13, [.ref va, .int 0, .int 0, .int ct]))]] 0 0 (fun v w1 => ∃ (r : Int32), v = some (.int r) ∧ w1 = [[(ob, .inr (13, [.ref va, .int 0, .int 0, .int ct]))]] ∧ Q r) := by
  refine g_enter (by decide) (Nat.le_of_ble_eq_true rfl) ?_
  intro p e s m args below meth c A ls hF hH hl hin
  have hF : g_F p m c cJ19_length 1 s args RJ19 meth (Option.some FieldType.int) := hF
  have hl : lv_has ls 1 [(0, .ref ob)] := hl
  unfold wp_J19_length at hw
  refine lv_aload_n hF.1.1 hF.1.2.1 dJ19_length_0 rfl (lv_at hl 0 rfl) ?_
  refine g_get (v := .int ct) hF hH in_J20 rfl 0 0 rfl rfl 3 (by decide) q1235 (fun _ h9 => h9) rfl dJ19_length_1 ?_
  exact g_iret hF hH ⟨ct, rfl, rfl, hw⟩ dJ19_length_4

def wp_J20_length (ct : Int32) (Q : Int32 → Prop) : Prop := (wp_J19_length ct (fun r_2 => (Q r_2)))
set_option maxHeartbeats 4000000 in
set_option maxRecDepth 100000 in
theorem met_J20_length (l : Launch) (hl0 : l.stackTraces = false) (d : g_D) (ob : Nat) (va : Nat) (ct : Int32) (Q : Int32 → Prop) (hw : wp_J20_length ct Q) : g_Met l d yJ20_length cJ20_length 1 (Option.some FieldType.int) ({ frames := 1, cells := 0, slots := 0, locals := 20 } : Room) [.ref ob] [[(ob, .inr (13, [.ref va, .int 0, .int 0, .int ct]))]] 0 0 (fun v w1 => ∃ (r : Int32), v = some (.int r) ∧ w1 = [[(ob, .inr (13, [.ref va, .int 0, .int 0, .int ct]))]] ∧ Q r) := by
  refine g_enter (by decide) (Nat.le_of_ble_eq_true rfl) ?_
  intro p e s m args below meth c A ls hF hH hl hin
  have hF : g_F p m c cJ20_length 1 s args RJ20 meth (Option.some FieldType.int) := hF
  have hl : lv_has ls 1 [(0, .ref ob)] := hl
  unfold wp_J20_length at hw
  refine lv_aload_n hF.1.1 hF.1.2.1 dJ20_length_0 rfl (lv_at hl 0 rfl) ?_
  refine g_cSU [] 0 rfl hF (met_J19_length l hl0 d ob va ct _ hw) q1355 q1847 q1244 q1356 q127 q1357 rfl rfl (by decide +kernel) ⟨Nat.le_of_ble_eq_true rfl, Nat.le_of_ble_eq_true rfl⟩ hH [0] rfl rfl rfl 0 0 rfl rfl rfl hl.1 (Nat.le_of_ble_eq_true rfl) dJ20_length_1 ⟨(by first | exact Nat.le_of_ble_eq_true rfl | omega | (dsimp only; omega)), (by first | exact Nat.le_of_ble_eq_true rfl | omega | (dsimp only; omega))⟩ (fun v w1 H locs hq hH => ?_)
  obtain ⟨r_2, rfl, rfl, hw⟩ := hq
  have hH : g_HS d A s [[(ob, .inr (13, [.ref va, .int 0, .int 0, .int ct]))]] H locs := hH
  refine W.eq (g2 := (F0 m 4 ls [.int r_2])) rfl ?_
  exact g_iret hF hH ⟨r_2, rfl, rfl, hw⟩ dJ20_length_4

def wb_J15_checkIndex_r_9 (a1 : Int32) (a2 : Int32) (Q : Int32 → Prop) : Prop := False
def wp_J15_checkIndex_r (a1 : Int32) (a2 : Int32) (Q : Int32 → Prop) : Prop := ((a1 < 0 → (wb_J15_checkIndex_r_9 a1 a2 Q)) ∧ (¬ a1 < 0 → ((a1 < a2 → (Q a1)) ∧ (¬ a1 < a2 → (wb_J15_checkIndex_r_9 a1 a2 Q)))))
set_option maxHeartbeats 4000000 in
set_option maxRecDepth 100000 in
theorem met_J15_checkIndex_r (l : Launch) (hl0 : l.stackTraces = false) (d : g_D) (a1 : Int32) (a2 : Int32) (tf : Nat) (Q : Int32 → Prop) (hw : wp_J15_checkIndex_r a1 a2 Q) : g_Met l d yJ15_checkIndex cJ15_checkIndex 3 (Option.some FieldType.int) ({ frames := 0, cells := 0, slots := 0, locals := 0 } : Room) [.int a1, .int a2, .ref tf] [] 0 0 (fun v w1 => ∃ (r : Int32), v = some (.int r) ∧ w1 = [] ∧ Q r) := by
  refine g_enter (by decide) (Nat.le_of_ble_eq_true rfl) ?_
  intro p e s m args below meth c A ls hF hH hl hin
  have hF : g_F p m c cJ15_checkIndex 3 s args RJ15 meth (Option.some FieldType.int) := hF
  have hl : lv_has ls 3 [(0, .int a1), (1, .int a2), (2, .ref tf)] := hl
  have bk_9 : ∀ (H : Heap) (locs : List Loc) (ls : Array Slot), g_HS d A s [] H locs → lv_has ls 3 [(0, .int a1), (1, .int a2), (2, .ref tf)] → wb_J15_checkIndex_r_9 a1 a2 Q → W p l e ({ frames := 0, cells := 0, slots := 0, locals := 0 } : Room) s m args below meth c H locs 0 0 (g_E d (fun v w1 => ∃ (r : Int32), v = some (.int r) ∧ w1 = [] ∧ Q r) A below args s 0 0) (F0 m 9 ls []) := by
    intro  H locs ls hH hl hw
    unfold wb_J15_checkIndex_r_9 at hw
    refine lv_aload_n hF.1.1 hF.1.2.1 dJ15_checkIndex_9 rfl (lv_at hl 2 rfl) ?_
    refine lv_iload_n hF.1.1 hF.1.2.1 dJ15_checkIndex_10 rfl (lv_at hl 0 rfl) ?_
    refine lv_iload_n hF.1.1 hF.1.2.1 dJ15_checkIndex_11 rfl (lv_at hl 1 rfl) ?_
    exact hw.elim
  unfold wp_J15_checkIndex_r at hw
  refine lv_iload_n hF.1.1 hF.1.2.1 dJ15_checkIndex_0 rfl (lv_at hl 0 rfl) ?_
  refine lv_if_lt (tgt := 9) hF.1.1 hF.1.2.1 dJ15_checkIndex_1 (by decide) (fun c_3 => ?_) (fun c_3 => ?_)
  · have hw := hw.1 c_3
    exact bk_9 _ _ _ hH hl hw
  · have hw := hw.2 c_3
    refine lv_iload_n hF.1.1 hF.1.2.1 dJ15_checkIndex_4 rfl (lv_at hl 0 rfl) ?_
    refine lv_iload_n hF.1.1 hF.1.2.1 dJ15_checkIndex_5 rfl (lv_at hl 1 rfl) ?_
    refine lv_icmp_lt (tgt := 16) hF.1.1 hF.1.2.1 dJ15_checkIndex_6 (by decide) (fun c_4 => ?_) (fun c_4 => ?_)
    · have hw := hw.1 c_4
      refine lv_iload_n hF.1.1 hF.1.2.1 dJ15_checkIndex_16 rfl (lv_at hl 0 rfl) ?_
      exact g_iret hF hH ⟨a1, rfl, rfl, hw⟩ dJ15_checkIndex_17
    · have hw := hw.2 c_4
      exact bk_9 _ _ _ hH hl hw

def wp_J5_checkIndex (a1 : Int32) (a2 : Int32) (Q : Prop) : Prop := ((wp_J15_checkIndex a1 a2 (fun r_5 => Q)) ∧ (wp_J15_checkIndex_r a1 a2 (fun r_6 => Q)))
set_option maxHeartbeats 4000000 in
set_option maxRecDepth 100000 in
theorem met_J5_checkIndex (l : Launch) (hl0 : l.stackTraces = false) (d : g_D) (a1 : Int32) (a2 : Int32) (Q : Prop) (hw : wp_J5_checkIndex a1 a2 Q) : g_Met l d yJ5_checkIndex cJ5_checkIndex 2 none ({ frames := 1, cells := 0, slots := 0, locals := 22 } : Room) [.int a1, .int a2] [] 0 0 (fun v w1 => v = none ∧ w1 = [] ∧ Q) := by
  refine g_enter (by decide) (Nat.le_of_ble_eq_true rfl) ?_
  intro p e s m args below meth c A ls hF hH hl hin
  have hF : g_F p m c cJ5_checkIndex 2 s args RJ5 meth none := hF
  have hl : lv_has ls 2 [(0, .int a1), (1, .int a2)] := hl
  unfold wp_J5_checkIndex at hw
  refine lv_iload_n hF.1.1 hF.1.2.1 dJ5_checkIndex_0 rfl (lv_at hl 0 rfl) ?_
  refine lv_iload_n hF.1.1 hF.1.2.1 dJ5_checkIndex_1 rfl (lv_at hl 1 rfl) ?_
  refine g_getsQ2 hF hH (g_z3 hH).2.2 q1303 (fun _ h9 => h9) dJ5_checkIndex_2 ?_ (fun z_4 => ?_)
  · have hw := hw.1
    refine g_cS [.int a1, .int a2, .null] 3 rfl hF (met_J15_checkIndex l hl0 d a1 a2 _ hw) q1326 q612 q117 q613 rfl rfl (by decide +kernel) ⟨Nat.le_of_ble_eq_true rfl, Nat.le_of_ble_eq_true rfl⟩ hH [] rfl rfl rfl hl.1 (Nat.le_of_ble_eq_true rfl) dJ5_checkIndex_5 ⟨(by first | exact Nat.le_of_ble_eq_true rfl | omega | (dsimp only; omega)), (by first | exact Nat.le_of_ble_eq_true rfl | omega | (dsimp only; omega))⟩ (fun v w1 H locs hq hH => ?_)
    obtain ⟨r_5, rfl, rfl, hw⟩ := hq
    have hH : g_HS d A s [] H locs := hH
    refine W.eq (g2 := (F0 m 8 ls [.int r_5])) rfl ?_
    refine lv_pop hF.1.1 hF.1.2.1 dJ5_checkIndex_8 rfl ?_
    exact g_vret hF hH ⟨rfl, rfl, hw⟩ dJ5_checkIndex_9
  · have hw := hw.2
    refine g_cS [.int a1, .int a2, .ref z_4] 3 rfl hF (met_J15_checkIndex_r l hl0 d a1 a2 z_4 _ hw) q1326 q612 q117 q613 rfl rfl (by decide +kernel) ⟨Nat.le_of_ble_eq_true rfl, Nat.le_of_ble_eq_true rfl⟩ hH [] rfl rfl rfl hl.1 (Nat.le_of_ble_eq_true rfl) dJ5_checkIndex_5 ⟨(by first | exact Nat.le_of_ble_eq_true rfl | omega | (dsimp only; omega)), (by first | exact Nat.le_of_ble_eq_true rfl | omega | (dsimp only; omega))⟩ (fun v w1 H locs hq hH => ?_)
    obtain ⟨r_6, rfl, rfl, hw⟩ := hq
    have hH : g_HS d A s [] H locs := hH
    refine W.eq (g2 := (F0 m 8 ls [.int r_6])) rfl ?_
    refine lv_pop hF.1.1 hF.1.2.1 dJ5_checkIndex_8 rfl ?_
    exact g_vret hF hH ⟨rfl, rfl, hw⟩ dJ5_checkIndex_9

def wp_J19_charAt (a1 : Int32) (ct : Int32) (tx : Nat → Int32) (cap : Nat) (Q : Int32 → Prop) : Prop := (wp_J5_checkIndex a1 (if ((nI cap) >>> (0 &&& 31)) < ct then ((nI cap) >>> (0 &&& 31)) else ct) (vp_in a1 cap ∧ (narrow .char (.int ((((tx a1.toNatClampNeg) &&& 255).toUInt32 % 65536).toInt32)) = .int ((((tx a1.toNatClampNeg) &&& 255).toUInt32 % 65536).toInt32) ∧ (Q ((((tx a1.toNatClampNeg) &&& 255).toUInt32 % 65536).toInt32)))))
set_option maxHeartbeats 4000000 in
set_option maxRecDepth 100000 in
theorem met_J19_charAt (l : Launch) (hl0 : l.stackTraces = false) (d : g_D) (ob : Nat) (a1 : Int32) (va : Nat) (ct : Int32) (tx : Nat → Int32) (cap : Nat) (Q : Int32 → Prop) (hw : wp_J19_charAt a1 ct tx cap Q) : g_Met l d yJ19_charAt cJ19_charAt 5 (Option.some FieldType.char) ({ frames := 2, cells := 0, slots := 0, locals := 43 } : Room) [.ref ob, .int a1] [[(ob, .inr (13, [.ref va, .int 0, .int 0, .int ct]))], [(va, .inl (d.2.1 2, cap, .inl tx))]] 0 0 (fun v w1 => ∃ (r : Int32), v = some (.int r) ∧ w1 = [[(ob, .inr (13, [.ref va, .int 0, .int 0, .int ct]))], [(va, .inl (d.2.1 2, cap, .inl tx))]] ∧ Q r) := by
  refine g_enter (by decide) (Nat.le_of_ble_eq_true rfl) ?_
  intro p e s m args below meth c A ls hF hH hl hin
  have hF : g_F p m c cJ19_charAt 5 s args RJ19 meth (Option.some FieldType.char) := hF
  have hl : lv_has ls 5 [(0, .ref ob), (1, .int a1)] := hl
  unfold wp_J19_charAt at hw
  refine lv_aload_n hF.1.1 hF.1.2.1 dJ19_charAt_0 rfl (lv_at hl 0 rfl) ?_
  refine g_get (v := .int 0) hF hH in_J20 rfl 0 0 rfl rfl 1 (by decide) q1234 (fun _ h9 => h9) rfl dJ19_charAt_1 ?_
  refine lv_istore_n (lv' := [(2, .int 0), (0, .ref ob), (1, .int a1)]) hF.1.1 hF.1.2.1 dJ19_charAt_4 rfl hl (by decide) rfl (fun ls hl => ?_)
  refine lv_aload_n hF.1.1 hF.1.2.1 dJ19_charAt_5 rfl (lv_at hl 1 rfl) ?_
  refine g_get (v := .ref va) hF hH in_J20 rfl 0 0 rfl rfl 0 (by decide) q1233 (fun _ h9 => h9) rfl dJ19_charAt_6 ?_
  refine lv_astore_n (lv' := [(3, .ref va), (2, .int 0), (0, .ref ob), (1, .int a1)]) hF.1.1 hF.1.2.1 dJ19_charAt_9 rfl hl (by decide) rfl (fun ls hl => ?_)
  refine lv_aload_n hF.1.1 hF.1.2.1 dJ19_charAt_10 rfl (lv_at hl 2 rfl) ?_
  refine g_get (v := .int ct) hF hH in_J20 rfl 0 0 rfl rfl 3 (by decide) q1235 (fun _ h9 => h9) rfl dJ19_charAt_11 ?_
  refine lv_aload_n hF.1.1 hF.1.2.1 dJ19_charAt_14 rfl (lv_at hl 0 rfl) ?_
  refine g_alen (v := (nI cap)) (ty := .byte) hF hH 1 0 2 rfl rfl rfl rfl dJ19_charAt_15 ?_
  refine lv_iload_n hF.1.1 hF.1.2.1 dJ19_charAt_16 rfl (lv_at hl 1 rfl) ?_
  refine lv_ishr hF.1.1 hF.1.2.1 dJ19_charAt_17 ?_
  refine va_mmin hF.1.1 hF.1.2.1 (hF.1.2.2.1.trans hl.1.symm) hF.1.2.2.2.1 (hF.1.2.2.2.2 _ q1365) (hF.1.2.2.2.2 _ q362) (hF.1.2.2.2.2 _ q102) (hF.1.2.2.2.2 _ q363) (Nat.le_of_ble_eq_true rfl) (Nat.le_of_ble_eq_true rfl) (by first | exact Nat.le_of_ble_eq_true rfl | omega | (dsimp only; omega)) (by first | exact Nat.le_of_ble_eq_true rfl | omega | (dsimp only; omega)) dJ19_charAt_18 ?_
  refine lv_istore (lv' := [(4, .int (if ((nI cap) >>> (0 &&& 31)) < ct then ((nI cap) >>> (0 &&& 31)) else ct)), (3, .ref va), (2, .int 0), (0, .ref ob), (1, .int a1)]) hF.1.1 hF.1.2.1 dJ19_charAt_21 hl (by decide) rfl (fun ls hl => ?_)
  refine lv_iload_n hF.1.1 hF.1.2.1 dJ19_charAt_23 rfl (lv_at hl 4 rfl) ?_
  refine lv_iload hF.1.1 hF.1.2.1 dJ19_charAt_24 (lv_at hl 0 rfl) ?_
  refine g_cS [.int a1, .int (if ((nI cap) >>> (0 &&& 31)) < ct then ((nI cap) >>> (0 &&& 31)) else ct)] 2 rfl hF (met_J5_checkIndex l hl0 d a1 (if ((nI cap) >>> (0 &&& 31)) < ct then ((nI cap) >>> (0 &&& 31)) else ct) _ hw) q1366 q1324 q101 q1325 rfl rfl (by decide +kernel) ⟨Nat.le_of_ble_eq_true rfl, Nat.le_of_ble_eq_true rfl⟩ hH [] rfl rfl rfl hl.1 (Nat.le_of_ble_eq_true rfl) dJ19_charAt_26 ⟨(by first | exact Nat.le_of_ble_eq_true rfl | omega | (dsimp only; omega)), (by first | exact Nat.le_of_ble_eq_true rfl | omega | (dsimp only; omega))⟩ (fun v w1 H locs hq hH => ?_)
  obtain ⟨rfl, rfl, hw⟩ := hq
  have hH : g_HS d A s [[(ob, .inr (13, [.ref va, .int 0, .int 0, .int ct]))], [(va, .inl (d.2.1 2, cap, .inl tx))]] H locs := hH
  refine W.eq (g2 := (F0 m 29 ls [])) rfl ?_
  refine lv_iload_n hF.1.1 hF.1.2.1 dJ19_charAt_29 rfl (lv_at hl 2 rfl) ?_
  refine lv_if_ne (tgt := 42) hF.1.1 hF.1.2.1 dJ19_charAt_30 (by decide) (fun z => absurd z (by decide)) (fun _ => ?_)
  refine lv_aload_n hF.1.1 hF.1.2.1 dJ19_charAt_33 rfl (lv_at hl 1 rfl) ?_
  refine lv_iload_n hF.1.1 hF.1.2.1 dJ19_charAt_34 rfl (lv_at hl 4 rfl) ?_
  obtain ⟨hi_2, hw⟩ := hw
  refine g_bald hF hH 1 0 rfl rfl hi_2 dJ19_charAt_35 ?_
  refine lv_sipush (v := 255) hF.1.1 hF.1.2.1 dJ19_charAt_36 (by decide) ?_
  refine lv_iand hF.1.1 hF.1.2.1 dJ19_charAt_39 ?_
  refine lv_i2c (v := ((((tx a1.toNatClampNeg) &&& 255).toUInt32 % 65536).toInt32)) hF.1.1 hF.1.2.1 dJ19_charAt_40 rfl ?_
  obtain ⟨hb_3, hw⟩ := hw
  exact g_cret hF hb_3 hH ⟨((((tx a1.toNatClampNeg) &&& 255).toUInt32 % 65536).toInt32), rfl, rfl, hw⟩ dJ19_charAt_41

def wp_J20_charAt (a1 : Int32) (ct : Int32) (tx : Nat → Int32) (cap : Nat) (Q : Int32 → Prop) : Prop := (wp_J19_charAt a1 ct tx cap (fun r_2 => (narrow .char (.int r_2) = .int r_2 ∧ (Q r_2))))
set_option maxHeartbeats 4000000 in
set_option maxRecDepth 100000 in
theorem met_J20_charAt (l : Launch) (hl0 : l.stackTraces = false) (d : g_D) (ob : Nat) (a1 : Int32) (va : Nat) (ct : Int32) (tx : Nat → Int32) (cap : Nat) (Q : Int32 → Prop) (hw : wp_J20_charAt a1 ct tx cap Q) : g_Met l d yJ20_charAt cJ20_charAt 2 (Option.some FieldType.char) ({ frames := 3, cells := 0, slots := 0, locals := 67 } : Room) [.ref ob, .int a1] [[(ob, .inr (13, [.ref va, .int 0, .int 0, .int ct]))], [(va, .inl (d.2.1 2, cap, .inl tx))]] 0 0 (fun v w1 => ∃ (r : Int32), v = some (.int r) ∧ w1 = [[(ob, .inr (13, [.ref va, .int 0, .int 0, .int ct]))], [(va, .inl (d.2.1 2, cap, .inl tx))]] ∧ Q r) := by
  refine g_enter (by decide) (Nat.le_of_ble_eq_true rfl) ?_
  intro p e s m args below meth c A ls hF hH hl hin
  have hF : g_F p m c cJ20_charAt 2 s args RJ20 meth (Option.some FieldType.char) := hF
  have hl : lv_has ls 2 [(0, .ref ob), (1, .int a1)] := hl
  unfold wp_J20_charAt at hw
  refine lv_aload_n hF.1.1 hF.1.2.1 dJ20_charAt_0 rfl (lv_at hl 0 rfl) ?_
  refine lv_iload_n hF.1.1 hF.1.2.1 dJ20_charAt_1 rfl (lv_at hl 1 rfl) ?_
  refine g_cSU [.int a1] 1 rfl hF (met_J19_charAt l hl0 d ob a1 va ct tx cap _ hw) q1362 q1848 q1244 q1363 q127 q1364 rfl rfl (by decide +kernel) ⟨Nat.le_of_ble_eq_true rfl, Nat.le_of_ble_eq_true rfl⟩ hH [0, 1] rfl rfl rfl 0 0 rfl rfl rfl hl.1 (Nat.le_of_ble_eq_true rfl) dJ20_charAt_2 ⟨(by first | exact Nat.le_of_ble_eq_true rfl | omega | (dsimp only; omega)), (by first | exact Nat.le_of_ble_eq_true rfl | omega | (dsimp only; omega))⟩ (fun v w1 H locs hq hH => ?_)
  obtain ⟨r_2, rfl, rfl, hw⟩ := hq
  have hH : g_HS d A s [[(ob, .inr (13, [.ref va, .int 0, .int 0, .int ct]))], [(va, .inl (d.2.1 2, cap, .inl tx))]] H locs := hH
  refine W.eq (g2 := (F0 m 5 ls [.int r_2])) rfl ?_
  obtain ⟨hb_3, hw⟩ := hw
  exact g_cret hF hb_3 hH ⟨r_2, rfl, rfl, hw⟩ dJ20_charAt_5
