def wp_X0_lay (fa : Option Nat) (oa : Option Nat) (lm : Int32) (Q : Int32 → Prop) : Prop := (wp_X1_clear lm (fun r_3 n_4 => (Q n_4)))
set_option maxHeartbeats 4000000 in
set_option maxRecDepth 100000 in
theorem met_X0_lay (l : Launch) (hl0 : l.stackTraces = false) (d : g_D) (ob : Nat) (xA : Nat) (hA : Nat) (tA : Nat) (lA : Nat) (gA : Nat) (fa : Option Nat) (oa : Option Nat) (lB : Nat) (lm : Int32) (Q : Int32 → Prop) (hw : wp_X0_lay fa oa lm Q) : g_Met l d yX0_lay cX0_lay 2 none ({ frames := 1, cells := 0, slots := 0, locals := 21 } : Room) [.ref ob, .ref xA] [[(ob, .inr (0, [.ref hA, .ref tA, .ref lA, .ref gA, va_rf fa, va_rf oa]))], [(lA, .inr (1, [.ref lB, .int lm]))]] 0 0 (fun v w1 => ∃ (lm2 : Int32), v = none ∧ w1 = [[(ob, .inr (0, [.ref hA, .ref tA, .ref lA, .ref xA, va_rf none, va_rf none]))], [(lA, .inr (1, [.ref lB, .int lm2]))]] ∧ Q lm2) := by
  refine g_enter (by decide) (Nat.le_of_ble_eq_true rfl) ?_
  intro p e s m args below meth c A ls hF hH hl hin
  have hF : g_F p m c cX0_lay 2 s args RX0 meth none := hF
  have hl : lv_has ls 2 [(0, .ref ob), (1, .ref xA)] := hl
  unfold wp_X0_lay at hw
  refine lv_aload_n hF.1.1 hF.1.2.1 dX0_lay_0 rfl (lv_at hl 0 rfl) ?_
  refine lv_aload_n hF.1.1 hF.1.2.1 dX0_lay_1 rfl (lv_at hl 1 rfl) ?_
  refine g_put (cs' := [[(ob, .inr (0, [.ref hA, .ref tA, .ref lA, .ref xA, va_rf fa, va_rf oa]))], [(lA, .inr (1, [.ref lB, .int lm]))]]) (ch' := [(ob, .inr (0, [.ref hA, .ref tA, .ref lA, .ref xA, va_rf fa, va_rf oa]))]) (ty := (.object "GraphModules$Graph")) hF hH in_X0 rfl tyX0 tyX0_ok nmX0 0 0 rfl rfl 3 (by decide) q186 (fun _ h9 => h9) rfl (by decide +kernel) rfl rfl (Nat.le_of_ble_eq_true rfl) dX0_lay_2 rfl rfl (fun H locs hH => ?_)
  refine lv_aload_n hF.1.1 hF.1.2.1 dX0_lay_5 rfl (lv_at hl 0 rfl) ?_
  refine lv_null hF.1.1 hF.1.2.1 dX0_lay_6 ?_
  refine g_put (cs' := [[(ob, .inr (0, [.ref hA, .ref tA, .ref lA, .ref xA, va_rf none, va_rf oa]))], [(lA, .inr (1, [.ref lB, .int lm]))]]) (ch' := [(ob, .inr (0, [.ref hA, .ref tA, .ref lA, .ref xA, va_rf none, va_rf oa]))]) (ty := (.object "GraphModules$Forest")) hF hH in_X0 rfl tyX0 tyX0_ok nmX0 0 0 rfl rfl 4 (by decide) q187 (fun _ h9 => h9) rfl (by decide +kernel) rfl rfl (Nat.le_of_ble_eq_true rfl) dX0_lay_7 rfl rfl (fun H locs hH => ?_)
  refine lv_aload_n hF.1.1 hF.1.2.1 dX0_lay_10 rfl (lv_at hl 0 rfl) ?_
  refine lv_null hF.1.1 hF.1.2.1 dX0_lay_11 ?_
  refine g_put (cs' := [[(ob, .inr (0, [.ref hA, .ref tA, .ref lA, .ref xA, va_rf none, va_rf none]))], [(lA, .inr (1, [.ref lB, .int lm]))]]) (ch' := [(ob, .inr (0, [.ref hA, .ref tA, .ref lA, .ref xA, va_rf none, va_rf none]))]) (ty := (.object "GraphModules$Orientation")) hF hH in_X0 rfl tyX0 tyX0_ok nmX0 0 0 rfl rfl 5 (by decide) q188 (fun _ h9 => h9) rfl (by decide +kernel) rfl rfl (Nat.le_of_ble_eq_true rfl) dX0_lay_12 rfl rfl (fun H locs hH => ?_)
  refine lv_aload_n hF.1.1 hF.1.2.1 dX0_lay_15 rfl (lv_at hl 0 rfl) ?_
  refine g_get (v := .ref lA) hF hH in_X0 rfl 0 0 rfl rfl 2 (by decide) q185 (fun _ h9 => h9) rfl dX0_lay_16 ?_
  refine g_cV [] 0 rfl hF (met_X1_clear l hl0 d lA lB lm _ hw) q340 q341 q342 q93 q343 rfl rfl (by decide +kernel) ⟨Nat.le_of_ble_eq_true rfl, Nat.le_of_ble_eq_true rfl⟩ hH [1] rfl rfl rfl 0 0 rfl rfl rfl hl.1 (Nat.le_of_ble_eq_true rfl) dX0_lay_19 ⟨(by first | exact Nat.le_of_ble_eq_true rfl | omega | (dsimp only; omega)), (by first | exact Nat.le_of_ble_eq_true rfl | omega | (dsimp only; omega))⟩ (fun v w1 H locs hq hH => ?_)
  obtain ⟨r_3, n_4, rfl, rfl, hw⟩ := hq
  have hH : g_HS d A s [[(ob, .inr (0, [.ref hA, .ref tA, .ref lA, .ref xA, va_rf none, va_rf none]))], [(lA, .inr (1, [.ref lB, .int n_4]))]] H locs := hH
  refine W.eq (g2 := (F0 m 22 ls [.int r_3])) rfl ?_
  refine lv_pop hF.1.1 hF.1.2.1 dX0_lay_22 rfl ?_
  exact g_vret hF hH ⟨n_4, rfl, rfl, hw⟩ dX0_lay_23

def wb_X0_change_24 (n : Int32) (near : Nat → Int32) (Q : Int32 → (Nat → Int64) → Int32 → Prop) (fa_ : Option Nat) (oa_ : Option Nat) (lm_ : Int32) (hm_ : Int32) (hf_ : Nat → Int64) : Prop := (wp_X2_packed n near (fun r_10 => (wp_X1_add_J r_10 hm_ hf_ (fun r_11 n_12 n_13 => (wp_X0_lay fa_ oa_ lm_ (fun n_14 => (Q n_12 n_13 n_14)))))))
def wp_X0_change (fa : Option Nat) (oa : Option Nat) (hm : Int32) (hf : Nat → Int64) (lm : Int32) (n : Int32) (near : Nat → Int32) (Q : Int32 → (Nat → Int64) → Int32 → Prop) : Prop := (wp_X1_size_J hm hf (fun r_15 => ((¬ hm = r_15 → (wb_X0_change_24 n near Q fa oa lm hm hf)) ∧ (hm = r_15 → (wp_X1_removeFirst_J hm hf (fun n_17 n_18 => (wb_X0_change_24 n near Q fa oa lm n_17 n_18)))))))
set_option maxHeartbeats 4000000 in
set_option maxRecDepth 100000 in
theorem met_X0_change (l : Launch) (hl0 : l.stackTraces = false) (d : g_D) (ob : Nat) (xA : Nat) (hA : Nat) (tA : Nat) (lA : Nat) (gA : Nat) (fa : Option Nat) (oa : Option Nat) (hB : Nat) (hm : Int32) (hf : Nat → Int64) (lB : Nat) (lm : Int32) (n : Int32) (gB : Nat) (near : Nat → Int32) (Q : Int32 → (Nat → Int64) → Int32 → Prop) (hw : wp_X0_change fa oa hm hf lm n near Q) : g_Met l d yX0_change cX0_change 2 none ({ frames := 10, cells := 0, slots := 0, locals := 10346 } : Room) [.ref ob, .ref xA] [[(ob, .inr (0, [.ref hA, .ref tA, .ref lA, .ref gA, va_rf fa, va_rf oa]))], [(hA, .inr (1, [.ref hB, .int hm]))], [(hB, .inl (d.2.1 4, 4, .inr (.inl hf)))], [(lA, .inr (1, [.ref lB, .int lm]))], [(gA, .inr (2, [.int n, .ref gB]))], [(gB, .inl (d.2.1 0, 10, .inl near))]] 0 0 (fun v w1 => ∃ (hm2 : Int32) (hf2 : Nat → Int64) (lm2 : Int32), v = none ∧ w1 = [[(ob, .inr (0, [.ref hA, .ref tA, .ref lA, .ref xA, va_rf none, va_rf none]))], [(hA, .inr (1, [.ref hB, .int hm2]))], [(hB, .inl (d.2.1 4, 4, .inr (.inl hf2)))], [(lA, .inr (1, [.ref lB, .int lm2]))]] ∧ Q hm2 hf2 lm2) := by
  refine g_enter (by decide) (Nat.le_of_ble_eq_true rfl) ?_
  intro p e s m args below meth c A ls hF hH hl hin
  have hF : g_F p m c cX0_change 2 s args RX0 meth none := hF
  have hl : lv_has ls 2 [(0, .ref ob), (1, .ref xA)] := hl
  have bk_24 : ∀ (fa_ : Option Nat) (oa_ : Option Nat) (lm_ : Int32) (hm_ : Int32) (hf_ : Nat → Int64) (H : Heap) (locs : List Loc) (ls : Array Slot), g_HS d A s [[(ob, .inr (0, [.ref hA, .ref tA, .ref lA, .ref gA, va_rf fa_, va_rf oa_]))], [(lA, .inr (1, [.ref lB, .int lm_]))], [(gA, .inr (2, [.int n, .ref gB]))], [(gB, .inl (d.2.1 0, 10, .inl near))], [(hA, .inr (1, [.ref hB, .int hm_]))], [(hB, .inl (d.2.1 4, 4, .inr (.inl hf_)))]] H locs → lv_has ls 2 [(0, .ref ob), (1, .ref xA)] → wb_X0_change_24 n near Q fa_ oa_ lm_ hm_ hf_ → W p l e ({ frames := 10, cells := 0, slots := 0, locals := 10346 } : Room) s m args below meth c H locs 0 0 (g_E d (fun v w1 => ∃ (hm2 : Int32) (hf2 : Nat → Int64) (lm2 : Int32), v = none ∧ w1 = [[(ob, .inr (0, [.ref hA, .ref tA, .ref lA, .ref xA, va_rf none, va_rf none]))], [(hA, .inr (1, [.ref hB, .int hm2]))], [(hB, .inl (d.2.1 4, 4, .inr (.inl hf2)))], [(lA, .inr (1, [.ref lB, .int lm2]))]] ∧ Q hm2 hf2 lm2) A below args s 0 0) (F0 m 24 ls []) := by
    intro fa_ oa_ lm_ hm_ hf_ H locs ls hH hl hw
    unfold wb_X0_change_24 at hw
    refine lv_aload_n hF.1.1 hF.1.2.1 dX0_change_24 rfl (lv_at hl 0 rfl) ?_
    refine g_get (v := .ref hA) hF hH in_X0 rfl 0 0 rfl rfl 0 (by decide) q182 (fun _ h9 => h9) rfl dX0_change_25 ?_
    refine lv_aload_n hF.1.1 hF.1.2.1 dX0_change_28 rfl (lv_at hl 0 rfl) ?_
    refine g_get (v := .ref gA) hF hH in_X0 rfl 0 0 rfl rfl 3 (by decide) q186 (fun _ h9 => h9) rfl dX0_change_29 ?_
    refine g_cV [] 0 rfl hF (met_X2_packed l hl0 d gA n gB near _ hw) q232 q233 q234 q94 q235 rfl rfl (by decide +kernel) ⟨Nat.le_of_ble_eq_true rfl, Nat.le_of_ble_eq_true rfl⟩ hH [2, 3] rfl rfl rfl 0 0 rfl rfl rfl hl.1 (Nat.le_of_ble_eq_true rfl) dX0_change_32 ⟨(by first | exact Nat.le_of_ble_eq_true rfl | omega | (dsimp only; omega)), (by first | exact Nat.le_of_ble_eq_true rfl | omega | (dsimp only; omega))⟩ (fun v w1 H locs hq hH => ?_)
    obtain ⟨r_10, rfl, rfl, hw⟩ := hq
    have hH : g_HS d A s [[(ob, .inr (0, [.ref hA, .ref tA, .ref lA, .ref gA, va_rf fa_, va_rf oa_]))], [(lA, .inr (1, [.ref lB, .int lm_]))], [(hA, .inr (1, [.ref hB, .int hm_]))], [(hB, .inl (d.2.1 4, 4, .inr (.inl hf_)))], [(gA, .inr (2, [.int n, .ref gB]))], [(gB, .inl (d.2.1 0, 10, .inl near))]] H locs := hH
    refine W.eq (g2 := (F0 m 35 ls [.long r_10, .ref hA])) rfl ?_
    refine g_cVW [.long r_10] 1 rfl hF (met_X1_add_J l hl0 d hA r_10 hB hm_ hf_ _ hw) q243 q244 q245 q93 q246 rfl rfl (by decide +kernel) ⟨Nat.le_of_ble_eq_true rfl, Nat.le_of_ble_eq_true rfl⟩ hH [2, 3] rfl rfl rfl 0 0 rfl rfl rfl hl.1 (Nat.le_of_ble_eq_true rfl) dX0_change_35 ⟨(by first | exact Nat.le_of_ble_eq_true rfl | omega | (dsimp only; omega)), (by first | exact Nat.le_of_ble_eq_true rfl | omega | (dsimp only; omega))⟩ (fun v w1 H locs hq hH => ?_)
    obtain ⟨r_11, n_12, n_13, rfl, rfl, hw⟩ := hq
    have hH : g_HS d A s [[(ob, .inr (0, [.ref hA, .ref tA, .ref lA, .ref gA, va_rf fa_, va_rf oa_]))], [(lA, .inr (1, [.ref lB, .int lm_]))], [(gA, .inr (2, [.int n, .ref gB]))], [(gB, .inl (d.2.1 0, 10, .inl near))], [(hA, .inr (1, [.ref hB, .int n_12]))], [(hB, .inl (d.2.1 4, 4, .inr (.inl n_13)))]] H locs := hH
    refine W.eq (g2 := (F0 m 38 ls [.int r_11])) rfl ?_
    refine lv_pop hF.1.1 hF.1.2.1 dX0_change_38 rfl ?_
    refine lv_aload_n hF.1.1 hF.1.2.1 dX0_change_39 rfl (lv_at hl 0 rfl) ?_
    refine lv_aload_n hF.1.1 hF.1.2.1 dX0_change_40 rfl (lv_at hl 1 rfl) ?_
    refine g_cV [.ref xA] 1 rfl hF (met_X0_lay l hl0 d ob xA hA tA lA gA fa_ oa_ lB lm_ _ hw) q336 q338 qs4 q92 q339 rfl rfl (by decide +kernel) ⟨Nat.le_of_ble_eq_true rfl, Nat.le_of_ble_eq_true rfl⟩ hH [0, 1] rfl rfl rfl 0 0 rfl rfl rfl hl.1 (Nat.le_of_ble_eq_true rfl) dX0_change_41 ⟨(by first | exact Nat.le_of_ble_eq_true rfl | omega | (dsimp only; omega)), (by first | exact Nat.le_of_ble_eq_true rfl | omega | (dsimp only; omega))⟩ (fun v w1 H locs hq hH => ?_)
    obtain ⟨n_14, rfl, rfl, hw⟩ := hq
    have hH : g_HS d A s [[(gA, .inr (2, [.int n, .ref gB]))], [(gB, .inl (d.2.1 0, 10, .inl near))], [(hA, .inr (1, [.ref hB, .int n_12]))], [(hB, .inl (d.2.1 4, 4, .inr (.inl n_13)))], [(ob, .inr (0, [.ref hA, .ref tA, .ref lA, .ref xA, va_rf none, va_rf none]))], [(lA, .inr (1, [.ref lB, .int n_14]))]] H locs := hH
    refine W.eq (g2 := (F0 m 44 ls [])) rfl ?_
    have hH := hH.sub (cs' := [[(ob, .inr (0, [.ref hA, .ref tA, .ref lA, .ref xA, va_rf none, va_rf none]))], [(hA, .inr (1, [.ref hB, .int n_12]))], [(hB, .inl (d.2.1 4, 4, .inr (.inl n_13)))], [(lA, .inr (1, [.ref lB, .int n_14]))]]) [4, 2, 3, 5] rfl rfl
    exact g_vret hF hH ⟨n_12, n_13, n_14, rfl, rfl, hw⟩ dX0_change_44
  unfold wp_X0_change at hw
  refine lv_aload_n hF.1.1 hF.1.2.1 dX0_change_0 rfl (lv_at hl 0 rfl) ?_
  refine g_get (v := .ref hA) hF hH in_X0 rfl 0 0 rfl rfl 0 (by decide) q182 (fun _ h9 => h9) rfl dX0_change_1 ?_
  refine g_getN (v := .int hm) hF hH in_X1 rfl 1 0 rfl rfl 1 (by decide) q149 (fun _ h9 => h9) rfl dX0_change_4 ?_
  refine lv_aload_n hF.1.1 hF.1.2.1 dX0_change_7 rfl (lv_at hl 0 rfl) ?_
  refine g_get (v := .ref hA) hF hH in_X0 rfl 0 0 rfl rfl 0 (by decide) q182 (fun _ h9 => h9) rfl dX0_change_8 ?_
  refine g_cV [] 0 rfl hF (met_X1_size_J l hl0 d hA hB hm hf _ hw) q213 q214 q215 q93 q216 rfl rfl (by decide +kernel) ⟨Nat.le_of_ble_eq_true rfl, Nat.le_of_ble_eq_true rfl⟩ hH [1, 2] rfl rfl rfl 0 0 rfl rfl rfl hl.1 (Nat.le_of_ble_eq_true rfl) dX0_change_11 ⟨(by first | exact Nat.le_of_ble_eq_true rfl | omega | (dsimp only; omega)), (by first | exact Nat.le_of_ble_eq_true rfl | omega | (dsimp only; omega))⟩ (fun v w1 H locs hq hH => ?_)
  obtain ⟨r_15, rfl, rfl, hw⟩ := hq
  have hH : g_HS d A s [[(ob, .inr (0, [.ref hA, .ref tA, .ref lA, .ref gA, va_rf fa, va_rf oa]))], [(lA, .inr (1, [.ref lB, .int lm]))], [(gA, .inr (2, [.int n, .ref gB]))], [(gB, .inl (d.2.1 0, 10, .inl near))], [(hA, .inr (1, [.ref hB, .int hm]))], [(hB, .inl (d.2.1 4, 4, .inr (.inl hf)))]] H locs := hH
  refine W.eq (g2 := (F0 m 14 ls [.int r_15, .int hm])) rfl ?_
  refine lv_icmp_ne (tgt := 24) hF.1.1 hF.1.2.1 dX0_change_14 (by decide) (fun c_16 => ?_) (fun c_16 => ?_)
  · have hw := hw.1 c_16
    exact bk_24 fa oa lm hm hf _ _ _ hH hl hw
  · have hw := hw.2 c_16
    refine lv_aload_n hF.1.1 hF.1.2.1 dX0_change_17 rfl (lv_at hl 0 rfl) ?_
    refine g_get (v := .ref hA) hF hH in_X0 rfl 0 0 rfl rfl 0 (by decide) q182 (fun _ h9 => h9) rfl dX0_change_18 ?_
    refine g_cV [] 0 rfl hF (met_X1_removeFirst_J l hl0 d hA hB hm hf _ hw) q220 q221 q222 q93 q223 rfl rfl (by decide +kernel) ⟨Nat.le_of_ble_eq_true rfl, Nat.le_of_ble_eq_true rfl⟩ hH [4, 5] rfl rfl rfl 0 0 rfl rfl rfl hl.1 (Nat.le_of_ble_eq_true rfl) dX0_change_21 ⟨(by first | exact Nat.le_of_ble_eq_true rfl | omega | (dsimp only; omega)), (by first | exact Nat.le_of_ble_eq_true rfl | omega | (dsimp only; omega))⟩ (fun v w1 H locs hq hH => ?_)
    obtain ⟨n_17, n_18, rfl, rfl, hw⟩ := hq
    have hH : g_HS d A s [[(ob, .inr (0, [.ref hA, .ref tA, .ref lA, .ref gA, va_rf fa, va_rf oa]))], [(lA, .inr (1, [.ref lB, .int lm]))], [(gA, .inr (2, [.int n, .ref gB]))], [(gB, .inl (d.2.1 0, 10, .inl near))], [(hA, .inr (1, [.ref hB, .int n_17]))], [(hB, .inl (d.2.1 4, 4, .inr (.inl n_18)))]] H locs := hH
    refine W.eq (g2 := (F0 m 24 ls [])) rfl ?_
    exact bk_24 fa oa lm n_17 n_18 _ _ _ hH hl hw

def wb_X0_copy_29 (a1 : Int32) (n : Int32) (near : Nat → Int32) (x3 : Int32) (K11 : Int32 → (Nat → Int32) → Prop) (Q : (Nat → Int32) → Prop) : Nat → Int32 → (Nat → Int32) → Prop
  | 0, _, _ => False
  | fu + 1, x4, v_q_2 => ((x3 ≤ x4 → K11 (x3 + 1) v_q_2) ∧ (¬ x3 ≤ x4 → (wp_X2_linked x3 x4 n near (fun r_8 => (wp_X2_set x3 x4 r_8 a1 v_q_2 (fun n_9 => (wb_X0_copy_29 a1 n near x3 K11 Q fu) (x4 + 1) n_9))))))
def wb_X0_copy_11 (a1 : Int32) (n : Int32) (near : Nat → Int32) (Q : (Nat → Int32) → Prop) : Nat → Int32 → (Nat → Int32) → Prop
  | 0, _, _ => False
  | fu + 1, x3, v_q_2 => (((if n < a1 then n else a1) ≤ x3 → (Q v_q_2)) ∧ (¬ (if n < a1 then n else a1) ≤ x3 → (∃ f29, wb_X0_copy_29 a1 n near x3 (wb_X0_copy_11 a1 n near Q fu) Q f29 0 v_q_2)))
def wp_X0_copy (a1 : Int32) (n : Int32) (near : Nat → Int32) (Q : (Nat → Int32) → Prop) : Prop := (wp_X2_init a1 (∃ f11, wb_X0_copy_11 a1 n near Q f11 0 (fun _ => 0)))
set_option maxHeartbeats 4000000 in
set_option maxRecDepth 100000 in
theorem met_X0_copy (l : Launch) (hl0 : l.stackTraces = false) (d : g_D) (ob : Nat) (a1 : Int32) (hA : Nat) (tA : Nat) (lA : Nat) (gA : Nat) (fa : Option Nat) (oa : Option Nat) (n : Int32) (gB : Nat) (near : Nat → Int32) (Q : (Nat → Int32) → Prop) (hw : wp_X0_copy a1 n near Q) : g_Met l d yX0_copy cX0_copy 5 (Option.some (FieldType.object "GraphModules$Graph")) ({ frames := 2, cells := 2, slots := 12, locals := 43 } : Room) [.ref ob, .int a1] [[(ob, .inr (0, [.ref hA, .ref tA, .ref lA, .ref gA, va_rf fa, va_rf oa]))], [(gA, .inr (2, [.int n, .ref gB]))], [(gB, .inl (d.2.1 0, 10, .inl near))]] 2 12 (fun v w1 => ∃ (cA : Nat) (cB : Nat) (near2 : Nat → Int32), v = some (.ref cA) ∧ w1 = [[(ob, .inr (0, [.ref hA, .ref tA, .ref lA, .ref gA, va_rf fa, va_rf oa]))], [(gA, .inr (2, [.int n, .ref gB]))], [(gB, .inl (d.2.1 0, 10, .inl near))], [(cA, .inr (2, [.int a1, .ref cB]))], [(cB, .inl (d.2.1 0, 10, .inl near2))]] ∧ Q near2) := by
  refine g_enter (by decide) (Nat.le_of_ble_eq_true rfl) ?_
  intro p e s m args below meth c A ls hF hH hl hin
  have hF : g_F p m c cX0_copy 5 s args RX0 meth (Option.some (FieldType.object "GraphModules$Graph")) := hF
  have hl : lv_has ls 5 [(0, .ref ob), (1, .int a1)] := hl
  have bk_29 : ∀ (x3 : Int32) (K11 : Int32 → (Nat → Int32) → Prop) (hK11 : ∀ (q_1 : Nat) (q_2 : Nat) (x3 : Int32) (v_q_2 : Nat → Int32) (H : Heap) (locs : List Loc) (ls : Array Slot), g_HS d A s [[(ob, .inr (0, [.ref hA, .ref tA, .ref lA, .ref gA, va_rf fa, va_rf oa]))], [(gA, .inr (2, [.int n, .ref gB]))], [(gB, .inl (d.2.1 0, 10, .inl near))], [(q_1, .inr (2, [.int a1, .ref q_2]))], [(q_2, .inl (d.2.1 0, 10, .inl v_q_2))]] H locs → lv_has ls 5 [(0, .ref ob), (1, .int a1), (2, .ref q_1), (3, .int x3)] → K11 x3 v_q_2 → W p l e ({ frames := 2, cells := 2, slots := 12, locals := 43 } : Room) s m args below meth c H locs 2 12 (g_E d (fun v w1 => ∃ (cA : Nat) (cB : Nat) (near2 : Nat → Int32), v = some (.ref cA) ∧ w1 = [[(ob, .inr (0, [.ref hA, .ref tA, .ref lA, .ref gA, va_rf fa, va_rf oa]))], [(gA, .inr (2, [.int n, .ref gB]))], [(gB, .inl (d.2.1 0, 10, .inl near))], [(cA, .inr (2, [.int a1, .ref cB]))], [(cB, .inl (d.2.1 0, 10, .inl near2))]] ∧ Q near2) A below args s 2 12) (F0 m 11 ls [])) (fu : Nat) (q_1 : Nat) (q_2 : Nat) (x4 : Int32) (v_q_2 : Nat → Int32) (H : Heap) (locs : List Loc) (ls : Array Slot), g_HS d A s [[(ob, .inr (0, [.ref hA, .ref tA, .ref lA, .ref gA, va_rf fa, va_rf oa]))], [(gA, .inr (2, [.int n, .ref gB]))], [(gB, .inl (d.2.1 0, 10, .inl near))], [(q_1, .inr (2, [.int a1, .ref q_2]))], [(q_2, .inl (d.2.1 0, 10, .inl v_q_2))]] H locs → lv_has ls 5 [(0, .ref ob), (1, .int a1), (2, .ref q_1), (3, .int x3), (4, .int x4)] → wb_X0_copy_29 a1 n near x3 K11 Q fu x4 v_q_2 → W p l e ({ frames := 2, cells := 2, slots := 12, locals := 43 } : Room) s m args below meth c H locs 2 12 (g_E d (fun v w1 => ∃ (cA : Nat) (cB : Nat) (near2 : Nat → Int32), v = some (.ref cA) ∧ w1 = [[(ob, .inr (0, [.ref hA, .ref tA, .ref lA, .ref gA, va_rf fa, va_rf oa]))], [(gA, .inr (2, [.int n, .ref gB]))], [(gB, .inl (d.2.1 0, 10, .inl near))], [(cA, .inr (2, [.int a1, .ref cB]))], [(cB, .inl (d.2.1 0, 10, .inl near2))]] ∧ Q near2) A below args s 2 12) (F0 m 29 ls []) := by
    intro x3 K11 hK11 fu
    induction fu with
    | zero => intro q_1 q_2 x4 v_q_2 H locs ls hH hl hw; rw [wb_X0_copy_29] at hw; exact hw.elim
    | succ fu ih =>
      intro q_1 q_2 x4 v_q_2 H locs ls hH hl hw
      rw [wb_X0_copy_29] at hw
      refine lv_iload hF.1.1 hF.1.2.1 dX0_copy_29 (lv_at hl 4 rfl) ?_
      refine lv_iload_n hF.1.1 hF.1.2.1 dX0_copy_31 rfl (lv_at hl 3 rfl) ?_
      refine lv_icmp_ge (tgt := 58) hF.1.1 hF.1.2.1 dX0_copy_32 (by decide) (fun c_7 => ?_) (fun c_7 => ?_)
      · have hw := hw.1 c_7
        refine lv_iinc (v := (x3 + 1)) (lv' := [(3, .int (x3 + 1)), (0, .ref ob), (1, .int a1), (2, .ref q_1), (4, .int x4)]) hF.1.1 hF.1.2.1 dX0_copy_58 hl (k := 3) rfl rfl (by decide) rfl (fun ls hl => ?_)
        refine lv_goto (tgt := 11) hF.1.1 hF.1.2.1 dX0_copy_61 (by decide) ?_
        have hl := lv_sub hl (l' := [(0, .ref ob), (1, .int a1), (2, .ref q_1), (3, .int (x3 + 1))]) [1, 2, 3, 0] rfl
        exact hK11 q_1 q_2 (x3 + 1) v_q_2 _ _ _ hH hl hw
      · have hw := hw.2 c_7
        refine lv_aload_n hF.1.1 hF.1.2.1 dX0_copy_35 rfl (lv_at hl 2 rfl) ?_
        refine lv_iload_n hF.1.1 hF.1.2.1 dX0_copy_36 rfl (lv_at hl 3 rfl) ?_
        refine lv_iload hF.1.1 hF.1.2.1 dX0_copy_37 (lv_at hl 4 rfl) ?_
        refine lv_aload_n hF.1.1 hF.1.2.1 dX0_copy_39 rfl (lv_at hl 0 rfl) ?_
        refine g_get (v := .ref gA) hF hH in_X0 rfl 0 0 rfl rfl 3 (by decide) q186 (fun _ h9 => h9) rfl dX0_copy_40 ?_
        refine lv_iload_n hF.1.1 hF.1.2.1 dX0_copy_43 rfl (lv_at hl 3 rfl) ?_
        refine lv_iload hF.1.1 hF.1.2.1 dX0_copy_44 (lv_at hl 4 rfl) ?_
        refine g_cV [.int x3, .int x4] 2 rfl hF (met_X2_linked l hl0 d gA x3 x4 n gB near _ hw) q356 q237 q238 q94 q239 rfl rfl (by decide +kernel) ⟨Nat.le_of_ble_eq_true rfl, Nat.le_of_ble_eq_true rfl⟩ hH [1, 2] rfl rfl rfl 0 0 rfl rfl rfl hl.1 (Nat.le_of_ble_eq_true rfl) dX0_copy_46 ⟨(by first | exact Nat.le_of_ble_eq_true rfl | omega | (dsimp only; omega)), (by first | exact Nat.le_of_ble_eq_true rfl | omega | (dsimp only; omega))⟩ (fun v w1 H locs hq hH => ?_)
        obtain ⟨r_8, rfl, rfl, hw⟩ := hq
        have hH : g_HS d A s [[(ob, .inr (0, [.ref hA, .ref tA, .ref lA, .ref gA, va_rf fa, va_rf oa]))], [(q_1, .inr (2, [.int a1, .ref q_2]))], [(q_2, .inl (d.2.1 0, 10, .inl v_q_2))], [(gA, .inr (2, [.int n, .ref gB]))], [(gB, .inl (d.2.1 0, 10, .inl near))]] H locs := hH
        refine W.eq (g2 := (F0 m 49 ls [.int r_8, .int x4, .int x3, .ref q_1])) rfl ?_
        refine g_cV [.int x3, .int x4, .int r_8] 3 rfl hF (met_X2_set l hl0 d q_1 x3 x4 r_8 a1 q_2 v_q_2 _ hw) q364 q365 q366 q94 q367 rfl rfl (by decide +kernel) ⟨Nat.le_of_ble_eq_true rfl, Nat.le_of_ble_eq_true rfl⟩ hH [1, 2] rfl rfl rfl 0 0 rfl rfl rfl hl.1 (Nat.le_of_ble_eq_true rfl) dX0_copy_49 ⟨(by first | exact Nat.le_of_ble_eq_true rfl | omega | (dsimp only; omega)), (by first | exact Nat.le_of_ble_eq_true rfl | omega | (dsimp only; omega))⟩ (fun v w1 H locs hq hH => ?_)
        obtain ⟨n_9, rfl, rfl, hw⟩ := hq
        have hH : g_HS d A s [[(ob, .inr (0, [.ref hA, .ref tA, .ref lA, .ref gA, va_rf fa, va_rf oa]))], [(gA, .inr (2, [.int n, .ref gB]))], [(gB, .inl (d.2.1 0, 10, .inl near))], [(q_1, .inr (2, [.int a1, .ref q_2]))], [(q_2, .inl (d.2.1 0, 10, .inl n_9))]] H locs := hH
        refine W.eq (g2 := (F0 m 52 ls [])) rfl ?_
        refine lv_iinc (v := (x4 + 1)) (lv' := [(4, .int (x4 + 1)), (0, .ref ob), (1, .int a1), (2, .ref q_1), (3, .int x3)]) hF.1.1 hF.1.2.1 dX0_copy_52 hl (k := 4) rfl rfl (by decide) rfl (fun ls hl => ?_)
        refine lv_goto (tgt := 29) hF.1.1 hF.1.2.1 dX0_copy_55 (by decide) ?_
        have hl := lv_sub hl (l' := [(0, .ref ob), (1, .int a1), (2, .ref q_1), (3, .int x3), (4, .int (x4 + 1))]) [1, 2, 3, 4, 0] rfl
        exact ih q_1 q_2 (x4 + 1) n_9 _ _ _ hH hl hw
  have bk_11 : ∀ (fu : Nat) (q_1 : Nat) (q_2 : Nat) (x3 : Int32) (v_q_2 : Nat → Int32) (H : Heap) (locs : List Loc) (ls : Array Slot), g_HS d A s [[(ob, .inr (0, [.ref hA, .ref tA, .ref lA, .ref gA, va_rf fa, va_rf oa]))], [(gA, .inr (2, [.int n, .ref gB]))], [(gB, .inl (d.2.1 0, 10, .inl near))], [(q_1, .inr (2, [.int a1, .ref q_2]))], [(q_2, .inl (d.2.1 0, 10, .inl v_q_2))]] H locs → lv_has ls 5 [(0, .ref ob), (1, .int a1), (2, .ref q_1), (3, .int x3)] → wb_X0_copy_11 a1 n near Q fu x3 v_q_2 → W p l e ({ frames := 2, cells := 2, slots := 12, locals := 43 } : Room) s m args below meth c H locs 2 12 (g_E d (fun v w1 => ∃ (cA : Nat) (cB : Nat) (near2 : Nat → Int32), v = some (.ref cA) ∧ w1 = [[(ob, .inr (0, [.ref hA, .ref tA, .ref lA, .ref gA, va_rf fa, va_rf oa]))], [(gA, .inr (2, [.int n, .ref gB]))], [(gB, .inl (d.2.1 0, 10, .inl near))], [(cA, .inr (2, [.int a1, .ref cB]))], [(cB, .inl (d.2.1 0, 10, .inl near2))]] ∧ Q near2) A below args s 2 12) (F0 m 11 ls []) := by
    intro fu
    induction fu with
    | zero => intro q_1 q_2 x3 v_q_2 H locs ls hH hl hw; rw [wb_X0_copy_11] at hw; exact hw.elim
    | succ fu ih =>
      intro q_1 q_2 x3 v_q_2 H locs ls hH hl hw
      rw [wb_X0_copy_11] at hw
      refine lv_iload_n hF.1.1 hF.1.2.1 dX0_copy_11 rfl (lv_at hl 3 rfl) ?_
      refine lv_iload_n hF.1.1 hF.1.2.1 dX0_copy_12 rfl (lv_at hl 1 rfl) ?_
      refine lv_aload_n hF.1.1 hF.1.2.1 dX0_copy_13 rfl (lv_at hl 0 rfl) ?_
      refine g_get (v := .ref gA) hF hH in_X0 rfl 0 0 rfl rfl 3 (by decide) q186 (fun _ h9 => h9) rfl dX0_copy_14 ?_
      refine g_getN (v := .int n) hF hH in_X2 rfl 1 0 rfl rfl 0 (by decide) q169 (fun _ h9 => h9) rfl dX0_copy_17 ?_
      refine va_mmin hF.1.1 hF.1.2.1 (hF.1.2.2.1.trans hl.1.symm) hF.1.2.2.2.1 (hF.1.2.2.2.2 _ q361) (hF.1.2.2.2.2 _ q362) (hF.1.2.2.2.2 _ q102) (hF.1.2.2.2.2 _ q363) (Nat.le_of_ble_eq_true rfl) (Nat.le_of_ble_eq_true rfl) (by first | exact Nat.le_of_ble_eq_true rfl | omega | (dsimp only; omega)) (by first | exact Nat.le_of_ble_eq_true rfl | omega | (dsimp only; omega)) dX0_copy_20 ?_
      refine lv_icmp_ge (tgt := 64) hF.1.1 hF.1.2.1 dX0_copy_23 (by decide) (fun c_10 => ?_) (fun c_10 => ?_)
      · have hw := hw.1 c_10
        refine lv_aload_n hF.1.1 hF.1.2.1 dX0_copy_64 rfl (lv_at hl 2 rfl) ?_
        exact g_aret hF (Or.inl ⟨_, rfl⟩) (Or.inr ⟨_, rfl⟩) hH ⟨q_1, q_2, v_q_2, rfl, rfl, hw⟩ dX0_copy_65
      · have hw := hw.2 c_10
        refine lv_iconst (v := 0) hF.1.1 hF.1.2.1 dX0_copy_26 (by decide) ?_
        refine lv_istore (lv' := [(4, .int 0), (0, .ref ob), (1, .int a1), (2, .ref q_1), (3, .int x3)]) hF.1.1 hF.1.2.1 dX0_copy_27 hl (by decide) rfl (fun ls hl => ?_)
        obtain ⟨f_11, hw⟩ := hw
        have hl := lv_sub hl (l' := [(0, .ref ob), (1, .int a1), (2, .ref q_1), (3, .int x3), (4, .int 0)]) [1, 2, 3, 4, 0] rfl
        exact bk_29 x3 (wb_X0_copy_11 a1 n near Q fu) ih f_11 q_1 q_2 0 v_q_2 _ _ _ hH hl hw
  unfold wp_X0_copy at hw
  refine g_new (ci := 2) (fs := [.int 0, .null]) (C := RX2) (T := TX2) (N := 2) hF hH in_X2 rfl tyX2 tyX2_ok q160 q161 q94 (fun j hj => by rcases (show j = 0 ∨ j = 1 by omega) with rfl | rfl <;> rfl) (by first | exact Nat.le_of_ble_eq_true rfl | omega | (dsimp only; omega)) (by first | exact Nat.le_of_ble_eq_true rfl | omega | (dsimp only; omega)) dX0_copy_0 (fun q_12 H hH => ?_)
  have hH : g_HS d A s [[(ob, .inr (0, [.ref hA, .ref tA, .ref lA, .ref gA, va_rf fa, va_rf oa]))], [(gA, .inr (2, [.int n, .ref gB]))], [(gB, .inl (d.2.1 0, 10, .inl near))], [(q_12, .inr (2, [.int 0, .null]))]] H _ := hH
  refine W.widen (k := 1) (n := 2) (by first | exact Nat.le_of_ble_eq_true rfl | omega | (dsimp only; omega)) (by first | exact Nat.le_of_ble_eq_true rfl | omega | (dsimp only; omega)) ?_
  refine lv_dup hF.1.1 hF.1.2.1 dX0_copy_3 rfl ?_
  refine lv_iload_n hF.1.1 hF.1.2.1 dX0_copy_4 rfl (lv_at hl 1 rfl) ?_
  refine g_cI [.int a1] 1 rfl hF (met_X2_init l hl0 d q_12 a1 _ hw) q162 q163 q94 q164 rfl rfl rfl (by decide +kernel) ⟨Nat.le_of_ble_eq_true rfl, Nat.le_of_ble_eq_true rfl⟩ hH [3] rfl rfl rfl hl.1 (Nat.le_of_ble_eq_true rfl) dX0_copy_5 ⟨(by first | exact Nat.le_of_ble_eq_true rfl | omega | (dsimp only; omega)), (by first | exact Nat.le_of_ble_eq_true rfl | omega | (dsimp only; omega))⟩ (fun v w1 H locs hq hH => ?_)
  obtain ⟨q_13, rfl, rfl, hw⟩ := hq
  have hH : g_HS d A s [[(ob, .inr (0, [.ref hA, .ref tA, .ref lA, .ref gA, va_rf fa, va_rf oa]))], [(gA, .inr (2, [.int n, .ref gB]))], [(gB, .inl (d.2.1 0, 10, .inl near))], [(q_12, .inr (2, [.int a1, .ref q_13]))], [(q_13, .inl (d.2.1 0, 10, .inl (fun _ => 0)))]] H locs := hH
  refine W.eq (g2 := (F0 m 8 ls [.ref q_12])) rfl ?_
  refine W.widen (k := 2) (n := 12) (by first | exact Nat.le_of_ble_eq_true rfl | omega | (dsimp only; omega)) (by first | exact Nat.le_of_ble_eq_true rfl | omega | (dsimp only; omega)) ?_
  refine lv_astore_n (lv' := [(2, .ref q_12), (0, .ref ob), (1, .int a1)]) hF.1.1 hF.1.2.1 dX0_copy_8 rfl hl (by decide) rfl (fun ls hl => ?_)
  refine lv_iconst (v := 0) hF.1.1 hF.1.2.1 dX0_copy_9 (by decide) ?_
  refine lv_istore_n (lv' := [(3, .int 0), (2, .ref q_12), (0, .ref ob), (1, .int a1)]) hF.1.1 hF.1.2.1 dX0_copy_10 rfl hl (by decide) rfl (fun ls hl => ?_)
  obtain ⟨f_14, hw⟩ := hw
  have hl := lv_sub hl (l' := [(0, .ref ob), (1, .int a1), (2, .ref q_12), (3, .int 0)]) [2, 3, 1, 0] rfl
  exact bk_11 f_14 q_12 q_13 0 (fun _ => 0) _ _ _ hH hl hw

def wp_X0_isVertex (a1 : Int32) (n : Int32) (Q : Int32 → Prop) : Prop := (wp_X0_inRange a1 0 (n - 1) (fun r_2 => ((r_2 = 0 ∨ r_2 = 1) ∧ (Q r_2))))
set_option maxHeartbeats 4000000 in
set_option maxRecDepth 100000 in
theorem met_X0_isVertex (l : Launch) (hl0 : l.stackTraces = false) (d : g_D) (ob : Nat) (a1 : Int32) (hA : Nat) (tA : Nat) (lA : Nat) (gA : Nat) (fa : Option Nat) (oa : Option Nat) (n : Int32) (gB : Nat) (Q : Int32 → Prop) (hw : wp_X0_isVertex a1 n Q) : g_Met l d yX0_isVertex cX0_isVertex 2 (Option.some FieldType.boolean) ({ frames := 1, cells := 0, slots := 0, locals := 22 } : Room) [.ref ob, .int a1] [[(ob, .inr (0, [.ref hA, .ref tA, .ref lA, .ref gA, va_rf fa, va_rf oa]))], [(gA, .inr (2, [.int n, .ref gB]))]] 0 0 (fun v w1 => ∃ (r : Int32), v = some (.int r) ∧ w1 = [[(ob, .inr (0, [.ref hA, .ref tA, .ref lA, .ref gA, va_rf fa, va_rf oa]))], [(gA, .inr (2, [.int n, .ref gB]))]] ∧ Q r) := by
  refine g_enter (by decide) (Nat.le_of_ble_eq_true rfl) ?_
  intro p e s m args below meth c A ls hF hH hl hin
  have hF : g_F p m c cX0_isVertex 2 s args RX0 meth (Option.some FieldType.boolean) := hF
  have hl : lv_has ls 2 [(0, .ref ob), (1, .int a1)] := hl
  unfold wp_X0_isVertex at hw
  refine lv_iload_n hF.1.1 hF.1.2.1 dX0_isVertex_0 rfl (lv_at hl 1 rfl) ?_
  refine lv_iconst (v := 0) hF.1.1 hF.1.2.1 dX0_isVertex_1 (by decide) ?_
  refine lv_aload_n hF.1.1 hF.1.2.1 dX0_isVertex_2 rfl (lv_at hl 0 rfl) ?_
  refine g_get (v := .ref gA) hF hH in_X0 rfl 0 0 rfl rfl 3 (by decide) q186 (fun _ h9 => h9) rfl dX0_isVertex_3 ?_
  refine g_getN (v := .int n) hF hH in_X2 rfl 1 0 rfl rfl 0 (by decide) q169 (fun _ h9 => h9) rfl dX0_isVertex_6 ?_
  refine lv_iconst (v := 1) hF.1.1 hF.1.2.1 dX0_isVertex_9 (by decide) ?_
  refine lv_isub hF.1.1 hF.1.2.1 dX0_isVertex_10 ?_
  refine g_cS [.int a1, .int 0, .int (n - 1)] 3 rfl hF (met_X0_inRange l hl0 d a1 0 (n - 1) _ hw) q206 q207 q92 q208 rfl rfl (by decide +kernel) ⟨Nat.le_of_ble_eq_true rfl, Nat.le_of_ble_eq_true rfl⟩ hH [] rfl rfl rfl hl.1 (Nat.le_of_ble_eq_true rfl) dX0_isVertex_11 ⟨(by first | exact Nat.le_of_ble_eq_true rfl | omega | (dsimp only; omega)), (by first | exact Nat.le_of_ble_eq_true rfl | omega | (dsimp only; omega))⟩ (fun v w1 H locs hq hH => ?_)
  obtain ⟨r_2, rfl, rfl, hw⟩ := hq
  have hH : g_HS d A s [[(ob, .inr (0, [.ref hA, .ref tA, .ref lA, .ref gA, va_rf fa, va_rf oa]))], [(gA, .inr (2, [.int n, .ref gB]))]] H locs := hH
  refine W.eq (g2 := (F0 m 14 ls [.int r_2])) rfl ?_
  obtain ⟨hb_3, hw⟩ := hw
  exact g_zret hF (g_b01 hb_3) hH ⟨r_2, rfl, rfl, hw⟩ dX0_isVertex_14

def wp_X0_areVertices (a1 : Int32) (a2 : Int32) (n : Int32) (Q : Int32 → Prop) : Prop := (wp_X0_isVertex a1 n (fun r_5 => ((r_5 = 0 → (Q 0)) ∧ (¬ r_5 = 0 → (wp_X0_isVertex a2 n (fun r_7 => ((r_7 = 0 → (Q 0)) ∧ (¬ r_7 = 0 → (Q 1)))))))))
set_option maxHeartbeats 4000000 in
set_option maxRecDepth 100000 in
theorem met_X0_areVertices (l : Launch) (hl0 : l.stackTraces = false) (d : g_D) (ob : Nat) (a1 : Int32) (a2 : Int32) (hA : Nat) (tA : Nat) (lA : Nat) (gA : Nat) (fa : Option Nat) (oa : Option Nat) (n : Int32) (gB : Nat) (Q : Int32 → Prop) (hw : wp_X0_areVertices a1 a2 n Q) : g_Met l d yX0_areVertices cX0_areVertices 3 (Option.some FieldType.boolean) ({ frames := 2, cells := 0, slots := 0, locals := 43 } : Room) [.ref ob, .int a1, .int a2] [[(ob, .inr (0, [.ref hA, .ref tA, .ref lA, .ref gA, va_rf fa, va_rf oa]))], [(gA, .inr (2, [.int n, .ref gB]))]] 0 0 (fun v w1 => ∃ (r : Int32), v = some (.int r) ∧ w1 = [[(ob, .inr (0, [.ref hA, .ref tA, .ref lA, .ref gA, va_rf fa, va_rf oa]))], [(gA, .inr (2, [.int n, .ref gB]))]] ∧ Q r) := by
  refine g_enter (by decide) (Nat.le_of_ble_eq_true rfl) ?_
  intro p e s m args below meth c A ls hF hH hl hin
  have hF : g_F p m c cX0_areVertices 3 s args RX0 meth (Option.some FieldType.boolean) := hF
  have hl : lv_has ls 3 [(0, .ref ob), (1, .int a1), (2, .int a2)] := hl
  unfold wp_X0_areVertices at hw
  refine lv_aload_n hF.1.1 hF.1.2.1 dX0_areVertices_0 rfl (lv_at hl 0 rfl) ?_
  refine lv_iload_n hF.1.1 hF.1.2.1 dX0_areVertices_1 rfl (lv_at hl 1 rfl) ?_
  refine g_cV [.int a1] 1 rfl hF (met_X0_isVertex l hl0 d ob a1 hA tA lA gA fa oa n gB _ hw) q352 q354 qs6 q92 q355 rfl rfl (by decide +kernel) ⟨Nat.le_of_ble_eq_true rfl, Nat.le_of_ble_eq_true rfl⟩ hH [0, 1] rfl rfl rfl 0 0 rfl rfl rfl hl.1 (Nat.le_of_ble_eq_true rfl) dX0_areVertices_2 ⟨(by first | exact Nat.le_of_ble_eq_true rfl | omega | (dsimp only; omega)), (by first | exact Nat.le_of_ble_eq_true rfl | omega | (dsimp only; omega))⟩ (fun v w1 H locs hq hH => ?_)
  obtain ⟨r_5, rfl, rfl, hw⟩ := hq
  have hH : g_HS d A s [[(ob, .inr (0, [.ref hA, .ref tA, .ref lA, .ref gA, va_rf fa, va_rf oa]))], [(gA, .inr (2, [.int n, .ref gB]))]] H locs := hH
  refine W.eq (g2 := (F0 m 5 ls [.int r_5])) rfl ?_
  refine lv_if_eq (tgt := 20) hF.1.1 hF.1.2.1 dX0_areVertices_5 (by decide) (fun c_6 => ?_) (fun c_6 => ?_)
  · have hw := hw.1 c_6
    refine lv_iconst (v := 0) hF.1.1 hF.1.2.1 dX0_areVertices_20 (by decide) ?_
    exact g_zret hF rfl hH ⟨0, rfl, rfl, hw⟩ dX0_areVertices_21
  · have hw := hw.2 c_6
    refine lv_aload_n hF.1.1 hF.1.2.1 dX0_areVertices_8 rfl (lv_at hl 0 rfl) ?_
    refine lv_iload_n hF.1.1 hF.1.2.1 dX0_areVertices_9 rfl (lv_at hl 2 rfl) ?_
    refine g_cV [.int a2] 1 rfl hF (met_X0_isVertex l hl0 d ob a2 hA tA lA gA fa oa n gB _ hw) q352 q354 qs6 q92 q355 rfl rfl (by decide +kernel) ⟨Nat.le_of_ble_eq_true rfl, Nat.le_of_ble_eq_true rfl⟩ hH [0, 1] rfl rfl rfl 0 0 rfl rfl rfl hl.1 (Nat.le_of_ble_eq_true rfl) dX0_areVertices_10 ⟨(by first | exact Nat.le_of_ble_eq_true rfl | omega | (dsimp only; omega)), (by first | exact Nat.le_of_ble_eq_true rfl | omega | (dsimp only; omega))⟩ (fun v w1 H locs hq hH => ?_)
    obtain ⟨r_7, rfl, rfl, hw⟩ := hq
    have hH : g_HS d A s [[(ob, .inr (0, [.ref hA, .ref tA, .ref lA, .ref gA, va_rf fa, va_rf oa]))], [(gA, .inr (2, [.int n, .ref gB]))]] H locs := hH
    refine W.eq (g2 := (F0 m 13 ls [.int r_7])) rfl ?_
    refine lv_if_eq (tgt := 20) hF.1.1 hF.1.2.1 dX0_areVertices_13 (by decide) (fun c_8 => ?_) (fun c_8 => ?_)
    · have hw := hw.1 c_8
      refine lv_iconst (v := 0) hF.1.1 hF.1.2.1 dX0_areVertices_20 (by decide) ?_
      exact g_zret hF rfl hH ⟨0, rfl, rfl, hw⟩ dX0_areVertices_21
    · have hw := hw.2 c_8
      refine lv_iconst (v := 1) hF.1.1 hF.1.2.1 dX0_areVertices_16 (by decide) ?_
      refine lv_goto (tgt := 21) hF.1.1 hF.1.2.1 dX0_areVertices_17 (by decide) ?_
      exact g_zret hF rfl hH ⟨1, rfl, rfl, hw⟩ dX0_areVertices_21

def wp_X0_isSet (a1 : Int32) (n : Int32) (Q : Int32 → Prop) : Prop := (wp_X2_all n (fun r_3 => (wp_X0_inRange a1 1 r_3 (fun r_4 => ((r_4 = 0 ∨ r_4 = 1) ∧ (Q r_4))))))
set_option maxHeartbeats 4000000 in
set_option maxRecDepth 100000 in
theorem met_X0_isSet (l : Launch) (hl0 : l.stackTraces = false) (d : g_D) (ob : Nat) (a1 : Int32) (hA : Nat) (tA : Nat) (lA : Nat) (gA : Nat) (fa : Option Nat) (oa : Option Nat) (n : Int32) (gB : Nat) (Q : Int32 → Prop) (hw : wp_X0_isSet a1 n Q) : g_Met l d yX0_isSet cX0_isSet 2 (Option.some FieldType.boolean) ({ frames := 1, cells := 0, slots := 0, locals := 22 } : Room) [.ref ob, .int a1] [[(ob, .inr (0, [.ref hA, .ref tA, .ref lA, .ref gA, va_rf fa, va_rf oa]))], [(gA, .inr (2, [.int n, .ref gB]))]] 0 0 (fun v w1 => ∃ (r : Int32), v = some (.int r) ∧ w1 = [[(ob, .inr (0, [.ref hA, .ref tA, .ref lA, .ref gA, va_rf fa, va_rf oa]))], [(gA, .inr (2, [.int n, .ref gB]))]] ∧ Q r) := by
  refine g_enter (by decide) (Nat.le_of_ble_eq_true rfl) ?_
  intro p e s m args below meth c A ls hF hH hl hin
  have hF : g_F p m c cX0_isSet 2 s args RX0 meth (Option.some FieldType.boolean) := hF
  have hl : lv_has ls 2 [(0, .ref ob), (1, .int a1)] := hl
  unfold wp_X0_isSet at hw
  refine lv_iload_n hF.1.1 hF.1.2.1 dX0_isSet_0 rfl (lv_at hl 1 rfl) ?_
  refine lv_iconst (v := 1) hF.1.1 hF.1.2.1 dX0_isSet_1 (by decide) ?_
  refine lv_aload_n hF.1.1 hF.1.2.1 dX0_isSet_2 rfl (lv_at hl 0 rfl) ?_
  refine g_get (v := .ref gA) hF hH in_X0 rfl 0 0 rfl rfl 3 (by decide) q186 (fun _ h9 => h9) rfl dX0_isSet_3 ?_
  refine g_cV [] 0 rfl hF (met_X2_all l hl0 d gA n gB _ hw) q808 q444 q445 q94 q446 rfl rfl (by decide +kernel) ⟨Nat.le_of_ble_eq_true rfl, Nat.le_of_ble_eq_true rfl⟩ hH [1] rfl rfl rfl 0 0 rfl rfl rfl hl.1 (Nat.le_of_ble_eq_true rfl) dX0_isSet_6 ⟨(by first | exact Nat.le_of_ble_eq_true rfl | omega | (dsimp only; omega)), (by first | exact Nat.le_of_ble_eq_true rfl | omega | (dsimp only; omega))⟩ (fun v w1 H locs hq hH => ?_)
  obtain ⟨r_3, rfl, rfl, hw⟩ := hq
  have hH : g_HS d A s [[(ob, .inr (0, [.ref hA, .ref tA, .ref lA, .ref gA, va_rf fa, va_rf oa]))], [(gA, .inr (2, [.int n, .ref gB]))]] H locs := hH
  refine W.eq (g2 := (F0 m 9 ls [.int r_3, .int 1, .int a1])) rfl ?_
  refine g_cS [.int a1, .int 1, .int r_3] 3 rfl hF (met_X0_inRange l hl0 d a1 1 r_3 _ hw) q206 q207 q92 q208 rfl rfl (by decide +kernel) ⟨Nat.le_of_ble_eq_true rfl, Nat.le_of_ble_eq_true rfl⟩ hH [] rfl rfl rfl hl.1 (Nat.le_of_ble_eq_true rfl) dX0_isSet_9 ⟨(by first | exact Nat.le_of_ble_eq_true rfl | omega | (dsimp only; omega)), (by first | exact Nat.le_of_ble_eq_true rfl | omega | (dsimp only; omega))⟩ (fun v w1 H locs hq hH => ?_)
  obtain ⟨r_4, rfl, rfl, hw⟩ := hq
  have hH : g_HS d A s [[(ob, .inr (0, [.ref hA, .ref tA, .ref lA, .ref gA, va_rf fa, va_rf oa]))], [(gA, .inr (2, [.int n, .ref gB]))]] H locs := hH
  refine W.eq (g2 := (F0 m 12 ls [.int r_4])) rfl ?_
  obtain ⟨hb_5, hw⟩ := hw
  exact g_zret hF (g_b01 hb_5) hH ⟨r_4, rfl, rfl, hw⟩ dX0_isSet_12

def wp_X0_begin (a1 : Int32) (fa : Option Nat) (oa : Option Nat) (hm : Int32) (hf : Nat → Int64) (lm : Int32) (n : Int32) (near : Nat → Int32) (Q : Int32 → Int32 → (Nat → Int64) → Int32 → Int32 → (Nat → Int32) → (Option Nat) → (Option Nat) → Prop) : Prop := (wp_X0_inRange a1 1 10 (fun r_8 => ((¬ r_8 = 0 → (wp_X2_init a1 (wp_X0_change fa oa hm hf lm n near (fun n_12 n_13 n_14 => (Q a1 n_12 n_13 n_14 a1 (fun _ => 0) none none))))) ∧ (r_8 = 0 → (Q (-1) hm hf lm n near fa oa)))))
set_option maxHeartbeats 4000000 in
set_option maxRecDepth 100000 in
theorem met_X0_begin (l : Launch) (hl0 : l.stackTraces = false) (d : g_D) (ob : Nat) (a1 : Int32) (hA : Nat) (tA : Nat) (lA : Nat) (gA : Nat) (fa : Option Nat) (oa : Option Nat) (hB : Nat) (hm : Int32) (hf : Nat → Int64) (lB : Nat) (lm : Int32) (n : Int32) (gB : Nat) (near : Nat → Int32) (Q : Int32 → Int32 → (Nat → Int64) → Int32 → Int32 → (Nat → Int32) → (Option Nat) → (Option Nat) → Prop) (hw : wp_X0_begin a1 fa oa hm hf lm n near Q) : g_Met l d yX0_begin cX0_begin 2 (Option.some FieldType.int) ({ frames := 11, cells := 2, slots := 12, locals := 10367 } : Room) [.ref ob, .int a1] [[(ob, .inr (0, [.ref hA, .ref tA, .ref lA, .ref gA, va_rf fa, va_rf oa]))], [(hA, .inr (1, [.ref hB, .int hm]))], [(hB, .inl (d.2.1 4, 4, .inr (.inl hf)))], [(lA, .inr (1, [.ref lB, .int lm]))], [(gA, .inr (2, [.int n, .ref gB]))], [(gB, .inl (d.2.1 0, 10, .inl near))]] 2 12 (fun v w1 => ∃ (r : Int32) (gA2 : Nat) (gB2 : Nat) (hm2 : Int32) (hf2 : Nat → Int64) (lm2 : Int32) (n2 : Int32) (near2 : Nat → Int32) (fa2 : Option Nat) (oa2 : Option Nat), v = some (.int r) ∧ w1 = [[(ob, .inr (0, [.ref hA, .ref tA, .ref lA, .ref gA2, va_rf fa2, va_rf oa2]))], [(hA, .inr (1, [.ref hB, .int hm2]))], [(hB, .inl (d.2.1 4, 4, .inr (.inl hf2)))], [(lA, .inr (1, [.ref lB, .int lm2]))], [(gA2, .inr (2, [.int n2, .ref gB2]))], [(gB2, .inl (d.2.1 0, 10, .inl near2))]] ∧ Q r hm2 hf2 lm2 n2 near2 fa2 oa2) := by
  refine g_enter (by decide) (Nat.le_of_ble_eq_true rfl) ?_
  intro p e s m args below meth c A ls hF hH hl hin
  have hF : g_F p m c cX0_begin 2 s args RX0 meth (Option.some FieldType.int) := hF
  have hl : lv_has ls 2 [(0, .ref ob), (1, .int a1)] := hl
  unfold wp_X0_begin at hw
  refine lv_iload_n hF.1.1 hF.1.2.1 dX0_begin_0 rfl (lv_at hl 1 rfl) ?_
  refine lv_iconst (v := 1) hF.1.1 hF.1.2.1 dX0_begin_1 (by decide) ?_
  refine lv_bipush (v := 10) hF.1.1 hF.1.2.1 dX0_begin_2 (by decide) ?_
  refine g_cS [.int a1, .int 1, .int 10] 3 rfl hF (met_X0_inRange l hl0 d a1 1 10 _ hw) q206 q207 q92 q208 rfl rfl (by decide +kernel) ⟨Nat.le_of_ble_eq_true rfl, Nat.le_of_ble_eq_true rfl⟩ hH [] rfl rfl rfl hl.1 (Nat.le_of_ble_eq_true rfl) dX0_begin_4 ⟨(by first | exact Nat.le_of_ble_eq_true rfl | omega | (dsimp only; omega)), (by first | exact Nat.le_of_ble_eq_true rfl | omega | (dsimp only; omega))⟩ (fun v w1 H locs hq hH => ?_)
  obtain ⟨r_8, rfl, rfl, hw⟩ := hq
  have hH : g_HS d A s [[(ob, .inr (0, [.ref hA, .ref tA, .ref lA, .ref gA, va_rf fa, va_rf oa]))], [(hA, .inr (1, [.ref hB, .int hm]))], [(hB, .inl (d.2.1 4, 4, .inr (.inl hf)))], [(lA, .inr (1, [.ref lB, .int lm]))], [(gA, .inr (2, [.int n, .ref gB]))], [(gB, .inl (d.2.1 0, 10, .inl near))]] H locs := hH
  refine W.eq (g2 := (F0 m 7 ls [.int r_8])) rfl ?_
  refine lv_if_ne (tgt := 12) hF.1.1 hF.1.2.1 dX0_begin_7 (by decide) (fun c_9 => ?_) (fun c_9 => ?_)
  · have hw := hw.1 c_9
    refine lv_aload_n hF.1.1 hF.1.2.1 dX0_begin_12 rfl (lv_at hl 0 rfl) ?_
    refine g_new (ci := 2) (fs := [.int 0, .null]) (C := RX2) (T := TX2) (N := 2) hF hH in_X2 rfl tyX2 tyX2_ok q160 q161 q94 (fun j hj => by rcases (show j = 0 ∨ j = 1 by omega) with rfl | rfl <;> rfl) (by first | exact Nat.le_of_ble_eq_true rfl | omega | (dsimp only; omega)) (by first | exact Nat.le_of_ble_eq_true rfl | omega | (dsimp only; omega)) dX0_begin_13 (fun q_10 H hH => ?_)
    have hH : g_HS d A s [[(ob, .inr (0, [.ref hA, .ref tA, .ref lA, .ref gA, va_rf fa, va_rf oa]))], [(hA, .inr (1, [.ref hB, .int hm]))], [(hB, .inl (d.2.1 4, 4, .inr (.inl hf)))], [(lA, .inr (1, [.ref lB, .int lm]))], [(gA, .inr (2, [.int n, .ref gB]))], [(gB, .inl (d.2.1 0, 10, .inl near))], [(q_10, .inr (2, [.int 0, .null]))]] H _ := hH
    refine W.widen (k := 1) (n := 2) (by first | exact Nat.le_of_ble_eq_true rfl | omega | (dsimp only; omega)) (by first | exact Nat.le_of_ble_eq_true rfl | omega | (dsimp only; omega)) ?_
    refine lv_dup hF.1.1 hF.1.2.1 dX0_begin_16 rfl ?_
    refine lv_iload_n hF.1.1 hF.1.2.1 dX0_begin_17 rfl (lv_at hl 1 rfl) ?_
    refine g_cI [.int a1] 1 rfl hF (met_X2_init l hl0 d q_10 a1 _ hw) q162 q163 q94 q164 rfl rfl rfl (by decide +kernel) ⟨Nat.le_of_ble_eq_true rfl, Nat.le_of_ble_eq_true rfl⟩ hH [6] rfl rfl rfl hl.1 (Nat.le_of_ble_eq_true rfl) dX0_begin_18 ⟨(by first | exact Nat.le_of_ble_eq_true rfl | omega | (dsimp only; omega)), (by first | exact Nat.le_of_ble_eq_true rfl | omega | (dsimp only; omega))⟩ (fun v w1 H locs hq hH => ?_)
    obtain ⟨q_11, rfl, rfl, hw⟩ := hq
    have hH : g_HS d A s [[(ob, .inr (0, [.ref hA, .ref tA, .ref lA, .ref gA, va_rf fa, va_rf oa]))], [(hA, .inr (1, [.ref hB, .int hm]))], [(hB, .inl (d.2.1 4, 4, .inr (.inl hf)))], [(lA, .inr (1, [.ref lB, .int lm]))], [(gA, .inr (2, [.int n, .ref gB]))], [(gB, .inl (d.2.1 0, 10, .inl near))], [(q_10, .inr (2, [.int a1, .ref q_11]))], [(q_11, .inl (d.2.1 0, 10, .inl (fun _ => 0)))]] H locs := hH
    refine W.eq (g2 := (F0 m 21 ls [.ref q_10, .ref ob])) rfl ?_
    refine W.widen (k := 2) (n := 12) (by first | exact Nat.le_of_ble_eq_true rfl | omega | (dsimp only; omega)) (by first | exact Nat.le_of_ble_eq_true rfl | omega | (dsimp only; omega)) ?_
    refine g_cV [.ref q_10] 1 rfl hF (met_X0_change l hl0 d ob q_10 hA tA lA gA fa oa hB hm hf lB lm n gB near _ hw) q209 q211 qs0 q92 q212 rfl rfl (by decide +kernel) ⟨Nat.le_of_ble_eq_true rfl, Nat.le_of_ble_eq_true rfl⟩ hH [0, 1, 2, 3, 4, 5] rfl rfl rfl 0 0 rfl rfl rfl hl.1 (Nat.le_of_ble_eq_true rfl) dX0_begin_21 ⟨(by first | exact Nat.le_of_ble_eq_true rfl | omega | (dsimp only; omega)), (by first | exact Nat.le_of_ble_eq_true rfl | omega | (dsimp only; omega))⟩ (fun v w1 H locs hq hH => ?_)
    obtain ⟨n_12, n_13, n_14, rfl, rfl, hw⟩ := hq
    have hH : g_HS d A s [[(q_10, .inr (2, [.int a1, .ref q_11]))], [(q_11, .inl (d.2.1 0, 10, .inl (fun _ => 0)))], [(ob, .inr (0, [.ref hA, .ref tA, .ref lA, .ref q_10, va_rf none, va_rf none]))], [(hA, .inr (1, [.ref hB, .int n_12]))], [(hB, .inl (d.2.1 4, 4, .inr (.inl n_13)))], [(lA, .inr (1, [.ref lB, .int n_14]))]] H locs := hH
    refine W.eq (g2 := (F0 m 24 ls [])) rfl ?_
    refine lv_iload_n hF.1.1 hF.1.2.1 dX0_begin_24 rfl (lv_at hl 1 rfl) ?_
    have hH := hH.sub (cs' := [[(ob, .inr (0, [.ref hA, .ref tA, .ref lA, .ref q_10, va_rf none, va_rf none]))], [(hA, .inr (1, [.ref hB, .int n_12]))], [(hB, .inl (d.2.1 4, 4, .inr (.inl n_13)))], [(lA, .inr (1, [.ref lB, .int n_14]))], [(q_10, .inr (2, [.int a1, .ref q_11]))], [(q_11, .inl (d.2.1 0, 10, .inl (fun _ => 0)))]]) [2, 3, 4, 5, 0, 1] rfl rfl
    exact g_iret hF hH ⟨a1, q_10, q_11, n_12, n_13, n_14, a1, (fun _ => 0), none, none, rfl, rfl, hw⟩ dX0_begin_25
  · have hw := hw.2 c_9
    refine lv_iconst (v := (-1)) hF.1.1 hF.1.2.1 dX0_begin_10 (by decide) ?_
    refine W.widen (k := 2) (n := 12) (by first | exact Nat.le_of_ble_eq_true rfl | omega | (dsimp only; omega)) (by first | exact Nat.le_of_ble_eq_true rfl | omega | (dsimp only; omega)) ?_
    exact g_iret hF hH ⟨(-1), gA, gB, hm, hf, lm, n, near, fa, oa, rfl, rfl, hw⟩ dX0_begin_11

def wb_X0_set_77 (a1 : Int32) (a2 : Int32) (n : Int32) (near : Nat → Int32) (Q : Int32 → Int32 → (Nat → Int64) → Int32 → Int32 → (Nat → Int32) → (Option Nat) → (Option Nat) → Prop) (y3 : Int32) (hm_ : Int32) (hf_ : Nat → Int64) (lm_ : Int32) (fa_ : Option Nat) (oa_ : Option Nat) (v_q_10 : Nat → Int32) : Prop := (wp_X2_set a1 a2 y3 n v_q_10 (fun n_18 => (wp_X0_change fa_ oa_ hm_ hf_ lm_ n near (fun n_19 n_20 n_21 => (wp_X2_edges n n_18 (fun r_22 => (Q r_22 n_19 n_20 n_21 n n_18 none none)))))))
def wb_X0_set_44 (a1 : Int32) (a2 : Int32) (a3 : Int32) (n : Int32) (near : Nat → Int32) (Q : Int32 → Int32 → (Nat → Int64) → Int32 → Int32 → (Nat → Int32) → (Option Nat) → (Option Nat) → Prop) (y0 : Int32) (y1 : Int32) (hm_ : Int32) (hf_ : Nat → Int64) (lm_ : Int32) (fa_ : Option Nat) (oa_ : Option Nat) : Prop := ((¬ y0 = y1 → (wp_X0_copy n n near (fun n_26 => ((¬ a3 = 1 → (wb_X0_set_77 a1 a2 n near Q 0 hm_ hf_ lm_ fa_ oa_ n_26)) ∧ (a3 = 1 → (wb_X0_set_77 a1 a2 n near Q 1 hm_ hf_ lm_ fa_ oa_ n_26)))))) ∧ (y0 = y1 → (Q (-2) hm_ hf_ lm_ n near fa_ oa_)))
def wp_X0_set (a1 : Int32) (a2 : Int32) (a3 : Int32) (fa : Option Nat) (oa : Option Nat) (hm : Int32) (hf : Nat → Int64) (lm : Int32) (n : Int32) (near : Nat → Int32) (Q : Int32 → Int32 → (Nat → Int64) → Int32 → Int32 → (Nat → Int32) → (Option Nat) → (Option Nat) → Prop) : Prop := (wp_X0_areVertices a1 a2 n (fun r_28 => ((r_28 = 0 → (Q (-1) hm hf lm n near fa oa)) ∧ (¬ r_28 = 0 → ((a1 = a2 → (Q (-1) hm hf lm n near fa oa)) ∧ (¬ a1 = a2 → (wp_X0_inRange a3 0 1 (fun r_31 => ((¬ r_31 = 0 → (wp_X2_linked a1 a2 n near (fun r_33 => ((¬ a3 = 1 → (wb_X0_set_44 a1 a2 a3 n near Q r_33 0 hm hf lm fa oa)) ∧ (a3 = 1 → (wb_X0_set_44 a1 a2 a3 n near Q r_33 1 hm hf lm fa oa)))))) ∧ (r_31 = 0 → (Q (-1) hm hf lm n near fa oa)))))))))))
set_option maxHeartbeats 4000000 in
set_option maxRecDepth 100000 in
theorem met_X0_set (l : Launch) (hl0 : l.stackTraces = false) (d : g_D) (ob : Nat) (a1 : Int32) (a2 : Int32) (a3 : Int32) (hA : Nat) (tA : Nat) (lA : Nat) (gA : Nat) (fa : Option Nat) (oa : Option Nat) (hB : Nat) (hm : Int32) (hf : Nat → Int64) (lB : Nat) (lm : Int32) (n : Int32) (gB : Nat) (near : Nat → Int32) (Q : Int32 → Int32 → (Nat → Int64) → Int32 → Int32 → (Nat → Int32) → (Option Nat) → (Option Nat) → Prop) (hw : wp_X0_set a1 a2 a3 fa oa hm hf lm n near Q) : g_Met l d yX0_set cX0_set 5 (Option.some FieldType.int) ({ frames := 11, cells := 2, slots := 12, locals := 10367 } : Room) [.ref ob, .int a1, .int a2, .int a3] [[(ob, .inr (0, [.ref hA, .ref tA, .ref lA, .ref gA, va_rf fa, va_rf oa]))], [(hA, .inr (1, [.ref hB, .int hm]))], [(hB, .inl (d.2.1 4, 4, .inr (.inl hf)))], [(lA, .inr (1, [.ref lB, .int lm]))], [(gA, .inr (2, [.int n, .ref gB]))], [(gB, .inl (d.2.1 0, 10, .inl near))]] 2 12 (fun v w1 => ∃ (r : Int32) (gA2 : Nat) (gB2 : Nat) (hm2 : Int32) (hf2 : Nat → Int64) (lm2 : Int32) (n2 : Int32) (near2 : Nat → Int32) (fa2 : Option Nat) (oa2 : Option Nat), v = some (.int r) ∧ w1 = [[(ob, .inr (0, [.ref hA, .ref tA, .ref lA, .ref gA2, va_rf fa2, va_rf oa2]))], [(hA, .inr (1, [.ref hB, .int hm2]))], [(hB, .inl (d.2.1 4, 4, .inr (.inl hf2)))], [(lA, .inr (1, [.ref lB, .int lm2]))], [(gA2, .inr (2, [.int n2, .ref gB2]))], [(gB2, .inl (d.2.1 0, 10, .inl near2))]] ∧ Q r hm2 hf2 lm2 n2 near2 fa2 oa2) := by
  refine g_enter (by decide) (Nat.le_of_ble_eq_true rfl) ?_
  intro p e s m args below meth c A ls hF hH hl hin
  have hF : g_F p m c cX0_set 5 s args RX0 meth (Option.some FieldType.int) := hF
  have hl : lv_has ls 5 [(0, .ref ob), (1, .int a1), (2, .int a2), (3, .int a3)] := hl
  have bk_77 : ∀ (q_9 : Nat) (q_10 : Nat) (y3 : Int32) (hm_ : Int32) (hf_ : Nat → Int64) (lm_ : Int32) (fa_ : Option Nat) (oa_ : Option Nat) (v_q_10 : Nat → Int32) (H : Heap) (locs : List Loc) (ls : Array Slot), g_HS d A s [[(hA, .inr (1, [.ref hB, .int hm_]))], [(hB, .inl (d.2.1 4, 4, .inr (.inl hf_)))], [(lA, .inr (1, [.ref lB, .int lm_]))], [(ob, .inr (0, [.ref hA, .ref tA, .ref lA, .ref gA, va_rf fa_, va_rf oa_]))], [(gA, .inr (2, [.int n, .ref gB]))], [(gB, .inl (d.2.1 0, 10, .inl near))], [(q_9, .inr (2, [.int n, .ref q_10]))], [(q_10, .inl (d.2.1 0, 10, .inl v_q_10))]] H locs → lv_has ls 5 [(0, .ref ob), (4, .ref q_9)] → wb_X0_set_77 a1 a2 n near Q y3 hm_ hf_ lm_ fa_ oa_ v_q_10 → W p l e ({ frames := 11, cells := 2, slots := 12, locals := 10367 } : Room) s m args below meth c H locs 2 12 (g_E d (fun v w1 => ∃ (r : Int32) (gA2 : Nat) (gB2 : Nat) (hm2 : Int32) (hf2 : Nat → Int64) (lm2 : Int32) (n2 : Int32) (near2 : Nat → Int32) (fa2 : Option Nat) (oa2 : Option Nat), v = some (.int r) ∧ w1 = [[(ob, .inr (0, [.ref hA, .ref tA, .ref lA, .ref gA2, va_rf fa2, va_rf oa2]))], [(hA, .inr (1, [.ref hB, .int hm2]))], [(hB, .inl (d.2.1 4, 4, .inr (.inl hf2)))], [(lA, .inr (1, [.ref lB, .int lm2]))], [(gA2, .inr (2, [.int n2, .ref gB2]))], [(gB2, .inl (d.2.1 0, 10, .inl near2))]] ∧ Q r hm2 hf2 lm2 n2 near2 fa2 oa2) A below args s 2 12) (F0 m 77 ls [.int y3, .int a2, .int a1, .ref q_9]) := by
    intro q_9 q_10 y3 hm_ hf_ lm_ fa_ oa_ v_q_10 H locs ls hH hl hw
    unfold wb_X0_set_77 at hw
    refine g_cV [.int a1, .int a2, .int y3] 3 rfl hF (met_X2_set l hl0 d q_9 a1 a2 y3 n q_10 v_q_10 _ hw) q364 q365 q366 q94 q367 rfl rfl (by decide +kernel) ⟨Nat.le_of_ble_eq_true rfl, Nat.le_of_ble_eq_true rfl⟩ hH [6, 7] rfl rfl rfl 0 0 rfl rfl rfl hl.1 (Nat.le_of_ble_eq_true rfl) dX0_set_77 ⟨(by first | exact Nat.le_of_ble_eq_true rfl | omega | (dsimp only; omega)), (by first | exact Nat.le_of_ble_eq_true rfl | omega | (dsimp only; omega))⟩ (fun v w1 H locs hq hH => ?_)
    obtain ⟨n_18, rfl, rfl, hw⟩ := hq
    have hH : g_HS d A s [[(hA, .inr (1, [.ref hB, .int hm_]))], [(hB, .inl (d.2.1 4, 4, .inr (.inl hf_)))], [(lA, .inr (1, [.ref lB, .int lm_]))], [(ob, .inr (0, [.ref hA, .ref tA, .ref lA, .ref gA, va_rf fa_, va_rf oa_]))], [(gA, .inr (2, [.int n, .ref gB]))], [(gB, .inl (d.2.1 0, 10, .inl near))], [(q_9, .inr (2, [.int n, .ref q_10]))], [(q_10, .inl (d.2.1 0, 10, .inl n_18))]] H locs := hH
    refine W.eq (g2 := (F0 m 80 ls [])) rfl ?_
    refine lv_aload_n hF.1.1 hF.1.2.1 dX0_set_80 rfl (lv_at hl 0 rfl) ?_
    refine lv_aload hF.1.1 hF.1.2.1 dX0_set_81 (lv_at hl 1 rfl) ?_
    refine g_cV [.ref q_9] 1 rfl hF (met_X0_change l hl0 d ob q_9 hA tA lA gA fa_ oa_ hB hm_ hf_ lB lm_ n gB near _ hw) q209 q211 qs0 q92 q212 rfl rfl (by decide +kernel) ⟨Nat.le_of_ble_eq_true rfl, Nat.le_of_ble_eq_true rfl⟩ hH [3, 0, 1, 2, 4, 5] rfl rfl rfl 0 0 rfl rfl rfl hl.1 (Nat.le_of_ble_eq_true rfl) dX0_set_83 ⟨(by first | exact Nat.le_of_ble_eq_true rfl | omega | (dsimp only; omega)), (by first | exact Nat.le_of_ble_eq_true rfl | omega | (dsimp only; omega))⟩ (fun v w1 H locs hq hH => ?_)
    obtain ⟨n_19, n_20, n_21, rfl, rfl, hw⟩ := hq
    have hH : g_HS d A s [[(q_9, .inr (2, [.int n, .ref q_10]))], [(q_10, .inl (d.2.1 0, 10, .inl n_18))], [(ob, .inr (0, [.ref hA, .ref tA, .ref lA, .ref q_9, va_rf none, va_rf none]))], [(hA, .inr (1, [.ref hB, .int n_19]))], [(hB, .inl (d.2.1 4, 4, .inr (.inl n_20)))], [(lA, .inr (1, [.ref lB, .int n_21]))]] H locs := hH
    refine W.eq (g2 := (F0 m 86 ls [])) rfl ?_
    refine lv_aload_n hF.1.1 hF.1.2.1 dX0_set_86 rfl (lv_at hl 0 rfl) ?_
    refine g_get (v := .ref q_9) hF hH in_X0 rfl 2 0 rfl rfl 3 (by decide) q186 (fun _ h9 => h9) rfl dX0_set_87 ?_
    refine g_cV [] 0 rfl hF (met_X2_edges l hl0 d q_9 n q_10 n_18 _ hw) q368 q369 q370 q94 q371 rfl rfl (by decide +kernel) ⟨Nat.le_of_ble_eq_true rfl, Nat.le_of_ble_eq_true rfl⟩ hH [0, 1] rfl rfl rfl 0 0 rfl rfl rfl hl.1 (Nat.le_of_ble_eq_true rfl) dX0_set_90 ⟨(by first | exact Nat.le_of_ble_eq_true rfl | omega | (dsimp only; omega)), (by first | exact Nat.le_of_ble_eq_true rfl | omega | (dsimp only; omega))⟩ (fun v w1 H locs hq hH => ?_)
    obtain ⟨r_22, rfl, rfl, hw⟩ := hq
    have hH : g_HS d A s [[(ob, .inr (0, [.ref hA, .ref tA, .ref lA, .ref q_9, va_rf none, va_rf none]))], [(hA, .inr (1, [.ref hB, .int n_19]))], [(hB, .inl (d.2.1 4, 4, .inr (.inl n_20)))], [(lA, .inr (1, [.ref lB, .int n_21]))], [(q_9, .inr (2, [.int n, .ref q_10]))], [(q_10, .inl (d.2.1 0, 10, .inl n_18))]] H locs := hH
    refine W.eq (g2 := (F0 m 93 ls [.int r_22])) rfl ?_
    exact g_iret hF hH ⟨r_22, q_9, q_10, n_19, n_20, n_21, n, n_18, none, none, rfl, rfl, hw⟩ dX0_set_93
  have bk_44 : ∀ (y0 : Int32) (y1 : Int32) (hm_ : Int32) (hf_ : Nat → Int64) (lm_ : Int32) (fa_ : Option Nat) (oa_ : Option Nat) (H : Heap) (locs : List Loc) (ls : Array Slot), g_HS d A s [[(hA, .inr (1, [.ref hB, .int hm_]))], [(hB, .inl (d.2.1 4, 4, .inr (.inl hf_)))], [(lA, .inr (1, [.ref lB, .int lm_]))], [(ob, .inr (0, [.ref hA, .ref tA, .ref lA, .ref gA, va_rf fa_, va_rf oa_]))], [(gA, .inr (2, [.int n, .ref gB]))], [(gB, .inl (d.2.1 0, 10, .inl near))]] H locs → lv_has ls 5 [(0, .ref ob), (1, .int a1), (2, .int a2), (3, .int a3)] → wb_X0_set_44 a1 a2 a3 n near Q y0 y1 hm_ hf_ lm_ fa_ oa_ → W p l e ({ frames := 11, cells := 2, slots := 12, locals := 10367 } : Room) s m args below meth c H locs 0 0 (g_E d (fun v w1 => ∃ (r : Int32) (gA2 : Nat) (gB2 : Nat) (hm2 : Int32) (hf2 : Nat → Int64) (lm2 : Int32) (n2 : Int32) (near2 : Nat → Int32) (fa2 : Option Nat) (oa2 : Option Nat), v = some (.int r) ∧ w1 = [[(ob, .inr (0, [.ref hA, .ref tA, .ref lA, .ref gA2, va_rf fa2, va_rf oa2]))], [(hA, .inr (1, [.ref hB, .int hm2]))], [(hB, .inl (d.2.1 4, 4, .inr (.inl hf2)))], [(lA, .inr (1, [.ref lB, .int lm2]))], [(gA2, .inr (2, [.int n2, .ref gB2]))], [(gB2, .inl (d.2.1 0, 10, .inl near2))]] ∧ Q r hm2 hf2 lm2 n2 near2 fa2 oa2) A below args s 2 12) (F0 m 44 ls [.int y1, .int y0]) := by
    intro y0 y1 hm_ hf_ lm_ fa_ oa_ H locs ls hH hl hw
    unfold wb_X0_set_44 at hw
    refine lv_icmp_ne (tgt := 50) hF.1.1 hF.1.2.1 dX0_set_44 (by decide) (fun c_23 => ?_) (fun c_23 => ?_)
    · have hw := hw.1 c_23
      refine lv_aload_n hF.1.1 hF.1.2.1 dX0_set_50 rfl (lv_at hl 0 rfl) ?_
      refine lv_aload_n hF.1.1 hF.1.2.1 dX0_set_51 rfl (lv_at hl 0 rfl) ?_
      refine g_get (v := .ref gA) hF hH in_X0 rfl 3 0 rfl rfl 3 (by decide) q186 (fun _ h9 => h9) rfl dX0_set_52 ?_
      refine g_getN (v := .int n) hF hH in_X2 rfl 4 0 rfl rfl 0 (by decide) q169 (fun _ h9 => h9) rfl dX0_set_55 ?_
      refine g_cV [.int n] 1 rfl hF (met_X0_copy l hl0 d ob n hA tA lA gA fa_ oa_ n gB near _ hw) q357 q359 qs7 q92 q360 rfl rfl (by decide +kernel) ⟨Nat.le_of_ble_eq_true rfl, Nat.le_of_ble_eq_true rfl⟩ hH [3, 4, 5] rfl rfl rfl 0 0 rfl rfl rfl hl.1 (Nat.le_of_ble_eq_true rfl) dX0_set_58 ⟨(by first | exact Nat.le_of_ble_eq_true rfl | omega | (dsimp only; omega)), (by first | exact Nat.le_of_ble_eq_true rfl | omega | (dsimp only; omega))⟩ (fun v w1 H locs hq hH => ?_)
      obtain ⟨q_24, q_25, n_26, rfl, rfl, hw⟩ := hq
      have hH : g_HS d A s [[(hA, .inr (1, [.ref hB, .int hm_]))], [(hB, .inl (d.2.1 4, 4, .inr (.inl hf_)))], [(lA, .inr (1, [.ref lB, .int lm_]))], [(ob, .inr (0, [.ref hA, .ref tA, .ref lA, .ref gA, va_rf fa_, va_rf oa_]))], [(gA, .inr (2, [.int n, .ref gB]))], [(gB, .inl (d.2.1 0, 10, .inl near))], [(q_24, .inr (2, [.int n, .ref q_25]))], [(q_25, .inl (d.2.1 0, 10, .inl n_26))]] H locs := hH
      refine W.eq (g2 := (F0 m 61 ls [.ref q_24])) rfl ?_
      refine W.widen (k := 2) (n := 12) (by first | exact Nat.le_of_ble_eq_true rfl | omega | (dsimp only; omega)) (by first | exact Nat.le_of_ble_eq_true rfl | omega | (dsimp only; omega)) ?_
      refine lv_astore (lv' := [(4, .ref q_24), (0, .ref ob), (1, .int a1), (2, .int a2), (3, .int a3)]) hF.1.1 hF.1.2.1 dX0_set_61 hl (by decide) rfl (fun ls hl => ?_)
      refine lv_aload hF.1.1 hF.1.2.1 dX0_set_63 (lv_at hl 0 rfl) ?_
      refine lv_iload_n hF.1.1 hF.1.2.1 dX0_set_65 rfl (lv_at hl 2 rfl) ?_
      refine lv_iload_n hF.1.1 hF.1.2.1 dX0_set_66 rfl (lv_at hl 3 rfl) ?_
      refine lv_iload_n hF.1.1 hF.1.2.1 dX0_set_67 rfl (lv_at hl 4 rfl) ?_
      refine lv_iconst (v := 1) hF.1.1 hF.1.2.1 dX0_set_68 (by decide) ?_
      refine lv_icmp_ne (tgt := 76) hF.1.1 hF.1.2.1 dX0_set_69 (by decide) (fun c_27 => ?_) (fun c_27 => ?_)
      · have hw := hw.1 c_27
        refine lv_iconst (v := 0) hF.1.1 hF.1.2.1 dX0_set_76 (by decide) ?_
        have hl := lv_sub hl (l' := [(0, .ref ob), (4, .ref q_24)]) [1, 0] rfl
        exact bk_77 q_24 q_25 0 hm_ hf_ lm_ fa_ oa_ n_26 _ _ _ hH hl hw
      · have hw := hw.2 c_27
        refine lv_iconst (v := 1) hF.1.1 hF.1.2.1 dX0_set_72 (by decide) ?_
        refine lv_goto (tgt := 77) hF.1.1 hF.1.2.1 dX0_set_73 (by decide) ?_
        have hl := lv_sub hl (l' := [(0, .ref ob), (4, .ref q_24)]) [1, 0] rfl
        exact bk_77 q_24 q_25 1 hm_ hf_ lm_ fa_ oa_ n_26 _ _ _ hH hl hw
    · have hw := hw.2 c_23
      refine lv_bipush (v := (-2)) hF.1.1 hF.1.2.1 dX0_set_47 (by decide) ?_
      refine W.widen (k := 2) (n := 12) (by first | exact Nat.le_of_ble_eq_true rfl | omega | (dsimp only; omega)) (by first | exact Nat.le_of_ble_eq_true rfl | omega | (dsimp only; omega)) ?_
      have hH := hH.sub (cs' := [[(ob, .inr (0, [.ref hA, .ref tA, .ref lA, .ref gA, va_rf fa_, va_rf oa_]))], [(hA, .inr (1, [.ref hB, .int hm_]))], [(hB, .inl (d.2.1 4, 4, .inr (.inl hf_)))], [(lA, .inr (1, [.ref lB, .int lm_]))], [(gA, .inr (2, [.int n, .ref gB]))], [(gB, .inl (d.2.1 0, 10, .inl near))]]) [3, 0, 1, 2, 4, 5] rfl rfl
      exact g_iret hF hH ⟨(-2), gA, gB, hm_, hf_, lm_, n, near, fa_, oa_, rfl, rfl, hw⟩ dX0_set_49
  unfold wp_X0_set at hw
  refine lv_aload_n hF.1.1 hF.1.2.1 dX0_set_0 rfl (lv_at hl 0 rfl) ?_
  refine lv_iload_n hF.1.1 hF.1.2.1 dX0_set_1 rfl (lv_at hl 1 rfl) ?_
  refine lv_iload_n hF.1.1 hF.1.2.1 dX0_set_2 rfl (lv_at hl 2 rfl) ?_
  refine g_cV [.int a1, .int a2] 2 rfl hF (met_X0_areVertices l hl0 d ob a1 a2 hA tA lA gA fa oa n gB _ hw) q348 q350 qs5 q92 q351 rfl rfl (by decide +kernel) ⟨Nat.le_of_ble_eq_true rfl, Nat.le_of_ble_eq_true rfl⟩ hH [0, 4] rfl rfl rfl 0 0 rfl rfl rfl hl.1 (Nat.le_of_ble_eq_true rfl) dX0_set_3 ⟨(by first | exact Nat.le_of_ble_eq_true rfl | omega | (dsimp only; omega)), (by first | exact Nat.le_of_ble_eq_true rfl | omega | (dsimp only; omega))⟩ (fun v w1 H locs hq hH => ?_)
  obtain ⟨r_28, rfl, rfl, hw⟩ := hq
  have hH : g_HS d A s [[(hA, .inr (1, [.ref hB, .int hm]))], [(hB, .inl (d.2.1 4, 4, .inr (.inl hf)))], [(lA, .inr (1, [.ref lB, .int lm]))], [(gB, .inl (d.2.1 0, 10, .inl near))], [(ob, .inr (0, [.ref hA, .ref tA, .ref lA, .ref gA, va_rf fa, va_rf oa]))], [(gA, .inr (2, [.int n, .ref gB]))]] H locs := hH
  refine W.eq (g2 := (F0 m 6 ls [.int r_28])) rfl ?_
  refine lv_if_eq (tgt := 23) hF.1.1 hF.1.2.1 dX0_set_6 (by decide) (fun c_29 => ?_) (fun c_29 => ?_)
  · have hw := hw.1 c_29
    refine lv_iconst (v := (-1)) hF.1.1 hF.1.2.1 dX0_set_23 (by decide) ?_
    refine W.widen (k := 2) (n := 12) (by first | exact Nat.le_of_ble_eq_true rfl | omega | (dsimp only; omega)) (by first | exact Nat.le_of_ble_eq_true rfl | omega | (dsimp only; omega)) ?_
    have hH := hH.sub (cs' := [[(ob, .inr (0, [.ref hA, .ref tA, .ref lA, .ref gA, va_rf fa, va_rf oa]))], [(hA, .inr (1, [.ref hB, .int hm]))], [(hB, .inl (d.2.1 4, 4, .inr (.inl hf)))], [(lA, .inr (1, [.ref lB, .int lm]))], [(gA, .inr (2, [.int n, .ref gB]))], [(gB, .inl (d.2.1 0, 10, .inl near))]]) [4, 0, 1, 2, 5, 3] rfl rfl
    exact g_iret hF hH ⟨(-1), gA, gB, hm, hf, lm, n, near, fa, oa, rfl, rfl, hw⟩ dX0_set_24
  · have hw := hw.2 c_29
    refine lv_iload_n hF.1.1 hF.1.2.1 dX0_set_9 rfl (lv_at hl 1 rfl) ?_
    refine lv_iload_n hF.1.1 hF.1.2.1 dX0_set_10 rfl (lv_at hl 2 rfl) ?_
    refine lv_icmp_eq (tgt := 23) hF.1.1 hF.1.2.1 dX0_set_11 (by decide) (fun c_30 => ?_) (fun c_30 => ?_)
    · have hw := hw.1 c_30
      refine lv_iconst (v := (-1)) hF.1.1 hF.1.2.1 dX0_set_23 (by decide) ?_
      refine W.widen (k := 2) (n := 12) (by first | exact Nat.le_of_ble_eq_true rfl | omega | (dsimp only; omega)) (by first | exact Nat.le_of_ble_eq_true rfl | omega | (dsimp only; omega)) ?_
      have hH := hH.sub (cs' := [[(ob, .inr (0, [.ref hA, .ref tA, .ref lA, .ref gA, va_rf fa, va_rf oa]))], [(hA, .inr (1, [.ref hB, .int hm]))], [(hB, .inl (d.2.1 4, 4, .inr (.inl hf)))], [(lA, .inr (1, [.ref lB, .int lm]))], [(gA, .inr (2, [.int n, .ref gB]))], [(gB, .inl (d.2.1 0, 10, .inl near))]]) [4, 0, 1, 2, 5, 3] rfl rfl
      exact g_iret hF hH ⟨(-1), gA, gB, hm, hf, lm, n, near, fa, oa, rfl, rfl, hw⟩ dX0_set_24
    · have hw := hw.2 c_30
      refine lv_iload_n hF.1.1 hF.1.2.1 dX0_set_14 rfl (lv_at hl 3 rfl) ?_
      refine lv_iconst (v := 0) hF.1.1 hF.1.2.1 dX0_set_15 (by decide) ?_
      refine lv_iconst (v := 1) hF.1.1 hF.1.2.1 dX0_set_16 (by decide) ?_
      refine g_cS [.int a3, .int 0, .int 1] 3 rfl hF (met_X0_inRange l hl0 d a3 0 1 _ hw) q206 q207 q92 q208 rfl rfl (by decide +kernel) ⟨Nat.le_of_ble_eq_true rfl, Nat.le_of_ble_eq_true rfl⟩ hH [] rfl rfl rfl hl.1 (Nat.le_of_ble_eq_true rfl) dX0_set_17 ⟨(by first | exact Nat.le_of_ble_eq_true rfl | omega | (dsimp only; omega)), (by first | exact Nat.le_of_ble_eq_true rfl | omega | (dsimp only; omega))⟩ (fun v w1 H locs hq hH => ?_)
      obtain ⟨r_31, rfl, rfl, hw⟩ := hq
      have hH : g_HS d A s [[(hA, .inr (1, [.ref hB, .int hm]))], [(hB, .inl (d.2.1 4, 4, .inr (.inl hf)))], [(lA, .inr (1, [.ref lB, .int lm]))], [(gB, .inl (d.2.1 0, 10, .inl near))], [(ob, .inr (0, [.ref hA, .ref tA, .ref lA, .ref gA, va_rf fa, va_rf oa]))], [(gA, .inr (2, [.int n, .ref gB]))]] H locs := hH
      refine W.eq (g2 := (F0 m 20 ls [.int r_31])) rfl ?_
      refine lv_if_ne (tgt := 25) hF.1.1 hF.1.2.1 dX0_set_20 (by decide) (fun c_32 => ?_) (fun c_32 => ?_)
      · have hw := hw.1 c_32
        refine lv_aload_n hF.1.1 hF.1.2.1 dX0_set_25 rfl (lv_at hl 0 rfl) ?_
        refine g_get (v := .ref gA) hF hH in_X0 rfl 4 0 rfl rfl 3 (by decide) q186 (fun _ h9 => h9) rfl dX0_set_26 ?_
        refine lv_iload_n hF.1.1 hF.1.2.1 dX0_set_29 rfl (lv_at hl 1 rfl) ?_
        refine lv_iload_n hF.1.1 hF.1.2.1 dX0_set_30 rfl (lv_at hl 2 rfl) ?_
        refine g_cV [.int a1, .int a2] 2 rfl hF (met_X2_linked l hl0 d gA a1 a2 n gB near _ hw) q356 q237 q238 q94 q239 rfl rfl (by decide +kernel) ⟨Nat.le_of_ble_eq_true rfl, Nat.le_of_ble_eq_true rfl⟩ hH [5, 3] rfl rfl rfl 0 0 rfl rfl rfl hl.1 (Nat.le_of_ble_eq_true rfl) dX0_set_31 ⟨(by first | exact Nat.le_of_ble_eq_true rfl | omega | (dsimp only; omega)), (by first | exact Nat.le_of_ble_eq_true rfl | omega | (dsimp only; omega))⟩ (fun v w1 H locs hq hH => ?_)
        obtain ⟨r_33, rfl, rfl, hw⟩ := hq
        have hH : g_HS d A s [[(hA, .inr (1, [.ref hB, .int hm]))], [(hB, .inl (d.2.1 4, 4, .inr (.inl hf)))], [(lA, .inr (1, [.ref lB, .int lm]))], [(ob, .inr (0, [.ref hA, .ref tA, .ref lA, .ref gA, va_rf fa, va_rf oa]))], [(gA, .inr (2, [.int n, .ref gB]))], [(gB, .inl (d.2.1 0, 10, .inl near))]] H locs := hH
        refine W.eq (g2 := (F0 m 34 ls [.int r_33])) rfl ?_
        refine lv_iload_n hF.1.1 hF.1.2.1 dX0_set_34 rfl (lv_at hl 3 rfl) ?_
        refine lv_iconst (v := 1) hF.1.1 hF.1.2.1 dX0_set_35 (by decide) ?_
        refine lv_icmp_ne (tgt := 43) hF.1.1 hF.1.2.1 dX0_set_36 (by decide) (fun c_34 => ?_) (fun c_34 => ?_)
        · have hw := hw.1 c_34
          refine lv_iconst (v := 0) hF.1.1 hF.1.2.1 dX0_set_43 (by decide) ?_
          exact bk_44 r_33 0 hm hf lm fa oa _ _ _ hH hl hw
        · have hw := hw.2 c_34
          refine lv_iconst (v := 1) hF.1.1 hF.1.2.1 dX0_set_39 (by decide) ?_
          refine lv_goto (tgt := 44) hF.1.1 hF.1.2.1 dX0_set_40 (by decide) ?_
          exact bk_44 r_33 1 hm hf lm fa oa _ _ _ hH hl hw
      · have hw := hw.2 c_32
        refine lv_iconst (v := (-1)) hF.1.1 hF.1.2.1 dX0_set_23 (by decide) ?_
        refine W.widen (k := 2) (n := 12) (by first | exact Nat.le_of_ble_eq_true rfl | omega | (dsimp only; omega)) (by first | exact Nat.le_of_ble_eq_true rfl | omega | (dsimp only; omega)) ?_
        have hH := hH.sub (cs' := [[(ob, .inr (0, [.ref hA, .ref tA, .ref lA, .ref gA, va_rf fa, va_rf oa]))], [(hA, .inr (1, [.ref hB, .int hm]))], [(hB, .inl (d.2.1 4, 4, .inr (.inl hf)))], [(lA, .inr (1, [.ref lB, .int lm]))], [(gA, .inr (2, [.int n, .ref gB]))], [(gB, .inl (d.2.1 0, 10, .inl near))]]) [4, 0, 1, 2, 5, 3] rfl rfl
        exact g_iret hF hH ⟨(-1), gA, gB, hm, hf, lm, n, near, fa, oa, rfl, rfl, hw⟩ dX0_set_24

def wb_X0_complement_55 (n : Int32) (near : Nat → Int32) (x2 : Int32) (fa_ : Option Nat) (oa_ : Option Nat) (hm_ : Int32) (hf_ : Nat → Int64) (lm_ : Int32) (K17 : Int32 → (Nat → Int32) → Prop) (K30 : Int32 → (Nat → Int32) → Prop) (Q : Int32 → Int32 → (Nat → Int64) → Int32 → Int32 → (Nat → Int32) → (Option Nat) → (Option Nat) → Prop) (x3 : Int32) (y1 : Int32) (y2 : Int32) (y3 : Int32) (v_q_2 : Nat → Int32) : Prop := (wp_X2_set y1 y2 y3 n v_q_2 (fun n_12 => K30 (x3 + 1) n_12))
def wb_X0_complement_30 (n : Int32) (near : Nat → Int32) (x2 : Int32) (fa_ : Option Nat) (oa_ : Option Nat) (hm_ : Int32) (hf_ : Nat → Int64) (lm_ : Int32) (K17 : Int32 → (Nat → Int32) → Prop) (Q : Int32 → Int32 → (Nat → Int64) → Int32 → Int32 → (Nat → Int32) → (Option Nat) → (Option Nat) → Prop) : Nat → Int32 → (Nat → Int32) → Prop
  | 0, _, _ => False
  | fu + 1, x3, v_q_2 => ((x2 ≤ x3 → K17 (x2 + 1) v_q_2) ∧ (¬ x2 ≤ x3 → (wp_X2_linked x2 x3 n near (fun r_14 => ((¬ r_14 = 0 → (wb_X0_complement_55 n near x2 fa_ oa_ hm_ hf_ lm_ K17 (wb_X0_complement_30 n near x2 fa_ oa_ hm_ hf_ lm_ K17 Q fu) Q x3 x2 x3 0 v_q_2)) ∧ (r_14 = 0 → (wb_X0_complement_55 n near x2 fa_ oa_ hm_ hf_ lm_ K17 (wb_X0_complement_30 n near x2 fa_ oa_ hm_ hf_ lm_ K17 Q fu) Q x3 x2 x3 1 v_q_2)))))))
def wb_X0_complement_17 (n : Int32) (near : Nat → Int32) (fa_ : Option Nat) (oa_ : Option Nat) (hm_ : Int32) (hf_ : Nat → Int64) (lm_ : Int32) (Q : Int32 → Int32 → (Nat → Int64) → Int32 → Int32 → (Nat → Int32) → (Option Nat) → (Option Nat) → Prop) : Nat → Int32 → (Nat → Int32) → Prop
  | 0, _, _ => False
  | fu + 1, x2, v_q_2 => ((n ≤ x2 → (wp_X0_change fa_ oa_ hm_ hf_ lm_ n near (fun n_17 n_18 n_19 => (wp_X2_edges n v_q_2 (fun r_20 => (Q r_20 n_17 n_18 n_19 n v_q_2 none none)))))) ∧ (¬ n ≤ x2 → (∃ f30, wb_X0_complement_30 n near x2 fa_ oa_ hm_ hf_ lm_ (wb_X0_complement_17 n near fa_ oa_ hm_ hf_ lm_ Q fu) Q f30 0 v_q_2)))
def wp_X0_complement (fa : Option Nat) (oa : Option Nat) (hm : Int32) (hf : Nat → Int64) (lm : Int32) (n : Int32) (near : Nat → Int32) (Q : Int32 → Int32 → (Nat → Int64) → Int32 → Int32 → (Nat → Int32) → (Option Nat) → (Option Nat) → Prop) : Prop := (wp_X2_init n (∃ f17, wb_X0_complement_17 n near fa oa hm hf lm Q f17 0 (fun _ => 0)))
set_option maxHeartbeats 4000000 in
set_option maxRecDepth 100000 in
theorem met_X0_complement (l : Launch) (hl0 : l.stackTraces = false) (d : g_D) (ob : Nat) (hA : Nat) (tA : Nat) (lA : Nat) (gA : Nat) (fa : Option Nat) (oa : Option Nat) (hB : Nat) (hm : Int32) (hf : Nat → Int64) (lB : Nat) (lm : Int32) (n : Int32) (gB : Nat) (near : Nat → Int32) (Q : Int32 → Int32 → (Nat → Int64) → Int32 → Int32 → (Nat → Int32) → (Option Nat) → (Option Nat) → Prop) (hw : wp_X0_complement fa oa hm hf lm n near Q) : g_Met l d yX0_complement cX0_complement 4 (Option.some FieldType.int) ({ frames := 11, cells := 2, slots := 12, locals := 10367 } : Room) [.ref ob] [[(ob, .inr (0, [.ref hA, .ref tA, .ref lA, .ref gA, va_rf fa, va_rf oa]))], [(hA, .inr (1, [.ref hB, .int hm]))], [(hB, .inl (d.2.1 4, 4, .inr (.inl hf)))], [(lA, .inr (1, [.ref lB, .int lm]))], [(gA, .inr (2, [.int n, .ref gB]))], [(gB, .inl (d.2.1 0, 10, .inl near))]] 2 12 (fun v w1 => ∃ (r : Int32) (gA2 : Nat) (gB2 : Nat) (hm2 : Int32) (hf2 : Nat → Int64) (lm2 : Int32) (n2 : Int32) (near2 : Nat → Int32) (fa2 : Option Nat) (oa2 : Option Nat), v = some (.int r) ∧ w1 = [[(ob, .inr (0, [.ref hA, .ref tA, .ref lA, .ref gA2, va_rf fa2, va_rf oa2]))], [(hA, .inr (1, [.ref hB, .int hm2]))], [(hB, .inl (d.2.1 4, 4, .inr (.inl hf2)))], [(lA, .inr (1, [.ref lB, .int lm2]))], [(gA2, .inr (2, [.int n2, .ref gB2]))], [(gB2, .inl (d.2.1 0, 10, .inl near2))]] ∧ Q r hm2 hf2 lm2 n2 near2 fa2 oa2) := by
  refine g_enter (by decide) (Nat.le_of_ble_eq_true rfl) ?_
  intro p e s m args below meth c A ls hF hH hl hin
  have hF : g_F p m c cX0_complement 4 s args RX0 meth (Option.some FieldType.int) := hF
  have hl : lv_has ls 4 [(0, .ref ob)] := hl
  have bk_55 : ∀ (x2 : Int32) (fa_ : Option Nat) (oa_ : Option Nat) (hm_ : Int32) (hf_ : Nat → Int64) (lm_ : Int32) (K17 : Int32 → (Nat → Int32) → Prop) (hK17 : ∀ (q_1 : Nat) (q_2 : Nat) (x2 : Int32) (v_q_2 : Nat → Int32) (H : Heap) (locs : List Loc) (ls : Array Slot), g_HS d A s [[(ob, .inr (0, [.ref hA, .ref tA, .ref lA, .ref gA, va_rf fa_, va_rf oa_]))], [(hA, .inr (1, [.ref hB, .int hm_]))], [(hB, .inl (d.2.1 4, 4, .inr (.inl hf_)))], [(lA, .inr (1, [.ref lB, .int lm_]))], [(gA, .inr (2, [.int n, .ref gB]))], [(gB, .inl (d.2.1 0, 10, .inl near))], [(q_1, .inr (2, [.int n, .ref q_2]))], [(q_2, .inl (d.2.1 0, 10, .inl v_q_2))]] H locs → lv_has ls 4 [(0, .ref ob), (1, .ref q_1), (2, .int x2)] → K17 x2 v_q_2 → W p l e ({ frames := 11, cells := 2, slots := 12, locals := 10367 } : Room) s m args below meth c H locs 2 12 (g_E d (fun v w1 => ∃ (r : Int32) (gA2 : Nat) (gB2 : Nat) (hm2 : Int32) (hf2 : Nat → Int64) (lm2 : Int32) (n2 : Int32) (near2 : Nat → Int32) (fa2 : Option Nat) (oa2 : Option Nat), v = some (.int r) ∧ w1 = [[(ob, .inr (0, [.ref hA, .ref tA, .ref lA, .ref gA2, va_rf fa2, va_rf oa2]))], [(hA, .inr (1, [.ref hB, .int hm2]))], [(hB, .inl (d.2.1 4, 4, .inr (.inl hf2)))], [(lA, .inr (1, [.ref lB, .int lm2]))], [(gA2, .inr (2, [.int n2, .ref gB2]))], [(gB2, .inl (d.2.1 0, 10, .inl near2))]] ∧ Q r hm2 hf2 lm2 n2 near2 fa2 oa2) A below args s 2 12) (F0 m 17 ls [])) (K30 : Int32 → (Nat → Int32) → Prop) (hK30 : ∀ (q_1 : Nat) (q_2 : Nat) (x3 : Int32) (v_q_2 : Nat → Int32) (H : Heap) (locs : List Loc) (ls : Array Slot), g_HS d A s [[(ob, .inr (0, [.ref hA, .ref tA, .ref lA, .ref gA, va_rf fa_, va_rf oa_]))], [(hA, .inr (1, [.ref hB, .int hm_]))], [(hB, .inl (d.2.1 4, 4, .inr (.inl hf_)))], [(lA, .inr (1, [.ref lB, .int lm_]))], [(gA, .inr (2, [.int n, .ref gB]))], [(gB, .inl (d.2.1 0, 10, .inl near))], [(q_1, .inr (2, [.int n, .ref q_2]))], [(q_2, .inl (d.2.1 0, 10, .inl v_q_2))]] H locs → lv_has ls 4 [(0, .ref ob), (1, .ref q_1), (2, .int x2), (3, .int x3)] → K30 x3 v_q_2 → W p l e ({ frames := 11, cells := 2, slots := 12, locals := 10367 } : Room) s m args below meth c H locs 2 12 (g_E d (fun v w1 => ∃ (r : Int32) (gA2 : Nat) (gB2 : Nat) (hm2 : Int32) (hf2 : Nat → Int64) (lm2 : Int32) (n2 : Int32) (near2 : Nat → Int32) (fa2 : Option Nat) (oa2 : Option Nat), v = some (.int r) ∧ w1 = [[(ob, .inr (0, [.ref hA, .ref tA, .ref lA, .ref gA2, va_rf fa2, va_rf oa2]))], [(hA, .inr (1, [.ref hB, .int hm2]))], [(hB, .inl (d.2.1 4, 4, .inr (.inl hf2)))], [(lA, .inr (1, [.ref lB, .int lm2]))], [(gA2, .inr (2, [.int n2, .ref gB2]))], [(gB2, .inl (d.2.1 0, 10, .inl near2))]] ∧ Q r hm2 hf2 lm2 n2 near2 fa2 oa2) A below args s 2 12) (F0 m 30 ls [])) (q_1 : Nat) (q_2 : Nat) (x3 : Int32) (y1 : Int32) (y2 : Int32) (y3 : Int32) (v_q_2 : Nat → Int32) (H : Heap) (locs : List Loc) (ls : Array Slot), g_HS d A s [[(ob, .inr (0, [.ref hA, .ref tA, .ref lA, .ref gA, va_rf fa_, va_rf oa_]))], [(hA, .inr (1, [.ref hB, .int hm_]))], [(hB, .inl (d.2.1 4, 4, .inr (.inl hf_)))], [(lA, .inr (1, [.ref lB, .int lm_]))], [(q_1, .inr (2, [.int n, .ref q_2]))], [(q_2, .inl (d.2.1 0, 10, .inl v_q_2))], [(gA, .inr (2, [.int n, .ref gB]))], [(gB, .inl (d.2.1 0, 10, .inl near))]] H locs → lv_has ls 4 [(0, .ref ob), (1, .ref q_1), (2, .int x2), (3, .int x3)] → wb_X0_complement_55 n near x2 fa_ oa_ hm_ hf_ lm_ K17 K30 Q x3 y1 y2 y3 v_q_2 → W p l e ({ frames := 11, cells := 2, slots := 12, locals := 10367 } : Room) s m args below meth c H locs 2 12 (g_E d (fun v w1 => ∃ (r : Int32) (gA2 : Nat) (gB2 : Nat) (hm2 : Int32) (hf2 : Nat → Int64) (lm2 : Int32) (n2 : Int32) (near2 : Nat → Int32) (fa2 : Option Nat) (oa2 : Option Nat), v = some (.int r) ∧ w1 = [[(ob, .inr (0, [.ref hA, .ref tA, .ref lA, .ref gA2, va_rf fa2, va_rf oa2]))], [(hA, .inr (1, [.ref hB, .int hm2]))], [(hB, .inl (d.2.1 4, 4, .inr (.inl hf2)))], [(lA, .inr (1, [.ref lB, .int lm2]))], [(gA2, .inr (2, [.int n2, .ref gB2]))], [(gB2, .inl (d.2.1 0, 10, .inl near2))]] ∧ Q r hm2 hf2 lm2 n2 near2 fa2 oa2) A below args s 2 12) (F0 m 55 ls [.int y3, .int y2, .int y1, .ref q_1]) := by
    intro x2 fa_ oa_ hm_ hf_ lm_ K17 hK17 K30 hK30 q_1 q_2 x3 y1 y2 y3 v_q_2 H locs ls hH hl hw
    unfold wb_X0_complement_55 at hw
    refine g_cV [.int y1, .int y2, .int y3] 3 rfl hF (met_X2_set l hl0 d q_1 y1 y2 y3 n q_2 v_q_2 _ hw) q364 q365 q366 q94 q367 rfl rfl (by decide +kernel) ⟨Nat.le_of_ble_eq_true rfl, Nat.le_of_ble_eq_true rfl⟩ hH [4, 5] rfl rfl rfl 0 0 rfl rfl rfl hl.1 (Nat.le_of_ble_eq_true rfl) dX0_complement_55 ⟨(by first | exact Nat.le_of_ble_eq_true rfl | omega | (dsimp only; omega)), (by first | exact Nat.le_of_ble_eq_true rfl | omega | (dsimp only; omega))⟩ (fun v w1 H locs hq hH => ?_)
    obtain ⟨n_12, rfl, rfl, hw⟩ := hq
    have hH : g_HS d A s [[(ob, .inr (0, [.ref hA, .ref tA, .ref lA, .ref gA, va_rf fa_, va_rf oa_]))], [(hA, .inr (1, [.ref hB, .int hm_]))], [(hB, .inl (d.2.1 4, 4, .inr (.inl hf_)))], [(lA, .inr (1, [.ref lB, .int lm_]))], [(gA, .inr (2, [.int n, .ref gB]))], [(gB, .inl (d.2.1 0, 10, .inl near))], [(q_1, .inr (2, [.int n, .ref q_2]))], [(q_2, .inl (d.2.1 0, 10, .inl n_12))]] H locs := hH
    refine W.eq (g2 := (F0 m 58 ls [])) rfl ?_
    refine lv_iinc (v := (x3 + 1)) (lv' := [(3, .int (x3 + 1)), (0, .ref ob), (1, .ref q_1), (2, .int x2)]) hF.1.1 hF.1.2.1 dX0_complement_58 hl (k := 3) rfl rfl (by decide) rfl (fun ls hl => ?_)
    refine lv_goto (tgt := 30) hF.1.1 hF.1.2.1 dX0_complement_61 (by decide) ?_
    have hl := lv_sub hl (l' := [(0, .ref ob), (1, .ref q_1), (2, .int x2), (3, .int (x3 + 1))]) [1, 2, 3, 0] rfl
    exact hK30 q_1 q_2 (x3 + 1) n_12 _ _ _ hH hl hw
  have bk_30 : ∀ (x2 : Int32) (fa_ : Option Nat) (oa_ : Option Nat) (hm_ : Int32) (hf_ : Nat → Int64) (lm_ : Int32) (K17 : Int32 → (Nat → Int32) → Prop) (hK17 : ∀ (q_1 : Nat) (q_2 : Nat) (x2 : Int32) (v_q_2 : Nat → Int32) (H : Heap) (locs : List Loc) (ls : Array Slot), g_HS d A s [[(ob, .inr (0, [.ref hA, .ref tA, .ref lA, .ref gA, va_rf fa_, va_rf oa_]))], [(hA, .inr (1, [.ref hB, .int hm_]))], [(hB, .inl (d.2.1 4, 4, .inr (.inl hf_)))], [(lA, .inr (1, [.ref lB, .int lm_]))], [(gA, .inr (2, [.int n, .ref gB]))], [(gB, .inl (d.2.1 0, 10, .inl near))], [(q_1, .inr (2, [.int n, .ref q_2]))], [(q_2, .inl (d.2.1 0, 10, .inl v_q_2))]] H locs → lv_has ls 4 [(0, .ref ob), (1, .ref q_1), (2, .int x2)] → K17 x2 v_q_2 → W p l e ({ frames := 11, cells := 2, slots := 12, locals := 10367 } : Room) s m args below meth c H locs 2 12 (g_E d (fun v w1 => ∃ (r : Int32) (gA2 : Nat) (gB2 : Nat) (hm2 : Int32) (hf2 : Nat → Int64) (lm2 : Int32) (n2 : Int32) (near2 : Nat → Int32) (fa2 : Option Nat) (oa2 : Option Nat), v = some (.int r) ∧ w1 = [[(ob, .inr (0, [.ref hA, .ref tA, .ref lA, .ref gA2, va_rf fa2, va_rf oa2]))], [(hA, .inr (1, [.ref hB, .int hm2]))], [(hB, .inl (d.2.1 4, 4, .inr (.inl hf2)))], [(lA, .inr (1, [.ref lB, .int lm2]))], [(gA2, .inr (2, [.int n2, .ref gB2]))], [(gB2, .inl (d.2.1 0, 10, .inl near2))]] ∧ Q r hm2 hf2 lm2 n2 near2 fa2 oa2) A below args s 2 12) (F0 m 17 ls [])) (fu : Nat) (q_1 : Nat) (q_2 : Nat) (x3 : Int32) (v_q_2 : Nat → Int32) (H : Heap) (locs : List Loc) (ls : Array Slot), g_HS d A s [[(ob, .inr (0, [.ref hA, .ref tA, .ref lA, .ref gA, va_rf fa_, va_rf oa_]))], [(hA, .inr (1, [.ref hB, .int hm_]))], [(hB, .inl (d.2.1 4, 4, .inr (.inl hf_)))], [(lA, .inr (1, [.ref lB, .int lm_]))], [(gA, .inr (2, [.int n, .ref gB]))], [(gB, .inl (d.2.1 0, 10, .inl near))], [(q_1, .inr (2, [.int n, .ref q_2]))], [(q_2, .inl (d.2.1 0, 10, .inl v_q_2))]] H locs → lv_has ls 4 [(0, .ref ob), (1, .ref q_1), (2, .int x2), (3, .int x3)] → wb_X0_complement_30 n near x2 fa_ oa_ hm_ hf_ lm_ K17 Q fu x3 v_q_2 → W p l e ({ frames := 11, cells := 2, slots := 12, locals := 10367 } : Room) s m args below meth c H locs 2 12 (g_E d (fun v w1 => ∃ (r : Int32) (gA2 : Nat) (gB2 : Nat) (hm2 : Int32) (hf2 : Nat → Int64) (lm2 : Int32) (n2 : Int32) (near2 : Nat → Int32) (fa2 : Option Nat) (oa2 : Option Nat), v = some (.int r) ∧ w1 = [[(ob, .inr (0, [.ref hA, .ref tA, .ref lA, .ref gA2, va_rf fa2, va_rf oa2]))], [(hA, .inr (1, [.ref hB, .int hm2]))], [(hB, .inl (d.2.1 4, 4, .inr (.inl hf2)))], [(lA, .inr (1, [.ref lB, .int lm2]))], [(gA2, .inr (2, [.int n2, .ref gB2]))], [(gB2, .inl (d.2.1 0, 10, .inl near2))]] ∧ Q r hm2 hf2 lm2 n2 near2 fa2 oa2) A below args s 2 12) (F0 m 30 ls []) := by
    intro x2 fa_ oa_ hm_ hf_ lm_ K17 hK17 fu
    induction fu with
    | zero => intro q_1 q_2 x3 v_q_2 H locs ls hH hl hw; rw [wb_X0_complement_30] at hw; exact hw.elim
    | succ fu ih =>
      intro q_1 q_2 x3 v_q_2 H locs ls hH hl hw
      rw [wb_X0_complement_30] at hw
      refine lv_iload_n hF.1.1 hF.1.2.1 dX0_complement_30 rfl (lv_at hl 3 rfl) ?_
      refine lv_iload_n hF.1.1 hF.1.2.1 dX0_complement_31 rfl (lv_at hl 2 rfl) ?_
      refine lv_icmp_ge (tgt := 64) hF.1.1 hF.1.2.1 dX0_complement_32 (by decide) (fun c_13 => ?_) (fun c_13 => ?_)
      · have hw := hw.1 c_13
        refine lv_iinc (v := (x2 + 1)) (lv' := [(2, .int (x2 + 1)), (0, .ref ob), (1, .ref q_1), (3, .int x3)]) hF.1.1 hF.1.2.1 dX0_complement_64 hl (k := 2) rfl rfl (by decide) rfl (fun ls hl => ?_)
        refine lv_goto (tgt := 17) hF.1.1 hF.1.2.1 dX0_complement_67 (by decide) ?_
        have hl := lv_sub hl (l' := [(0, .ref ob), (1, .ref q_1), (2, .int (x2 + 1))]) [1, 2, 0] rfl
        exact hK17 q_1 q_2 (x2 + 1) v_q_2 _ _ _ hH hl hw
      · have hw := hw.2 c_13
        refine lv_aload_n hF.1.1 hF.1.2.1 dX0_complement_35 rfl (lv_at hl 1 rfl) ?_
        refine lv_iload_n hF.1.1 hF.1.2.1 dX0_complement_36 rfl (lv_at hl 2 rfl) ?_
        refine lv_iload_n hF.1.1 hF.1.2.1 dX0_complement_37 rfl (lv_at hl 3 rfl) ?_
        refine lv_aload_n hF.1.1 hF.1.2.1 dX0_complement_38 rfl (lv_at hl 0 rfl) ?_
        refine g_get (v := .ref gA) hF hH in_X0 rfl 0 0 rfl rfl 3 (by decide) q186 (fun _ h9 => h9) rfl dX0_complement_39 ?_
        refine lv_iload_n hF.1.1 hF.1.2.1 dX0_complement_42 rfl (lv_at hl 2 rfl) ?_
        refine lv_iload_n hF.1.1 hF.1.2.1 dX0_complement_43 rfl (lv_at hl 3 rfl) ?_
        refine g_cV [.int x2, .int x3] 2 rfl hF (met_X2_linked l hl0 d gA x2 x3 n gB near _ hw) q356 q237 q238 q94 q239 rfl rfl (by decide +kernel) ⟨Nat.le_of_ble_eq_true rfl, Nat.le_of_ble_eq_true rfl⟩ hH [4, 5] rfl rfl rfl 0 0 rfl rfl rfl hl.1 (Nat.le_of_ble_eq_true rfl) dX0_complement_44 ⟨(by first | exact Nat.le_of_ble_eq_true rfl | omega | (dsimp only; omega)), (by first | exact Nat.le_of_ble_eq_true rfl | omega | (dsimp only; omega))⟩ (fun v w1 H locs hq hH => ?_)
        obtain ⟨r_14, rfl, rfl, hw⟩ := hq
        have hH : g_HS d A s [[(ob, .inr (0, [.ref hA, .ref tA, .ref lA, .ref gA, va_rf fa_, va_rf oa_]))], [(hA, .inr (1, [.ref hB, .int hm_]))], [(hB, .inl (d.2.1 4, 4, .inr (.inl hf_)))], [(lA, .inr (1, [.ref lB, .int lm_]))], [(q_1, .inr (2, [.int n, .ref q_2]))], [(q_2, .inl (d.2.1 0, 10, .inl v_q_2))], [(gA, .inr (2, [.int n, .ref gB]))], [(gB, .inl (d.2.1 0, 10, .inl near))]] H locs := hH
        refine W.eq (g2 := (F0 m 47 ls [.int r_14, .int x3, .int x2, .ref q_1])) rfl ?_
        refine lv_if_ne (tgt := 54) hF.1.1 hF.1.2.1 dX0_complement_47 (by decide) (fun c_15 => ?_) (fun c_15 => ?_)
        · have hw := hw.1 c_15
          refine lv_iconst (v := 0) hF.1.1 hF.1.2.1 dX0_complement_54 (by decide) ?_
          exact bk_55 x2 fa_ oa_ hm_ hf_ lm_ K17 hK17 (wb_X0_complement_30 n near x2 fa_ oa_ hm_ hf_ lm_ K17 Q fu) ih q_1 q_2 x3 x2 x3 0 v_q_2 _ _ _ hH hl hw
        · have hw := hw.2 c_15
          refine lv_iconst (v := 1) hF.1.1 hF.1.2.1 dX0_complement_50 (by decide) ?_
          refine lv_goto (tgt := 55) hF.1.1 hF.1.2.1 dX0_complement_51 (by decide) ?_
          exact bk_55 x2 fa_ oa_ hm_ hf_ lm_ K17 hK17 (wb_X0_complement_30 n near x2 fa_ oa_ hm_ hf_ lm_ K17 Q fu) ih q_1 q_2 x3 x2 x3 1 v_q_2 _ _ _ hH hl hw
  have bk_17 : ∀ (fa_ : Option Nat) (oa_ : Option Nat) (hm_ : Int32) (hf_ : Nat → Int64) (lm_ : Int32) (fu : Nat) (q_1 : Nat) (q_2 : Nat) (x2 : Int32) (v_q_2 : Nat → Int32) (H : Heap) (locs : List Loc) (ls : Array Slot), g_HS d A s [[(ob, .inr (0, [.ref hA, .ref tA, .ref lA, .ref gA, va_rf fa_, va_rf oa_]))], [(hA, .inr (1, [.ref hB, .int hm_]))], [(hB, .inl (d.2.1 4, 4, .inr (.inl hf_)))], [(lA, .inr (1, [.ref lB, .int lm_]))], [(gA, .inr (2, [.int n, .ref gB]))], [(gB, .inl (d.2.1 0, 10, .inl near))], [(q_1, .inr (2, [.int n, .ref q_2]))], [(q_2, .inl (d.2.1 0, 10, .inl v_q_2))]] H locs → lv_has ls 4 [(0, .ref ob), (1, .ref q_1), (2, .int x2)] → wb_X0_complement_17 n near fa_ oa_ hm_ hf_ lm_ Q fu x2 v_q_2 → W p l e ({ frames := 11, cells := 2, slots := 12, locals := 10367 } : Room) s m args below meth c H locs 2 12 (g_E d (fun v w1 => ∃ (r : Int32) (gA2 : Nat) (gB2 : Nat) (hm2 : Int32) (hf2 : Nat → Int64) (lm2 : Int32) (n2 : Int32) (near2 : Nat → Int32) (fa2 : Option Nat) (oa2 : Option Nat), v = some (.int r) ∧ w1 = [[(ob, .inr (0, [.ref hA, .ref tA, .ref lA, .ref gA2, va_rf fa2, va_rf oa2]))], [(hA, .inr (1, [.ref hB, .int hm2]))], [(hB, .inl (d.2.1 4, 4, .inr (.inl hf2)))], [(lA, .inr (1, [.ref lB, .int lm2]))], [(gA2, .inr (2, [.int n2, .ref gB2]))], [(gB2, .inl (d.2.1 0, 10, .inl near2))]] ∧ Q r hm2 hf2 lm2 n2 near2 fa2 oa2) A below args s 2 12) (F0 m 17 ls []) := by
    intro fa_ oa_ hm_ hf_ lm_ fu
    induction fu with
    | zero => intro q_1 q_2 x2 v_q_2 H locs ls hH hl hw; rw [wb_X0_complement_17] at hw; exact hw.elim
    | succ fu ih =>
      intro q_1 q_2 x2 v_q_2 H locs ls hH hl hw
      rw [wb_X0_complement_17] at hw
      refine lv_iload_n hF.1.1 hF.1.2.1 dX0_complement_17 rfl (lv_at hl 2 rfl) ?_
      refine lv_aload_n hF.1.1 hF.1.2.1 dX0_complement_18 rfl (lv_at hl 0 rfl) ?_
      refine g_get (v := .ref gA) hF hH in_X0 rfl 0 0 rfl rfl 3 (by decide) q186 (fun _ h9 => h9) rfl dX0_complement_19 ?_
      refine g_getN (v := .int n) hF hH in_X2 rfl 4 0 rfl rfl 0 (by decide) q169 (fun _ h9 => h9) rfl dX0_complement_22 ?_
      refine lv_icmp_ge (tgt := 70) hF.1.1 hF.1.2.1 dX0_complement_25 (by decide) (fun c_16 => ?_) (fun c_16 => ?_)
      · have hw := hw.1 c_16
        refine lv_aload_n hF.1.1 hF.1.2.1 dX0_complement_70 rfl (lv_at hl 0 rfl) ?_
        refine lv_aload_n hF.1.1 hF.1.2.1 dX0_complement_71 rfl (lv_at hl 1 rfl) ?_
        refine g_cV [.ref q_1] 1 rfl hF (met_X0_change l hl0 d ob q_1 hA tA lA gA fa_ oa_ hB hm_ hf_ lB lm_ n gB near _ hw) q209 q211 qs0 q92 q212 rfl rfl (by decide +kernel) ⟨Nat.le_of_ble_eq_true rfl, Nat.le_of_ble_eq_true rfl⟩ hH [0, 1, 2, 3, 4, 5] rfl rfl rfl 0 0 rfl rfl rfl hl.1 (Nat.le_of_ble_eq_true rfl) dX0_complement_72 ⟨(by first | exact Nat.le_of_ble_eq_true rfl | omega | (dsimp only; omega)), (by first | exact Nat.le_of_ble_eq_true rfl | omega | (dsimp only; omega))⟩ (fun v w1 H locs hq hH => ?_)
        obtain ⟨n_17, n_18, n_19, rfl, rfl, hw⟩ := hq
        have hH : g_HS d A s [[(q_1, .inr (2, [.int n, .ref q_2]))], [(q_2, .inl (d.2.1 0, 10, .inl v_q_2))], [(ob, .inr (0, [.ref hA, .ref tA, .ref lA, .ref q_1, va_rf none, va_rf none]))], [(hA, .inr (1, [.ref hB, .int n_17]))], [(hB, .inl (d.2.1 4, 4, .inr (.inl n_18)))], [(lA, .inr (1, [.ref lB, .int n_19]))]] H locs := hH
        refine W.eq (g2 := (F0 m 75 ls [])) rfl ?_
        refine lv_aload_n hF.1.1 hF.1.2.1 dX0_complement_75 rfl (lv_at hl 0 rfl) ?_
        refine g_get (v := .ref q_1) hF hH in_X0 rfl 2 0 rfl rfl 3 (by decide) q186 (fun _ h9 => h9) rfl dX0_complement_76 ?_
        refine g_cV [] 0 rfl hF (met_X2_edges l hl0 d q_1 n q_2 v_q_2 _ hw) q368 q369 q370 q94 q371 rfl rfl (by decide +kernel) ⟨Nat.le_of_ble_eq_true rfl, Nat.le_of_ble_eq_true rfl⟩ hH [0, 1] rfl rfl rfl 0 0 rfl rfl rfl hl.1 (Nat.le_of_ble_eq_true rfl) dX0_complement_79 ⟨(by first | exact Nat.le_of_ble_eq_true rfl | omega | (dsimp only; omega)), (by first | exact Nat.le_of_ble_eq_true rfl | omega | (dsimp only; omega))⟩ (fun v w1 H locs hq hH => ?_)
        obtain ⟨r_20, rfl, rfl, hw⟩ := hq
        have hH : g_HS d A s [[(ob, .inr (0, [.ref hA, .ref tA, .ref lA, .ref q_1, va_rf none, va_rf none]))], [(hA, .inr (1, [.ref hB, .int n_17]))], [(hB, .inl (d.2.1 4, 4, .inr (.inl n_18)))], [(lA, .inr (1, [.ref lB, .int n_19]))], [(q_1, .inr (2, [.int n, .ref q_2]))], [(q_2, .inl (d.2.1 0, 10, .inl v_q_2))]] H locs := hH
        refine W.eq (g2 := (F0 m 82 ls [.int r_20])) rfl ?_
        exact g_iret hF hH ⟨r_20, q_1, q_2, n_17, n_18, n_19, n, v_q_2, none, none, rfl, rfl, hw⟩ dX0_complement_82
      · have hw := hw.2 c_16
        refine lv_iconst (v := 0) hF.1.1 hF.1.2.1 dX0_complement_28 (by decide) ?_
        refine lv_istore_n (lv' := [(3, .int 0), (0, .ref ob), (1, .ref q_1), (2, .int x2)]) hF.1.1 hF.1.2.1 dX0_complement_29 rfl hl (by decide) rfl (fun ls hl => ?_)
        obtain ⟨f_21, hw⟩ := hw
        have hl := lv_sub hl (l' := [(0, .ref ob), (1, .ref q_1), (2, .int x2), (3, .int 0)]) [1, 2, 3, 0] rfl
        exact bk_30 x2 fa_ oa_ hm_ hf_ lm_ (wb_X0_complement_17 n near fa_ oa_ hm_ hf_ lm_ Q fu) ih f_21 q_1 q_2 0 v_q_2 _ _ _ hH hl hw
  unfold wp_X0_complement at hw
  refine g_new (ci := 2) (fs := [.int 0, .null]) (C := RX2) (T := TX2) (N := 2) hF hH in_X2 rfl tyX2 tyX2_ok q160 q161 q94 (fun j hj => by rcases (show j = 0 ∨ j = 1 by omega) with rfl | rfl <;> rfl) (by first | exact Nat.le_of_ble_eq_true rfl | omega | (dsimp only; omega)) (by first | exact Nat.le_of_ble_eq_true rfl | omega | (dsimp only; omega)) dX0_complement_0 (fun q_22 H hH => ?_)
  have hH : g_HS d A s [[(ob, .inr (0, [.ref hA, .ref tA, .ref lA, .ref gA, va_rf fa, va_rf oa]))], [(hA, .inr (1, [.ref hB, .int hm]))], [(hB, .inl (d.2.1 4, 4, .inr (.inl hf)))], [(lA, .inr (1, [.ref lB, .int lm]))], [(gA, .inr (2, [.int n, .ref gB]))], [(gB, .inl (d.2.1 0, 10, .inl near))], [(q_22, .inr (2, [.int 0, .null]))]] H _ := hH
  refine W.widen (k := 1) (n := 2) (by first | exact Nat.le_of_ble_eq_true rfl | omega | (dsimp only; omega)) (by first | exact Nat.le_of_ble_eq_true rfl | omega | (dsimp only; omega)) ?_
  refine lv_dup hF.1.1 hF.1.2.1 dX0_complement_3 rfl ?_
  refine lv_aload_n hF.1.1 hF.1.2.1 dX0_complement_4 rfl (lv_at hl 0 rfl) ?_
  refine g_get (v := .ref gA) hF hH in_X0 rfl 0 0 rfl rfl 3 (by decide) q186 (fun _ h9 => h9) rfl dX0_complement_5 ?_
  refine g_getN (v := .int n) hF hH in_X2 rfl 4 0 rfl rfl 0 (by decide) q169 (fun _ h9 => h9) rfl dX0_complement_8 ?_
  refine g_cI [.int n] 1 rfl hF (met_X2_init l hl0 d q_22 n _ hw) q162 q163 q94 q164 rfl rfl rfl (by decide +kernel) ⟨Nat.le_of_ble_eq_true rfl, Nat.le_of_ble_eq_true rfl⟩ hH [6] rfl rfl rfl hl.1 (Nat.le_of_ble_eq_true rfl) dX0_complement_11 ⟨(by first | exact Nat.le_of_ble_eq_true rfl | omega | (dsimp only; omega)), (by first | exact Nat.le_of_ble_eq_true rfl | omega | (dsimp only; omega))⟩ (fun v w1 H locs hq hH => ?_)
  obtain ⟨q_23, rfl, rfl, hw⟩ := hq
  have hH : g_HS d A s [[(ob, .inr (0, [.ref hA, .ref tA, .ref lA, .ref gA, va_rf fa, va_rf oa]))], [(hA, .inr (1, [.ref hB, .int hm]))], [(hB, .inl (d.2.1 4, 4, .inr (.inl hf)))], [(lA, .inr (1, [.ref lB, .int lm]))], [(gA, .inr (2, [.int n, .ref gB]))], [(gB, .inl (d.2.1 0, 10, .inl near))], [(q_22, .inr (2, [.int n, .ref q_23]))], [(q_23, .inl (d.2.1 0, 10, .inl (fun _ => 0)))]] H locs := hH
  refine W.eq (g2 := (F0 m 14 ls [.ref q_22])) rfl ?_
  refine W.widen (k := 2) (n := 12) (by first | exact Nat.le_of_ble_eq_true rfl | omega | (dsimp only; omega)) (by first | exact Nat.le_of_ble_eq_true rfl | omega | (dsimp only; omega)) ?_
  refine lv_astore_n (lv' := [(1, .ref q_22), (0, .ref ob)]) hF.1.1 hF.1.2.1 dX0_complement_14 rfl hl (by decide) rfl (fun ls hl => ?_)
  refine lv_iconst (v := 0) hF.1.1 hF.1.2.1 dX0_complement_15 (by decide) ?_
  refine lv_istore_n (lv' := [(2, .int 0), (1, .ref q_22), (0, .ref ob)]) hF.1.1 hF.1.2.1 dX0_complement_16 rfl hl (by decide) rfl (fun ls hl => ?_)
  obtain ⟨f_24, hw⟩ := hw
  have hl := lv_sub hl (l' := [(0, .ref ob), (1, .ref q_22), (2, .int 0)]) [2, 1, 0] rfl
  exact bk_17 fa oa hm hf lm f_24 q_22 q_23 0 (fun _ => 0) _ _ _ hH hl hw

def wb_X0_twin_82 (a1 : Int32) (n : Int32) (near : Nat → Int32) (Q : Int32 → Int32 → (Nat → Int64) → Int32 → Int32 → (Nat → Int32) → (Option Nat) → (Option Nat) → Prop) (x3 : Int32) (y3 : Int32) (hm_ : Int32) (hf_ : Nat → Int64) (lm_ : Int32) (fa_ : Option Nat) (oa_ : Option Nat) (v_vertices : Int32) (v_q_7 : Nat → Int32) : Prop := (wp_X2_set a1 n y3 v_vertices v_q_7 (fun n_16 => (wp_X0_change fa_ oa_ hm_ hf_ lm_ n near (fun n_17 n_18 n_19 => (Q x3 n_17 n_18 n_19 v_vertices n_16 none none)))))
def wp_X0_twin (a1 : Int32) (a2 : Int32) (fa : Option Nat) (oa : Option Nat) (hm : Int32) (hf : Nat → Int64) (lm : Int32) (n : Int32) (near : Nat → Int32) (Q : Int32 → Int32 → (Nat → Int64) → Int32 → Int32 → (Nat → Int32) → (Option Nat) → (Option Nat) → Prop) : Prop := (wp_X0_isVertex a1 n (fun r_20 => ((r_20 = 0 → (Q (-1) hm hf lm n near fa oa)) ∧ (¬ r_20 = 0 → (wp_X0_inRange a2 0 1 (fun r_22 => ((¬ r_22 = 0 → ((¬ n = 10 → (wp_X0_copy (n + 1) n near (fun n_27 => (vp_in a1 10 ∧ (wp_X2_join ((1 : Int32) <<< (n &&& 31)) (near a1.toNatClampNeg) (n + 1) n_27 (fun n_29 => ((¬ a2 = 1 → (wb_X0_twin_82 a1 n near Q n 0 hm hf lm fa oa (n + 1) n_29)) ∧ (a2 = 1 → (wb_X0_twin_82 a1 n near Q n 1 hm hf lm fa oa (n + 1) n_29))))))))) ∧ (n = 10 → (Q (-3) hm hf lm n near fa oa)))) ∧ (r_22 = 0 → (Q (-1) hm hf lm n near fa oa)))))))))
set_option maxHeartbeats 4000000 in
set_option maxRecDepth 100000 in
theorem met_X0_twin (l : Launch) (hl0 : l.stackTraces = false) (d : g_D) (ob : Nat) (a1 : Int32) (a2 : Int32) (hA : Nat) (tA : Nat) (lA : Nat) (gA : Nat) (fa : Option Nat) (oa : Option Nat) (hB : Nat) (hm : Int32) (hf : Nat → Int64) (lB : Nat) (lm : Int32) (n : Int32) (gB : Nat) (near : Nat → Int32) (Q : Int32 → Int32 → (Nat → Int64) → Int32 → Int32 → (Nat → Int32) → (Option Nat) → (Option Nat) → Prop) (hw : wp_X0_twin a1 a2 fa oa hm hf lm n near Q) : g_Met l d yX0_twin cX0_twin 5 (Option.some FieldType.int) ({ frames := 11, cells := 2, slots := 12, locals := 10367 } : Room) [.ref ob, .int a1, .int a2] [[(ob, .inr (0, [.ref hA, .ref tA, .ref lA, .ref gA, va_rf fa, va_rf oa]))], [(hA, .inr (1, [.ref hB, .int hm]))], [(hB, .inl (d.2.1 4, 4, .inr (.inl hf)))], [(lA, .inr (1, [.ref lB, .int lm]))], [(gA, .inr (2, [.int n, .ref gB]))], [(gB, .inl (d.2.1 0, 10, .inl near))]] 2 12 (fun v w1 => ∃ (r : Int32) (gA2 : Nat) (gB2 : Nat) (hm2 : Int32) (hf2 : Nat → Int64) (lm2 : Int32) (n2 : Int32) (near2 : Nat → Int32) (fa2 : Option Nat) (oa2 : Option Nat), v = some (.int r) ∧ w1 = [[(ob, .inr (0, [.ref hA, .ref tA, .ref lA, .ref gA2, va_rf fa2, va_rf oa2]))], [(hA, .inr (1, [.ref hB, .int hm2]))], [(hB, .inl (d.2.1 4, 4, .inr (.inl hf2)))], [(lA, .inr (1, [.ref lB, .int lm2]))], [(gA2, .inr (2, [.int n2, .ref gB2]))], [(gB2, .inl (d.2.1 0, 10, .inl near2))]] ∧ Q r hm2 hf2 lm2 n2 near2 fa2 oa2) := by
  refine g_enter (by decide) (Nat.le_of_ble_eq_true rfl) ?_
  intro p e s m args below meth c A ls hF hH hl hin
  have hF : g_F p m c cX0_twin 5 s args RX0 meth (Option.some FieldType.int) := hF
  have hl : lv_has ls 5 [(0, .ref ob), (1, .int a1), (2, .int a2)] := hl
  have bk_82 : ∀ (q_6 : Nat) (q_7 : Nat) (x3 : Int32) (y3 : Int32) (hm_ : Int32) (hf_ : Nat → Int64) (lm_ : Int32) (fa_ : Option Nat) (oa_ : Option Nat) (v_vertices : Int32) (v_q_7 : Nat → Int32) (H : Heap) (locs : List Loc) (ls : Array Slot), g_HS d A s [[(hA, .inr (1, [.ref hB, .int hm_]))], [(hB, .inl (d.2.1 4, 4, .inr (.inl hf_)))], [(lA, .inr (1, [.ref lB, .int lm_]))], [(ob, .inr (0, [.ref hA, .ref tA, .ref lA, .ref gA, va_rf fa_, va_rf oa_]))], [(gA, .inr (2, [.int n, .ref gB]))], [(gB, .inl (d.2.1 0, 10, .inl near))], [(q_6, .inr (2, [.int v_vertices, .ref q_7]))], [(q_7, .inl (d.2.1 0, 10, .inl v_q_7))]] H locs → lv_has ls 5 [(0, .ref ob), (3, .int x3), (4, .ref q_6)] → wb_X0_twin_82 a1 n near Q x3 y3 hm_ hf_ lm_ fa_ oa_ v_vertices v_q_7 → W p l e ({ frames := 11, cells := 2, slots := 12, locals := 10367 } : Room) s m args below meth c H locs 2 12 (g_E d (fun v w1 => ∃ (r : Int32) (gA2 : Nat) (gB2 : Nat) (hm2 : Int32) (hf2 : Nat → Int64) (lm2 : Int32) (n2 : Int32) (near2 : Nat → Int32) (fa2 : Option Nat) (oa2 : Option Nat), v = some (.int r) ∧ w1 = [[(ob, .inr (0, [.ref hA, .ref tA, .ref lA, .ref gA2, va_rf fa2, va_rf oa2]))], [(hA, .inr (1, [.ref hB, .int hm2]))], [(hB, .inl (d.2.1 4, 4, .inr (.inl hf2)))], [(lA, .inr (1, [.ref lB, .int lm2]))], [(gA2, .inr (2, [.int n2, .ref gB2]))], [(gB2, .inl (d.2.1 0, 10, .inl near2))]] ∧ Q r hm2 hf2 lm2 n2 near2 fa2 oa2) A below args s 2 12) (F0 m 82 ls [.int y3, .int n, .int a1, .ref q_6]) := by
    intro q_6 q_7 x3 y3 hm_ hf_ lm_ fa_ oa_ v_vertices v_q_7 H locs ls hH hl hw
    unfold wb_X0_twin_82 at hw
    refine g_cV [.int a1, .int n, .int y3] 3 rfl hF (met_X2_set l hl0 d q_6 a1 n y3 v_vertices q_7 v_q_7 _ hw) q364 q365 q366 q94 q367 rfl rfl (by decide +kernel) ⟨Nat.le_of_ble_eq_true rfl, Nat.le_of_ble_eq_true rfl⟩ hH [6, 7] rfl rfl rfl 0 0 rfl rfl rfl hl.1 (Nat.le_of_ble_eq_true rfl) dX0_twin_82 ⟨(by first | exact Nat.le_of_ble_eq_true rfl | omega | (dsimp only; omega)), (by first | exact Nat.le_of_ble_eq_true rfl | omega | (dsimp only; omega))⟩ (fun v w1 H locs hq hH => ?_)
    obtain ⟨n_16, rfl, rfl, hw⟩ := hq
    have hH : g_HS d A s [[(hA, .inr (1, [.ref hB, .int hm_]))], [(hB, .inl (d.2.1 4, 4, .inr (.inl hf_)))], [(lA, .inr (1, [.ref lB, .int lm_]))], [(ob, .inr (0, [.ref hA, .ref tA, .ref lA, .ref gA, va_rf fa_, va_rf oa_]))], [(gA, .inr (2, [.int n, .ref gB]))], [(gB, .inl (d.2.1 0, 10, .inl near))], [(q_6, .inr (2, [.int v_vertices, .ref q_7]))], [(q_7, .inl (d.2.1 0, 10, .inl n_16))]] H locs := hH
    refine W.eq (g2 := (F0 m 85 ls [])) rfl ?_
    refine lv_aload_n hF.1.1 hF.1.2.1 dX0_twin_85 rfl (lv_at hl 0 rfl) ?_
    refine lv_aload hF.1.1 hF.1.2.1 dX0_twin_86 (lv_at hl 2 rfl) ?_
    refine g_cV [.ref q_6] 1 rfl hF (met_X0_change l hl0 d ob q_6 hA tA lA gA fa_ oa_ hB hm_ hf_ lB lm_ n gB near _ hw) q209 q211 qs0 q92 q212 rfl rfl (by decide +kernel) ⟨Nat.le_of_ble_eq_true rfl, Nat.le_of_ble_eq_true rfl⟩ hH [3, 0, 1, 2, 4, 5] rfl rfl rfl 0 0 rfl rfl rfl hl.1 (Nat.le_of_ble_eq_true rfl) dX0_twin_88 ⟨(by first | exact Nat.le_of_ble_eq_true rfl | omega | (dsimp only; omega)), (by first | exact Nat.le_of_ble_eq_true rfl | omega | (dsimp only; omega))⟩ (fun v w1 H locs hq hH => ?_)
    obtain ⟨n_17, n_18, n_19, rfl, rfl, hw⟩ := hq
    have hH : g_HS d A s [[(q_6, .inr (2, [.int v_vertices, .ref q_7]))], [(q_7, .inl (d.2.1 0, 10, .inl n_16))], [(ob, .inr (0, [.ref hA, .ref tA, .ref lA, .ref q_6, va_rf none, va_rf none]))], [(hA, .inr (1, [.ref hB, .int n_17]))], [(hB, .inl (d.2.1 4, 4, .inr (.inl n_18)))], [(lA, .inr (1, [.ref lB, .int n_19]))]] H locs := hH
    refine W.eq (g2 := (F0 m 91 ls [])) rfl ?_
    refine lv_iload_n hF.1.1 hF.1.2.1 dX0_twin_91 rfl (lv_at hl 1 rfl) ?_
    have hH := hH.sub (cs' := [[(ob, .inr (0, [.ref hA, .ref tA, .ref lA, .ref q_6, va_rf none, va_rf none]))], [(hA, .inr (1, [.ref hB, .int n_17]))], [(hB, .inl (d.2.1 4, 4, .inr (.inl n_18)))], [(lA, .inr (1, [.ref lB, .int n_19]))], [(q_6, .inr (2, [.int v_vertices, .ref q_7]))], [(q_7, .inl (d.2.1 0, 10, .inl n_16))]]) [2, 3, 4, 5, 0, 1] rfl rfl
    exact g_iret hF hH ⟨x3, q_6, q_7, n_17, n_18, n_19, v_vertices, n_16, none, none, rfl, rfl, hw⟩ dX0_twin_92
  unfold wp_X0_twin at hw
  refine lv_aload_n hF.1.1 hF.1.2.1 dX0_twin_0 rfl (lv_at hl 0 rfl) ?_
  refine lv_iload_n hF.1.1 hF.1.2.1 dX0_twin_1 rfl (lv_at hl 1 rfl) ?_
  refine g_cV [.int a1] 1 rfl hF (met_X0_isVertex l hl0 d ob a1 hA tA lA gA fa oa n gB _ hw) q352 q354 qs6 q92 q355 rfl rfl (by decide +kernel) ⟨Nat.le_of_ble_eq_true rfl, Nat.le_of_ble_eq_true rfl⟩ hH [0, 4] rfl rfl rfl 0 0 rfl rfl rfl hl.1 (Nat.le_of_ble_eq_true rfl) dX0_twin_2 ⟨(by first | exact Nat.le_of_ble_eq_true rfl | omega | (dsimp only; omega)), (by first | exact Nat.le_of_ble_eq_true rfl | omega | (dsimp only; omega))⟩ (fun v w1 H locs hq hH => ?_)
  obtain ⟨r_20, rfl, rfl, hw⟩ := hq
  have hH : g_HS d A s [[(hA, .inr (1, [.ref hB, .int hm]))], [(hB, .inl (d.2.1 4, 4, .inr (.inl hf)))], [(lA, .inr (1, [.ref lB, .int lm]))], [(gB, .inl (d.2.1 0, 10, .inl near))], [(ob, .inr (0, [.ref hA, .ref tA, .ref lA, .ref gA, va_rf fa, va_rf oa]))], [(gA, .inr (2, [.int n, .ref gB]))]] H locs := hH
  refine W.eq (g2 := (F0 m 5 ls [.int r_20])) rfl ?_
  refine lv_if_eq (tgt := 17) hF.1.1 hF.1.2.1 dX0_twin_5 (by decide) (fun c_21 => ?_) (fun c_21 => ?_)
  · have hw := hw.1 c_21
    refine lv_iconst (v := (-1)) hF.1.1 hF.1.2.1 dX0_twin_17 (by decide) ?_
    refine W.widen (k := 2) (n := 12) (by first | exact Nat.le_of_ble_eq_true rfl | omega | (dsimp only; omega)) (by first | exact Nat.le_of_ble_eq_true rfl | omega | (dsimp only; omega)) ?_
    have hH := hH.sub (cs' := [[(ob, .inr (0, [.ref hA, .ref tA, .ref lA, .ref gA, va_rf fa, va_rf oa]))], [(hA, .inr (1, [.ref hB, .int hm]))], [(hB, .inl (d.2.1 4, 4, .inr (.inl hf)))], [(lA, .inr (1, [.ref lB, .int lm]))], [(gA, .inr (2, [.int n, .ref gB]))], [(gB, .inl (d.2.1 0, 10, .inl near))]]) [4, 0, 1, 2, 5, 3] rfl rfl
    exact g_iret hF hH ⟨(-1), gA, gB, hm, hf, lm, n, near, fa, oa, rfl, rfl, hw⟩ dX0_twin_18
  · have hw := hw.2 c_21
    refine lv_iload_n hF.1.1 hF.1.2.1 dX0_twin_8 rfl (lv_at hl 2 rfl) ?_
    refine lv_iconst (v := 0) hF.1.1 hF.1.2.1 dX0_twin_9 (by decide) ?_
    refine lv_iconst (v := 1) hF.1.1 hF.1.2.1 dX0_twin_10 (by decide) ?_
    refine g_cS [.int a2, .int 0, .int 1] 3 rfl hF (met_X0_inRange l hl0 d a2 0 1 _ hw) q206 q207 q92 q208 rfl rfl (by decide +kernel) ⟨Nat.le_of_ble_eq_true rfl, Nat.le_of_ble_eq_true rfl⟩ hH [] rfl rfl rfl hl.1 (Nat.le_of_ble_eq_true rfl) dX0_twin_11 ⟨(by first | exact Nat.le_of_ble_eq_true rfl | omega | (dsimp only; omega)), (by first | exact Nat.le_of_ble_eq_true rfl | omega | (dsimp only; omega))⟩ (fun v w1 H locs hq hH => ?_)
    obtain ⟨r_22, rfl, rfl, hw⟩ := hq
    have hH : g_HS d A s [[(hA, .inr (1, [.ref hB, .int hm]))], [(hB, .inl (d.2.1 4, 4, .inr (.inl hf)))], [(lA, .inr (1, [.ref lB, .int lm]))], [(gB, .inl (d.2.1 0, 10, .inl near))], [(ob, .inr (0, [.ref hA, .ref tA, .ref lA, .ref gA, va_rf fa, va_rf oa]))], [(gA, .inr (2, [.int n, .ref gB]))]] H locs := hH
    refine W.eq (g2 := (F0 m 14 ls [.int r_22])) rfl ?_
    refine lv_if_ne (tgt := 19) hF.1.1 hF.1.2.1 dX0_twin_14 (by decide) (fun c_23 => ?_) (fun c_23 => ?_)
    · have hw := hw.1 c_23
      refine lv_aload_n hF.1.1 hF.1.2.1 dX0_twin_19 rfl (lv_at hl 0 rfl) ?_
      refine g_get (v := .ref gA) hF hH in_X0 rfl 4 0 rfl rfl 3 (by decide) q186 (fun _ h9 => h9) rfl dX0_twin_20 ?_
      refine g_getN (v := .int n) hF hH in_X2 rfl 5 0 rfl rfl 0 (by decide) q169 (fun _ h9 => h9) rfl dX0_twin_23 ?_
      refine lv_bipush (v := 10) hF.1.1 hF.1.2.1 dX0_twin_26 (by decide) ?_
      refine lv_icmp_ne (tgt := 34) hF.1.1 hF.1.2.1 dX0_twin_28 (by decide) (fun c_24 => ?_) (fun c_24 => ?_)
      · have hw := hw.1 c_24
        refine lv_aload_n hF.1.1 hF.1.2.1 dX0_twin_34 rfl (lv_at hl 0 rfl) ?_
        refine g_get (v := .ref gA) hF hH in_X0 rfl 4 0 rfl rfl 3 (by decide) q186 (fun _ h9 => h9) rfl dX0_twin_35 ?_
        refine g_getN (v := .int n) hF hH in_X2 rfl 5 0 rfl rfl 0 (by decide) q169 (fun _ h9 => h9) rfl dX0_twin_38 ?_
        refine lv_istore_n (lv' := [(3, .int n), (0, .ref ob), (1, .int a1), (2, .int a2)]) hF.1.1 hF.1.2.1 dX0_twin_41 rfl hl (by decide) rfl (fun ls hl => ?_)
        refine lv_aload_n hF.1.1 hF.1.2.1 dX0_twin_42 rfl (lv_at hl 1 rfl) ?_
        refine lv_iload_n hF.1.1 hF.1.2.1 dX0_twin_43 rfl (lv_at hl 0 rfl) ?_
        refine lv_iconst (v := 1) hF.1.1 hF.1.2.1 dX0_twin_44 (by decide) ?_
        refine lv_iadd hF.1.1 hF.1.2.1 dX0_twin_45 ?_
        refine g_cV [.int (n + 1)] 1 rfl hF (met_X0_copy l hl0 d ob (n + 1) hA tA lA gA fa oa n gB near _ hw) q357 q359 qs7 q92 q360 rfl rfl (by decide +kernel) ⟨Nat.le_of_ble_eq_true rfl, Nat.le_of_ble_eq_true rfl⟩ hH [4, 5, 3] rfl rfl rfl 0 0 rfl rfl rfl hl.1 (Nat.le_of_ble_eq_true rfl) dX0_twin_46 ⟨(by first | exact Nat.le_of_ble_eq_true rfl | omega | (dsimp only; omega)), (by first | exact Nat.le_of_ble_eq_true rfl | omega | (dsimp only; omega))⟩ (fun v w1 H locs hq hH => ?_)
        obtain ⟨q_25, q_26, n_27, rfl, rfl, hw⟩ := hq
        have hH : g_HS d A s [[(hA, .inr (1, [.ref hB, .int hm]))], [(hB, .inl (d.2.1 4, 4, .inr (.inl hf)))], [(lA, .inr (1, [.ref lB, .int lm]))], [(ob, .inr (0, [.ref hA, .ref tA, .ref lA, .ref gA, va_rf fa, va_rf oa]))], [(gA, .inr (2, [.int n, .ref gB]))], [(gB, .inl (d.2.1 0, 10, .inl near))], [(q_25, .inr (2, [.int (n + 1), .ref q_26]))], [(q_26, .inl (d.2.1 0, 10, .inl n_27))]] H locs := hH
        refine W.eq (g2 := (F0 m 49 ls [.ref q_25])) rfl ?_
        refine W.widen (k := 2) (n := 12) (by first | exact Nat.le_of_ble_eq_true rfl | omega | (dsimp only; omega)) (by first | exact Nat.le_of_ble_eq_true rfl | omega | (dsimp only; omega)) ?_
        refine lv_astore (lv' := [(4, .ref q_25), (3, .int n), (0, .ref ob), (1, .int a1), (2, .int a2)]) hF.1.1 hF.1.2.1 dX0_twin_49 hl (by decide) rfl (fun ls hl => ?_)
        refine lv_aload hF.1.1 hF.1.2.1 dX0_twin_51 (lv_at hl 0 rfl) ?_
        refine lv_iconst (v := 1) hF.1.1 hF.1.2.1 dX0_twin_53 (by decide) ?_
        refine lv_iload_n hF.1.1 hF.1.2.1 dX0_twin_54 rfl (lv_at hl 1 rfl) ?_
        refine lv_ishl hF.1.1 hF.1.2.1 dX0_twin_55 ?_
        refine lv_aload_n hF.1.1 hF.1.2.1 dX0_twin_56 rfl (lv_at hl 2 rfl) ?_
        refine g_get (v := .ref gA) hF hH in_X0 rfl 3 0 rfl rfl 3 (by decide) q186 (fun _ h9 => h9) rfl dX0_twin_57 ?_
        refine g_getN (v := .ref gB) hF hH in_X2 rfl 4 0 rfl rfl 1 (by decide) q173 (fun _ h9 => h9) rfl dX0_twin_60 ?_
        refine lv_iload_n hF.1.1 hF.1.2.1 dX0_twin_63 rfl (lv_at hl 3 rfl) ?_
        obtain ⟨hi_28, hw⟩ := hw
        refine g_iald hF hH 5 0 rfl rfl hi_28 dX0_twin_64 ?_
        refine g_cV [.int ((1 : Int32) <<< (n &&& 31)), .int (near a1.toNatClampNeg)] 2 rfl hF (met_X2_join l hl0 d q_25 ((1 : Int32) <<< (n &&& 31)) (near a1.toNatClampNeg) (n + 1) q_26 n_27 _ hw) q386 q387 q388 q94 q389 rfl rfl (by decide +kernel) ⟨Nat.le_of_ble_eq_true rfl, Nat.le_of_ble_eq_true rfl⟩ hH [6, 7] rfl rfl rfl 0 0 rfl rfl rfl hl.1 (Nat.le_of_ble_eq_true rfl) dX0_twin_65 ⟨(by first | exact Nat.le_of_ble_eq_true rfl | omega | (dsimp only; omega)), (by first | exact Nat.le_of_ble_eq_true rfl | omega | (dsimp only; omega))⟩ (fun v w1 H locs hq hH => ?_)
        obtain ⟨n_29, rfl, rfl, hw⟩ := hq
        have hH : g_HS d A s [[(hA, .inr (1, [.ref hB, .int hm]))], [(hB, .inl (d.2.1 4, 4, .inr (.inl hf)))], [(lA, .inr (1, [.ref lB, .int lm]))], [(ob, .inr (0, [.ref hA, .ref tA, .ref lA, .ref gA, va_rf fa, va_rf oa]))], [(gA, .inr (2, [.int n, .ref gB]))], [(gB, .inl (d.2.1 0, 10, .inl near))], [(q_25, .inr (2, [.int (n + 1), .ref q_26]))], [(q_26, .inl (d.2.1 0, 10, .inl n_29))]] H locs := hH
        refine W.eq (g2 := (F0 m 68 ls [])) rfl ?_
        refine lv_aload hF.1.1 hF.1.2.1 dX0_twin_68 (lv_at hl 0 rfl) ?_
        refine lv_iload_n hF.1.1 hF.1.2.1 dX0_twin_70 rfl (lv_at hl 3 rfl) ?_
        refine lv_iload_n hF.1.1 hF.1.2.1 dX0_twin_71 rfl (lv_at hl 1 rfl) ?_
        refine lv_iload_n hF.1.1 hF.1.2.1 dX0_twin_72 rfl (lv_at hl 4 rfl) ?_
        refine lv_iconst (v := 1) hF.1.1 hF.1.2.1 dX0_twin_73 (by decide) ?_
        refine lv_icmp_ne (tgt := 81) hF.1.1 hF.1.2.1 dX0_twin_74 (by decide) (fun c_30 => ?_) (fun c_30 => ?_)
        · have hw := hw.1 c_30
          refine lv_iconst (v := 0) hF.1.1 hF.1.2.1 dX0_twin_81 (by decide) ?_
          have hl := lv_sub hl (l' := [(0, .ref ob), (3, .int n), (4, .ref q_25)]) [2, 1, 0] rfl
          exact bk_82 q_25 q_26 n 0 hm hf lm fa oa (n + 1) n_29 _ _ _ hH hl hw
        · have hw := hw.2 c_30
          refine lv_iconst (v := 1) hF.1.1 hF.1.2.1 dX0_twin_77 (by decide) ?_
          refine lv_goto (tgt := 82) hF.1.1 hF.1.2.1 dX0_twin_78 (by decide) ?_
          have hl := lv_sub hl (l' := [(0, .ref ob), (3, .int n), (4, .ref q_25)]) [2, 1, 0] rfl
          exact bk_82 q_25 q_26 n 1 hm hf lm fa oa (n + 1) n_29 _ _ _ hH hl hw
      · have hw := hw.2 c_24
        refine lv_bipush (v := (-3)) hF.1.1 hF.1.2.1 dX0_twin_31 (by decide) ?_
        refine W.widen (k := 2) (n := 12) (by first | exact Nat.le_of_ble_eq_true rfl | omega | (dsimp only; omega)) (by first | exact Nat.le_of_ble_eq_true rfl | omega | (dsimp only; omega)) ?_
        have hH := hH.sub (cs' := [[(ob, .inr (0, [.ref hA, .ref tA, .ref lA, .ref gA, va_rf fa, va_rf oa]))], [(hA, .inr (1, [.ref hB, .int hm]))], [(hB, .inl (d.2.1 4, 4, .inr (.inl hf)))], [(lA, .inr (1, [.ref lB, .int lm]))], [(gA, .inr (2, [.int n, .ref gB]))], [(gB, .inl (d.2.1 0, 10, .inl near))]]) [4, 0, 1, 2, 5, 3] rfl rfl
        exact g_iret hF hH ⟨(-3), gA, gB, hm, hf, lm, n, near, fa, oa, rfl, rfl, hw⟩ dX0_twin_33
    · have hw := hw.2 c_23
      refine lv_iconst (v := (-1)) hF.1.1 hF.1.2.1 dX0_twin_17 (by decide) ?_
      refine W.widen (k := 2) (n := 12) (by first | exact Nat.le_of_ble_eq_true rfl | omega | (dsimp only; omega)) (by first | exact Nat.le_of_ble_eq_true rfl | omega | (dsimp only; omega)) ?_
      have hH := hH.sub (cs' := [[(ob, .inr (0, [.ref hA, .ref tA, .ref lA, .ref gA, va_rf fa, va_rf oa]))], [(hA, .inr (1, [.ref hB, .int hm]))], [(hB, .inl (d.2.1 4, 4, .inr (.inl hf)))], [(lA, .inr (1, [.ref lB, .int lm]))], [(gA, .inr (2, [.int n, .ref gB]))], [(gB, .inl (d.2.1 0, 10, .inl near))]]) [4, 0, 1, 2, 5, 3] rfl rfl
      exact g_iret hF hH ⟨(-1), gA, gB, hm, hf, lm, n, near, fa, oa, rfl, rfl, hw⟩ dX0_twin_18

def wb_X0_remove_95 (a1 : Int32) (near : Nat → Int32) (n : Int32) (x3 : Int32) (hm_ : Int32) (hf_ : Nat → Int64) (lm_ : Int32) (fa_ : Option Nat) (oa_ : Option Nat) (v_vertices : Int32) (K43 : Int32 → (Nat → Int32) → Prop) (K54 : Int32 → (Nat → Int32) → Prop) (Q : Int32 → Int32 → (Nat → Int64) → Int32 → Int32 → (Nat → Int32) → (Option Nat) → (Option Nat) → Prop) (x4 : Int32) (y1 : Int32) (y2 : Int32) (y4 : Int32) (y5 : Int32) (v_q_5 : Nat → Int32) : Prop := (wp_X2_linked y4 y5 n near (fun r_15 => (wp_X2_set y1 y2 r_15 v_vertices v_q_5 (fun n_16 => K54 (x4 + 1) n_16))))
def wb_X0_remove_80 (a1 : Int32) (near : Nat → Int32) (n : Int32) (x3 : Int32) (hm_ : Int32) (hf_ : Nat → Int64) (lm_ : Int32) (fa_ : Option Nat) (oa_ : Option Nat) (v_vertices : Int32) (K43 : Int32 → (Nat → Int32) → Prop) (K54 : Int32 → (Nat → Int32) → Prop) (Q : Int32 → Int32 → (Nat → Int64) → Int32 → Int32 → (Nat → Int32) → (Option Nat) → (Option Nat) → Prop) (x4 : Int32) (y1 : Int32) (y2 : Int32) (y4 : Int32) (v_q_5 : Nat → Int32) : Prop := ((a1 ≤ x4 → (wb_X0_remove_95 a1 near n x3 hm_ hf_ lm_ fa_ oa_ v_vertices K43 K54 Q x4 y1 y2 y4 (x4 + 1) v_q_5)) ∧ (¬ a1 ≤ x4 → (wb_X0_remove_95 a1 near n x3 hm_ hf_ lm_ fa_ oa_ v_vertices K43 K54 Q x4 y1 y2 y4 x4 v_q_5)))
def wb_X0_remove_54 (a1 : Int32) (near : Nat → Int32) (n : Int32) (x3 : Int32) (hm_ : Int32) (hf_ : Nat → Int64) (lm_ : Int32) (fa_ : Option Nat) (oa_ : Option Nat) (v_vertices : Int32) (K43 : Int32 → (Nat → Int32) → Prop) (Q : Int32 → Int32 → (Nat → Int64) → Int32 → Int32 → (Nat → Int32) → (Option Nat) → (Option Nat) → Prop) : Nat → Int32 → (Nat → Int32) → Prop
  | 0, _, _ => False
  | fu + 1, x4, v_q_5 => ((x3 ≤ x4 → K43 (x3 + 1) v_q_5) ∧ (¬ x3 ≤ x4 → ((a1 ≤ x3 → (wb_X0_remove_80 a1 near n x3 hm_ hf_ lm_ fa_ oa_ v_vertices K43 (wb_X0_remove_54 a1 near n x3 hm_ hf_ lm_ fa_ oa_ v_vertices K43 Q fu) Q x4 x3 x4 (x3 + 1) v_q_5)) ∧ (¬ a1 ≤ x3 → (wb_X0_remove_80 a1 near n x3 hm_ hf_ lm_ fa_ oa_ v_vertices K43 (wb_X0_remove_54 a1 near n x3 hm_ hf_ lm_ fa_ oa_ v_vertices K43 Q fu) Q x4 x3 x4 x3 v_q_5)))))
def wb_X0_remove_43 (a1 : Int32) (near : Nat → Int32) (n : Int32) (hm_ : Int32) (hf_ : Nat → Int64) (lm_ : Int32) (fa_ : Option Nat) (oa_ : Option Nat) (v_vertices : Int32) (Q : Int32 → Int32 → (Nat → Int64) → Int32 → Int32 → (Nat → Int32) → (Option Nat) → (Option Nat) → Prop) : Nat → Int32 → (Nat → Int32) → Prop
  | 0, _, _ => False
  | fu + 1, x3, v_q_5 => ((v_vertices ≤ x3 → (wp_X0_change fa_ oa_ hm_ hf_ lm_ n near (fun n_21 n_22 n_23 => (Q v_vertices n_21 n_22 n_23 v_vertices v_q_5 none none)))) ∧ (¬ v_vertices ≤ x3 → (∃ f54, wb_X0_remove_54 a1 near n x3 hm_ hf_ lm_ fa_ oa_ v_vertices (wb_X0_remove_43 a1 near n hm_ hf_ lm_ fa_ oa_ v_vertices Q fu) Q f54 0 v_q_5)))
def wp_X0_remove (a1 : Int32) (fa : Option Nat) (oa : Option Nat) (hm : Int32) (hf : Nat → Int64) (lm : Int32) (n : Int32) (near : Nat → Int32) (Q : Int32 → Int32 → (Nat → Int64) → Int32 → Int32 → (Nat → Int32) → (Option Nat) → (Option Nat) → Prop) : Prop := (wp_X0_isVertex a1 n (fun r_25 => ((¬ r_25 = 0 → ((¬ n = 1 → (wp_X2_init (n - 1) (∃ f43, wb_X0_remove_43 a1 near n hm hf lm fa oa (n - 1) Q f43 0 (fun _ => 0)))) ∧ (n = 1 → (Q (-2) hm hf lm n near fa oa)))) ∧ (r_25 = 0 → (Q (-1) hm hf lm n near fa oa)))))
set_option maxHeartbeats 4000000 in
set_option maxRecDepth 100000 in
theorem met_X0_remove (l : Launch) (hl0 : l.stackTraces = false) (d : g_D) (ob : Nat) (a1 : Int32) (hA : Nat) (tA : Nat) (lA : Nat) (gA : Nat) (fa : Option Nat) (oa : Option Nat) (hB : Nat) (hm : Int32) (hf : Nat → Int64) (lB : Nat) (lm : Int32) (n : Int32) (gB : Nat) (near : Nat → Int32) (Q : Int32 → Int32 → (Nat → Int64) → Int32 → Int32 → (Nat → Int32) → (Option Nat) → (Option Nat) → Prop) (hw : wp_X0_remove a1 fa oa hm hf lm n near Q) : g_Met l d yX0_remove cX0_remove 5 (Option.some FieldType.int) ({ frames := 11, cells := 2, slots := 12, locals := 10367 } : Room) [.ref ob, .int a1] [[(ob, .inr (0, [.ref hA, .ref tA, .ref lA, .ref gA, va_rf fa, va_rf oa]))], [(hA, .inr (1, [.ref hB, .int hm]))], [(hB, .inl (d.2.1 4, 4, .inr (.inl hf)))], [(lA, .inr (1, [.ref lB, .int lm]))], [(gA, .inr (2, [.int n, .ref gB]))], [(gB, .inl (d.2.1 0, 10, .inl near))]] 2 12 (fun v w1 => ∃ (r : Int32) (gA2 : Nat) (gB2 : Nat) (hm2 : Int32) (hf2 : Nat → Int64) (lm2 : Int32) (n2 : Int32) (near2 : Nat → Int32) (fa2 : Option Nat) (oa2 : Option Nat), v = some (.int r) ∧ w1 = [[(ob, .inr (0, [.ref hA, .ref tA, .ref lA, .ref gA2, va_rf fa2, va_rf oa2]))], [(hA, .inr (1, [.ref hB, .int hm2]))], [(hB, .inl (d.2.1 4, 4, .inr (.inl hf2)))], [(lA, .inr (1, [.ref lB, .int lm2]))], [(gA2, .inr (2, [.int n2, .ref gB2]))], [(gB2, .inl (d.2.1 0, 10, .inl near2))]] ∧ Q r hm2 hf2 lm2 n2 near2 fa2 oa2) := by
  refine g_enter (by decide) (Nat.le_of_ble_eq_true rfl) ?_
  intro p e s m args below meth c A ls hF hH hl hin
  have hF : g_F p m c cX0_remove 5 s args RX0 meth (Option.some FieldType.int) := hF
  have hl : lv_has ls 5 [(0, .ref ob), (1, .int a1)] := hl
  have bk_95 : ∀ (x3 : Int32) (hm_ : Int32) (hf_ : Nat → Int64) (lm_ : Int32) (fa_ : Option Nat) (oa_ : Option Nat) (v_vertices : Int32) (K43 : Int32 → (Nat → Int32) → Prop) (hK43 : ∀ (q_4 : Nat) (q_5 : Nat) (x3 : Int32) (v_q_5 : Nat → Int32) (H : Heap) (locs : List Loc) (ls : Array Slot), g_HS d A s [[(hA, .inr (1, [.ref hB, .int hm_]))], [(hB, .inl (d.2.1 4, 4, .inr (.inl hf_)))], [(lA, .inr (1, [.ref lB, .int lm_]))], [(gB, .inl (d.2.1 0, 10, .inl near))], [(ob, .inr (0, [.ref hA, .ref tA, .ref lA, .ref gA, va_rf fa_, va_rf oa_]))], [(gA, .inr (2, [.int n, .ref gB]))], [(q_4, .inr (2, [.int v_vertices, .ref q_5]))], [(q_5, .inl (d.2.1 0, 10, .inl v_q_5))]] H locs → lv_has ls 5 [(0, .ref ob), (1, .int a1), (2, .ref q_4), (3, .int x3)] → K43 x3 v_q_5 → W p l e ({ frames := 11, cells := 2, slots := 12, locals := 10367 } : Room) s m args below meth c H locs 2 12 (g_E d (fun v w1 => ∃ (r : Int32) (gA2 : Nat) (gB2 : Nat) (hm2 : Int32) (hf2 : Nat → Int64) (lm2 : Int32) (n2 : Int32) (near2 : Nat → Int32) (fa2 : Option Nat) (oa2 : Option Nat), v = some (.int r) ∧ w1 = [[(ob, .inr (0, [.ref hA, .ref tA, .ref lA, .ref gA2, va_rf fa2, va_rf oa2]))], [(hA, .inr (1, [.ref hB, .int hm2]))], [(hB, .inl (d.2.1 4, 4, .inr (.inl hf2)))], [(lA, .inr (1, [.ref lB, .int lm2]))], [(gA2, .inr (2, [.int n2, .ref gB2]))], [(gB2, .inl (d.2.1 0, 10, .inl near2))]] ∧ Q r hm2 hf2 lm2 n2 near2 fa2 oa2) A below args s 2 12) (F0 m 43 ls [])) (K54 : Int32 → (Nat → Int32) → Prop) (hK54 : ∀ (q_4 : Nat) (q_5 : Nat) (x4 : Int32) (v_q_5 : Nat → Int32) (H : Heap) (locs : List Loc) (ls : Array Slot), g_HS d A s [[(hA, .inr (1, [.ref hB, .int hm_]))], [(hB, .inl (d.2.1 4, 4, .inr (.inl hf_)))], [(lA, .inr (1, [.ref lB, .int lm_]))], [(gB, .inl (d.2.1 0, 10, .inl near))], [(ob, .inr (0, [.ref hA, .ref tA, .ref lA, .ref gA, va_rf fa_, va_rf oa_]))], [(gA, .inr (2, [.int n, .ref gB]))], [(q_4, .inr (2, [.int v_vertices, .ref q_5]))], [(q_5, .inl (d.2.1 0, 10, .inl v_q_5))]] H locs → lv_has ls 5 [(0, .ref ob), (1, .int a1), (2, .ref q_4), (3, .int x3), (4, .int x4)] → K54 x4 v_q_5 → W p l e ({ frames := 11, cells := 2, slots := 12, locals := 10367 } : Room) s m args below meth c H locs 2 12 (g_E d (fun v w1 => ∃ (r : Int32) (gA2 : Nat) (gB2 : Nat) (hm2 : Int32) (hf2 : Nat → Int64) (lm2 : Int32) (n2 : Int32) (near2 : Nat → Int32) (fa2 : Option Nat) (oa2 : Option Nat), v = some (.int r) ∧ w1 = [[(ob, .inr (0, [.ref hA, .ref tA, .ref lA, .ref gA2, va_rf fa2, va_rf oa2]))], [(hA, .inr (1, [.ref hB, .int hm2]))], [(hB, .inl (d.2.1 4, 4, .inr (.inl hf2)))], [(lA, .inr (1, [.ref lB, .int lm2]))], [(gA2, .inr (2, [.int n2, .ref gB2]))], [(gB2, .inl (d.2.1 0, 10, .inl near2))]] ∧ Q r hm2 hf2 lm2 n2 near2 fa2 oa2) A below args s 2 12) (F0 m 54 ls [])) (q_4 : Nat) (q_5 : Nat) (x4 : Int32) (y1 : Int32) (y2 : Int32) (y4 : Int32) (y5 : Int32) (v_q_5 : Nat → Int32) (H : Heap) (locs : List Loc) (ls : Array Slot), g_HS d A s [[(hA, .inr (1, [.ref hB, .int hm_]))], [(hB, .inl (d.2.1 4, 4, .inr (.inl hf_)))], [(lA, .inr (1, [.ref lB, .int lm_]))], [(gB, .inl (d.2.1 0, 10, .inl near))], [(ob, .inr (0, [.ref hA, .ref tA, .ref lA, .ref gA, va_rf fa_, va_rf oa_]))], [(gA, .inr (2, [.int n, .ref gB]))], [(q_4, .inr (2, [.int v_vertices, .ref q_5]))], [(q_5, .inl (d.2.1 0, 10, .inl v_q_5))]] H locs → lv_has ls 5 [(0, .ref ob), (1, .int a1), (2, .ref q_4), (3, .int x3), (4, .int x4)] → wb_X0_remove_95 a1 near n x3 hm_ hf_ lm_ fa_ oa_ v_vertices K43 K54 Q x4 y1 y2 y4 y5 v_q_5 → W p l e ({ frames := 11, cells := 2, slots := 12, locals := 10367 } : Room) s m args below meth c H locs 2 12 (g_E d (fun v w1 => ∃ (r : Int32) (gA2 : Nat) (gB2 : Nat) (hm2 : Int32) (hf2 : Nat → Int64) (lm2 : Int32) (n2 : Int32) (near2 : Nat → Int32) (fa2 : Option Nat) (oa2 : Option Nat), v = some (.int r) ∧ w1 = [[(ob, .inr (0, [.ref hA, .ref tA, .ref lA, .ref gA2, va_rf fa2, va_rf oa2]))], [(hA, .inr (1, [.ref hB, .int hm2]))], [(hB, .inl (d.2.1 4, 4, .inr (.inl hf2)))], [(lA, .inr (1, [.ref lB, .int lm2]))], [(gA2, .inr (2, [.int n2, .ref gB2]))], [(gB2, .inl (d.2.1 0, 10, .inl near2))]] ∧ Q r hm2 hf2 lm2 n2 near2 fa2 oa2) A below args s 2 12) (F0 m 95 ls [.int y5, .int y4, .ref gA, .int y2, .int y1, .ref q_4]) := by
    intro x3 hm_ hf_ lm_ fa_ oa_ v_vertices K43 hK43 K54 hK54 q_4 q_5 x4 y1 y2 y4 y5 v_q_5 H locs ls hH hl hw
    unfold wb_X0_remove_95 at hw
    refine g_cV [.int y4, .int y5] 2 rfl hF (met_X2_linked l hl0 d gA y4 y5 n gB near _ hw) q356 q237 q238 q94 q239 rfl rfl (by decide +kernel) ⟨Nat.le_of_ble_eq_true rfl, Nat.le_of_ble_eq_true rfl⟩ hH [5, 3] rfl rfl rfl 0 0 rfl rfl rfl hl.1 (Nat.le_of_ble_eq_true rfl) dX0_remove_95 ⟨(by first | exact Nat.le_of_ble_eq_true rfl | omega | (dsimp only; omega)), (by first | exact Nat.le_of_ble_eq_true rfl | omega | (dsimp only; omega))⟩ (fun v w1 H locs hq hH => ?_)
    obtain ⟨r_15, rfl, rfl, hw⟩ := hq
    have hH : g_HS d A s [[(hA, .inr (1, [.ref hB, .int hm_]))], [(hB, .inl (d.2.1 4, 4, .inr (.inl hf_)))], [(lA, .inr (1, [.ref lB, .int lm_]))], [(ob, .inr (0, [.ref hA, .ref tA, .ref lA, .ref gA, va_rf fa_, va_rf oa_]))], [(q_4, .inr (2, [.int v_vertices, .ref q_5]))], [(q_5, .inl (d.2.1 0, 10, .inl v_q_5))], [(gA, .inr (2, [.int n, .ref gB]))], [(gB, .inl (d.2.1 0, 10, .inl near))]] H locs := hH
    refine W.eq (g2 := (F0 m 98 ls [.int r_15, .int y2, .int y1, .ref q_4])) rfl ?_
    refine g_cV [.int y1, .int y2, .int r_15] 3 rfl hF (met_X2_set l hl0 d q_4 y1 y2 r_15 v_vertices q_5 v_q_5 _ hw) q364 q365 q366 q94 q367 rfl rfl (by decide +kernel) ⟨Nat.le_of_ble_eq_true rfl, Nat.le_of_ble_eq_true rfl⟩ hH [4, 5] rfl rfl rfl 0 0 rfl rfl rfl hl.1 (Nat.le_of_ble_eq_true rfl) dX0_remove_98 ⟨(by first | exact Nat.le_of_ble_eq_true rfl | omega | (dsimp only; omega)), (by first | exact Nat.le_of_ble_eq_true rfl | omega | (dsimp only; omega))⟩ (fun v w1 H locs hq hH => ?_)
    obtain ⟨n_16, rfl, rfl, hw⟩ := hq
    have hH : g_HS d A s [[(hA, .inr (1, [.ref hB, .int hm_]))], [(hB, .inl (d.2.1 4, 4, .inr (.inl hf_)))], [(lA, .inr (1, [.ref lB, .int lm_]))], [(ob, .inr (0, [.ref hA, .ref tA, .ref lA, .ref gA, va_rf fa_, va_rf oa_]))], [(gA, .inr (2, [.int n, .ref gB]))], [(gB, .inl (d.2.1 0, 10, .inl near))], [(q_4, .inr (2, [.int v_vertices, .ref q_5]))], [(q_5, .inl (d.2.1 0, 10, .inl n_16))]] H locs := hH
    refine W.eq (g2 := (F0 m 101 ls [])) rfl ?_
    refine lv_iinc (v := (x4 + 1)) (lv' := [(4, .int (x4 + 1)), (0, .ref ob), (1, .int a1), (2, .ref q_4), (3, .int x3)]) hF.1.1 hF.1.2.1 dX0_remove_101 hl (k := 4) rfl rfl (by decide) rfl (fun ls hl => ?_)
    refine lv_goto (tgt := 54) hF.1.1 hF.1.2.1 dX0_remove_104 (by decide) ?_
    have hH := hH.sub (cs' := [[(hA, .inr (1, [.ref hB, .int hm_]))], [(hB, .inl (d.2.1 4, 4, .inr (.inl hf_)))], [(lA, .inr (1, [.ref lB, .int lm_]))], [(gB, .inl (d.2.1 0, 10, .inl near))], [(ob, .inr (0, [.ref hA, .ref tA, .ref lA, .ref gA, va_rf fa_, va_rf oa_]))], [(gA, .inr (2, [.int n, .ref gB]))], [(q_4, .inr (2, [.int v_vertices, .ref q_5]))], [(q_5, .inl (d.2.1 0, 10, .inl n_16))]]) [0, 1, 2, 5, 3, 4, 6, 7] rfl rfl
    have hl := lv_sub hl (l' := [(0, .ref ob), (1, .int a1), (2, .ref q_4), (3, .int x3), (4, .int (x4 + 1))]) [1, 2, 3, 4, 0] rfl
    exact hK54 q_4 q_5 (x4 + 1) n_16 _ _ _ hH hl hw
  have bk_80 : ∀ (x3 : Int32) (hm_ : Int32) (hf_ : Nat → Int64) (lm_ : Int32) (fa_ : Option Nat) (oa_ : Option Nat) (v_vertices : Int32) (K43 : Int32 → (Nat → Int32) → Prop) (hK43 : ∀ (q_4 : Nat) (q_5 : Nat) (x3 : Int32) (v_q_5 : Nat → Int32) (H : Heap) (locs : List Loc) (ls : Array Slot), g_HS d A s [[(hA, .inr (1, [.ref hB, .int hm_]))], [(hB, .inl (d.2.1 4, 4, .inr (.inl hf_)))], [(lA, .inr (1, [.ref lB, .int lm_]))], [(gB, .inl (d.2.1 0, 10, .inl near))], [(ob, .inr (0, [.ref hA, .ref tA, .ref lA, .ref gA, va_rf fa_, va_rf oa_]))], [(gA, .inr (2, [.int n, .ref gB]))], [(q_4, .inr (2, [.int v_vertices, .ref q_5]))], [(q_5, .inl (d.2.1 0, 10, .inl v_q_5))]] H locs → lv_has ls 5 [(0, .ref ob), (1, .int a1), (2, .ref q_4), (3, .int x3)] → K43 x3 v_q_5 → W p l e ({ frames := 11, cells := 2, slots := 12, locals := 10367 } : Room) s m args below meth c H locs 2 12 (g_E d (fun v w1 => ∃ (r : Int32) (gA2 : Nat) (gB2 : Nat) (hm2 : Int32) (hf2 : Nat → Int64) (lm2 : Int32) (n2 : Int32) (near2 : Nat → Int32) (fa2 : Option Nat) (oa2 : Option Nat), v = some (.int r) ∧ w1 = [[(ob, .inr (0, [.ref hA, .ref tA, .ref lA, .ref gA2, va_rf fa2, va_rf oa2]))], [(hA, .inr (1, [.ref hB, .int hm2]))], [(hB, .inl (d.2.1 4, 4, .inr (.inl hf2)))], [(lA, .inr (1, [.ref lB, .int lm2]))], [(gA2, .inr (2, [.int n2, .ref gB2]))], [(gB2, .inl (d.2.1 0, 10, .inl near2))]] ∧ Q r hm2 hf2 lm2 n2 near2 fa2 oa2) A below args s 2 12) (F0 m 43 ls [])) (K54 : Int32 → (Nat → Int32) → Prop) (hK54 : ∀ (q_4 : Nat) (q_5 : Nat) (x4 : Int32) (v_q_5 : Nat → Int32) (H : Heap) (locs : List Loc) (ls : Array Slot), g_HS d A s [[(hA, .inr (1, [.ref hB, .int hm_]))], [(hB, .inl (d.2.1 4, 4, .inr (.inl hf_)))], [(lA, .inr (1, [.ref lB, .int lm_]))], [(gB, .inl (d.2.1 0, 10, .inl near))], [(ob, .inr (0, [.ref hA, .ref tA, .ref lA, .ref gA, va_rf fa_, va_rf oa_]))], [(gA, .inr (2, [.int n, .ref gB]))], [(q_4, .inr (2, [.int v_vertices, .ref q_5]))], [(q_5, .inl (d.2.1 0, 10, .inl v_q_5))]] H locs → lv_has ls 5 [(0, .ref ob), (1, .int a1), (2, .ref q_4), (3, .int x3), (4, .int x4)] → K54 x4 v_q_5 → W p l e ({ frames := 11, cells := 2, slots := 12, locals := 10367 } : Room) s m args below meth c H locs 2 12 (g_E d (fun v w1 => ∃ (r : Int32) (gA2 : Nat) (gB2 : Nat) (hm2 : Int32) (hf2 : Nat → Int64) (lm2 : Int32) (n2 : Int32) (near2 : Nat → Int32) (fa2 : Option Nat) (oa2 : Option Nat), v = some (.int r) ∧ w1 = [[(ob, .inr (0, [.ref hA, .ref tA, .ref lA, .ref gA2, va_rf fa2, va_rf oa2]))], [(hA, .inr (1, [.ref hB, .int hm2]))], [(hB, .inl (d.2.1 4, 4, .inr (.inl hf2)))], [(lA, .inr (1, [.ref lB, .int lm2]))], [(gA2, .inr (2, [.int n2, .ref gB2]))], [(gB2, .inl (d.2.1 0, 10, .inl near2))]] ∧ Q r hm2 hf2 lm2 n2 near2 fa2 oa2) A below args s 2 12) (F0 m 54 ls [])) (q_4 : Nat) (q_5 : Nat) (x4 : Int32) (y1 : Int32) (y2 : Int32) (y4 : Int32) (v_q_5 : Nat → Int32) (H : Heap) (locs : List Loc) (ls : Array Slot), g_HS d A s [[(hA, .inr (1, [.ref hB, .int hm_]))], [(hB, .inl (d.2.1 4, 4, .inr (.inl hf_)))], [(lA, .inr (1, [.ref lB, .int lm_]))], [(gB, .inl (d.2.1 0, 10, .inl near))], [(ob, .inr (0, [.ref hA, .ref tA, .ref lA, .ref gA, va_rf fa_, va_rf oa_]))], [(gA, .inr (2, [.int n, .ref gB]))], [(q_4, .inr (2, [.int v_vertices, .ref q_5]))], [(q_5, .inl (d.2.1 0, 10, .inl v_q_5))]] H locs → lv_has ls 5 [(0, .ref ob), (1, .int a1), (2, .ref q_4), (3, .int x3), (4, .int x4)] → wb_X0_remove_80 a1 near n x3 hm_ hf_ lm_ fa_ oa_ v_vertices K43 K54 Q x4 y1 y2 y4 v_q_5 → W p l e ({ frames := 11, cells := 2, slots := 12, locals := 10367 } : Room) s m args below meth c H locs 2 12 (g_E d (fun v w1 => ∃ (r : Int32) (gA2 : Nat) (gB2 : Nat) (hm2 : Int32) (hf2 : Nat → Int64) (lm2 : Int32) (n2 : Int32) (near2 : Nat → Int32) (fa2 : Option Nat) (oa2 : Option Nat), v = some (.int r) ∧ w1 = [[(ob, .inr (0, [.ref hA, .ref tA, .ref lA, .ref gA2, va_rf fa2, va_rf oa2]))], [(hA, .inr (1, [.ref hB, .int hm2]))], [(hB, .inl (d.2.1 4, 4, .inr (.inl hf2)))], [(lA, .inr (1, [.ref lB, .int lm2]))], [(gA2, .inr (2, [.int n2, .ref gB2]))], [(gB2, .inl (d.2.1 0, 10, .inl near2))]] ∧ Q r hm2 hf2 lm2 n2 near2 fa2 oa2) A below args s 2 12) (F0 m 80 ls [.int y4, .ref gA, .int y2, .int y1, .ref q_4]) := by
    intro x3 hm_ hf_ lm_ fa_ oa_ v_vertices K43 hK43 K54 hK54 q_4 q_5 x4 y1 y2 y4 v_q_5 H locs ls hH hl hw
    unfold wb_X0_remove_80 at hw
    refine lv_iload hF.1.1 hF.1.2.1 dX0_remove_80 (lv_at hl 4 rfl) ?_
    refine lv_iload_n hF.1.1 hF.1.2.1 dX0_remove_82 rfl (lv_at hl 1 rfl) ?_
    refine lv_icmp_ge (tgt := 91) hF.1.1 hF.1.2.1 dX0_remove_83 (by decide) (fun c_17 => ?_) (fun c_17 => ?_)
    · have hw := hw.1 c_17
      refine lv_iload hF.1.1 hF.1.2.1 dX0_remove_91 (lv_at hl 4 rfl) ?_
      refine lv_iconst (v := 1) hF.1.1 hF.1.2.1 dX0_remove_93 (by decide) ?_
      refine lv_iadd hF.1.1 hF.1.2.1 dX0_remove_94 ?_
      exact bk_95 x3 hm_ hf_ lm_ fa_ oa_ v_vertices K43 hK43 K54 hK54 q_4 q_5 x4 y1 y2 y4 (x4 + 1) v_q_5 _ _ _ hH hl hw
    · have hw := hw.2 c_17
      refine lv_iload hF.1.1 hF.1.2.1 dX0_remove_86 (lv_at hl 4 rfl) ?_
      refine lv_goto (tgt := 95) hF.1.1 hF.1.2.1 dX0_remove_88 (by decide) ?_
      exact bk_95 x3 hm_ hf_ lm_ fa_ oa_ v_vertices K43 hK43 K54 hK54 q_4 q_5 x4 y1 y2 y4 x4 v_q_5 _ _ _ hH hl hw
  have bk_54 : ∀ (x3 : Int32) (hm_ : Int32) (hf_ : Nat → Int64) (lm_ : Int32) (fa_ : Option Nat) (oa_ : Option Nat) (v_vertices : Int32) (K43 : Int32 → (Nat → Int32) → Prop) (hK43 : ∀ (q_4 : Nat) (q_5 : Nat) (x3 : Int32) (v_q_5 : Nat → Int32) (H : Heap) (locs : List Loc) (ls : Array Slot), g_HS d A s [[(hA, .inr (1, [.ref hB, .int hm_]))], [(hB, .inl (d.2.1 4, 4, .inr (.inl hf_)))], [(lA, .inr (1, [.ref lB, .int lm_]))], [(gB, .inl (d.2.1 0, 10, .inl near))], [(ob, .inr (0, [.ref hA, .ref tA, .ref lA, .ref gA, va_rf fa_, va_rf oa_]))], [(gA, .inr (2, [.int n, .ref gB]))], [(q_4, .inr (2, [.int v_vertices, .ref q_5]))], [(q_5, .inl (d.2.1 0, 10, .inl v_q_5))]] H locs → lv_has ls 5 [(0, .ref ob), (1, .int a1), (2, .ref q_4), (3, .int x3)] → K43 x3 v_q_5 → W p l e ({ frames := 11, cells := 2, slots := 12, locals := 10367 } : Room) s m args below meth c H locs 2 12 (g_E d (fun v w1 => ∃ (r : Int32) (gA2 : Nat) (gB2 : Nat) (hm2 : Int32) (hf2 : Nat → Int64) (lm2 : Int32) (n2 : Int32) (near2 : Nat → Int32) (fa2 : Option Nat) (oa2 : Option Nat), v = some (.int r) ∧ w1 = [[(ob, .inr (0, [.ref hA, .ref tA, .ref lA, .ref gA2, va_rf fa2, va_rf oa2]))], [(hA, .inr (1, [.ref hB, .int hm2]))], [(hB, .inl (d.2.1 4, 4, .inr (.inl hf2)))], [(lA, .inr (1, [.ref lB, .int lm2]))], [(gA2, .inr (2, [.int n2, .ref gB2]))], [(gB2, .inl (d.2.1 0, 10, .inl near2))]] ∧ Q r hm2 hf2 lm2 n2 near2 fa2 oa2) A below args s 2 12) (F0 m 43 ls [])) (fu : Nat) (q_4 : Nat) (q_5 : Nat) (x4 : Int32) (v_q_5 : Nat → Int32) (H : Heap) (locs : List Loc) (ls : Array Slot), g_HS d A s [[(hA, .inr (1, [.ref hB, .int hm_]))], [(hB, .inl (d.2.1 4, 4, .inr (.inl hf_)))], [(lA, .inr (1, [.ref lB, .int lm_]))], [(gB, .inl (d.2.1 0, 10, .inl near))], [(ob, .inr (0, [.ref hA, .ref tA, .ref lA, .ref gA, va_rf fa_, va_rf oa_]))], [(gA, .inr (2, [.int n, .ref gB]))], [(q_4, .inr (2, [.int v_vertices, .ref q_5]))], [(q_5, .inl (d.2.1 0, 10, .inl v_q_5))]] H locs → lv_has ls 5 [(0, .ref ob), (1, .int a1), (2, .ref q_4), (3, .int x3), (4, .int x4)] → wb_X0_remove_54 a1 near n x3 hm_ hf_ lm_ fa_ oa_ v_vertices K43 Q fu x4 v_q_5 → W p l e ({ frames := 11, cells := 2, slots := 12, locals := 10367 } : Room) s m args below meth c H locs 2 12 (g_E d (fun v w1 => ∃ (r : Int32) (gA2 : Nat) (gB2 : Nat) (hm2 : Int32) (hf2 : Nat → Int64) (lm2 : Int32) (n2 : Int32) (near2 : Nat → Int32) (fa2 : Option Nat) (oa2 : Option Nat), v = some (.int r) ∧ w1 = [[(ob, .inr (0, [.ref hA, .ref tA, .ref lA, .ref gA2, va_rf fa2, va_rf oa2]))], [(hA, .inr (1, [.ref hB, .int hm2]))], [(hB, .inl (d.2.1 4, 4, .inr (.inl hf2)))], [(lA, .inr (1, [.ref lB, .int lm2]))], [(gA2, .inr (2, [.int n2, .ref gB2]))], [(gB2, .inl (d.2.1 0, 10, .inl near2))]] ∧ Q r hm2 hf2 lm2 n2 near2 fa2 oa2) A below args s 2 12) (F0 m 54 ls []) := by
    intro x3 hm_ hf_ lm_ fa_ oa_ v_vertices K43 hK43 fu
    induction fu with
    | zero => intro q_4 q_5 x4 v_q_5 H locs ls hH hl hw; rw [wb_X0_remove_54] at hw; exact hw.elim
    | succ fu ih =>
      intro q_4 q_5 x4 v_q_5 H locs ls hH hl hw
      rw [wb_X0_remove_54] at hw
      refine lv_iload hF.1.1 hF.1.2.1 dX0_remove_54 (lv_at hl 4 rfl) ?_
      refine lv_iload_n hF.1.1 hF.1.2.1 dX0_remove_56 rfl (lv_at hl 3 rfl) ?_
      refine lv_icmp_ge (tgt := 107) hF.1.1 hF.1.2.1 dX0_remove_57 (by decide) (fun c_18 => ?_) (fun c_18 => ?_)
      · have hw := hw.1 c_18
        refine lv_iinc (v := (x3 + 1)) (lv' := [(3, .int (x3 + 1)), (0, .ref ob), (1, .int a1), (2, .ref q_4), (4, .int x4)]) hF.1.1 hF.1.2.1 dX0_remove_107 hl (k := 3) rfl rfl (by decide) rfl (fun ls hl => ?_)
        refine lv_goto (tgt := 43) hF.1.1 hF.1.2.1 dX0_remove_110 (by decide) ?_
        have hl := lv_sub hl (l' := [(0, .ref ob), (1, .int a1), (2, .ref q_4), (3, .int (x3 + 1))]) [1, 2, 3, 0] rfl
        exact hK43 q_4 q_5 (x3 + 1) v_q_5 _ _ _ hH hl hw
      · have hw := hw.2 c_18
        refine lv_aload_n hF.1.1 hF.1.2.1 dX0_remove_60 rfl (lv_at hl 2 rfl) ?_
        refine lv_iload_n hF.1.1 hF.1.2.1 dX0_remove_61 rfl (lv_at hl 3 rfl) ?_
        refine lv_iload hF.1.1 hF.1.2.1 dX0_remove_62 (lv_at hl 4 rfl) ?_
        refine lv_aload_n hF.1.1 hF.1.2.1 dX0_remove_64 rfl (lv_at hl 0 rfl) ?_
        refine g_get (v := .ref gA) hF hH in_X0 rfl 4 0 rfl rfl 3 (by decide) q186 (fun _ h9 => h9) rfl dX0_remove_65 ?_
        refine lv_iload_n hF.1.1 hF.1.2.1 dX0_remove_68 rfl (lv_at hl 3 rfl) ?_
        refine lv_iload_n hF.1.1 hF.1.2.1 dX0_remove_69 rfl (lv_at hl 1 rfl) ?_
        refine lv_icmp_ge (tgt := 77) hF.1.1 hF.1.2.1 dX0_remove_70 (by decide) (fun c_19 => ?_) (fun c_19 => ?_)
        · have hw := hw.1 c_19
          refine lv_iload_n hF.1.1 hF.1.2.1 dX0_remove_77 rfl (lv_at hl 3 rfl) ?_
          refine lv_iconst (v := 1) hF.1.1 hF.1.2.1 dX0_remove_78 (by decide) ?_
          refine lv_iadd hF.1.1 hF.1.2.1 dX0_remove_79 ?_
          exact bk_80 x3 hm_ hf_ lm_ fa_ oa_ v_vertices K43 hK43 (wb_X0_remove_54 a1 near n x3 hm_ hf_ lm_ fa_ oa_ v_vertices K43 Q fu) ih q_4 q_5 x4 x3 x4 (x3 + 1) v_q_5 _ _ _ hH hl hw
        · have hw := hw.2 c_19
          refine lv_iload_n hF.1.1 hF.1.2.1 dX0_remove_73 rfl (lv_at hl 3 rfl) ?_
          refine lv_goto (tgt := 80) hF.1.1 hF.1.2.1 dX0_remove_74 (by decide) ?_
          exact bk_80 x3 hm_ hf_ lm_ fa_ oa_ v_vertices K43 hK43 (wb_X0_remove_54 a1 near n x3 hm_ hf_ lm_ fa_ oa_ v_vertices K43 Q fu) ih q_4 q_5 x4 x3 x4 x3 v_q_5 _ _ _ hH hl hw
  have bk_43 : ∀ (hm_ : Int32) (hf_ : Nat → Int64) (lm_ : Int32) (fa_ : Option Nat) (oa_ : Option Nat) (v_vertices : Int32) (fu : Nat) (q_4 : Nat) (q_5 : Nat) (x3 : Int32) (v_q_5 : Nat → Int32) (H : Heap) (locs : List Loc) (ls : Array Slot), g_HS d A s [[(hA, .inr (1, [.ref hB, .int hm_]))], [(hB, .inl (d.2.1 4, 4, .inr (.inl hf_)))], [(lA, .inr (1, [.ref lB, .int lm_]))], [(gB, .inl (d.2.1 0, 10, .inl near))], [(ob, .inr (0, [.ref hA, .ref tA, .ref lA, .ref gA, va_rf fa_, va_rf oa_]))], [(gA, .inr (2, [.int n, .ref gB]))], [(q_4, .inr (2, [.int v_vertices, .ref q_5]))], [(q_5, .inl (d.2.1 0, 10, .inl v_q_5))]] H locs → lv_has ls 5 [(0, .ref ob), (1, .int a1), (2, .ref q_4), (3, .int x3)] → wb_X0_remove_43 a1 near n hm_ hf_ lm_ fa_ oa_ v_vertices Q fu x3 v_q_5 → W p l e ({ frames := 11, cells := 2, slots := 12, locals := 10367 } : Room) s m args below meth c H locs 2 12 (g_E d (fun v w1 => ∃ (r : Int32) (gA2 : Nat) (gB2 : Nat) (hm2 : Int32) (hf2 : Nat → Int64) (lm2 : Int32) (n2 : Int32) (near2 : Nat → Int32) (fa2 : Option Nat) (oa2 : Option Nat), v = some (.int r) ∧ w1 = [[(ob, .inr (0, [.ref hA, .ref tA, .ref lA, .ref gA2, va_rf fa2, va_rf oa2]))], [(hA, .inr (1, [.ref hB, .int hm2]))], [(hB, .inl (d.2.1 4, 4, .inr (.inl hf2)))], [(lA, .inr (1, [.ref lB, .int lm2]))], [(gA2, .inr (2, [.int n2, .ref gB2]))], [(gB2, .inl (d.2.1 0, 10, .inl near2))]] ∧ Q r hm2 hf2 lm2 n2 near2 fa2 oa2) A below args s 2 12) (F0 m 43 ls []) := by
    intro hm_ hf_ lm_ fa_ oa_ v_vertices fu
    induction fu with
    | zero => intro q_4 q_5 x3 v_q_5 H locs ls hH hl hw; rw [wb_X0_remove_43] at hw; exact hw.elim
    | succ fu ih =>
      intro q_4 q_5 x3 v_q_5 H locs ls hH hl hw
      rw [wb_X0_remove_43] at hw
      refine lv_iload_n hF.1.1 hF.1.2.1 dX0_remove_43 rfl (lv_at hl 3 rfl) ?_
      refine lv_aload_n hF.1.1 hF.1.2.1 dX0_remove_44 rfl (lv_at hl 2 rfl) ?_
      refine g_getN (v := .int v_vertices) hF hH in_X2 rfl 6 0 rfl rfl 0 (by decide) q169 (fun _ h9 => h9) rfl dX0_remove_45 ?_
      refine lv_icmp_ge (tgt := 113) hF.1.1 hF.1.2.1 dX0_remove_48 (by decide) (fun c_20 => ?_) (fun c_20 => ?_)
      · have hw := hw.1 c_20
        refine lv_aload_n hF.1.1 hF.1.2.1 dX0_remove_113 rfl (lv_at hl 0 rfl) ?_
        refine lv_aload_n hF.1.1 hF.1.2.1 dX0_remove_114 rfl (lv_at hl 2 rfl) ?_
        refine g_cV [.ref q_4] 1 rfl hF (met_X0_change l hl0 d ob q_4 hA tA lA gA fa_ oa_ hB hm_ hf_ lB lm_ n gB near _ hw) q209 q211 qs0 q92 q212 rfl rfl (by decide +kernel) ⟨Nat.le_of_ble_eq_true rfl, Nat.le_of_ble_eq_true rfl⟩ hH [4, 0, 1, 2, 5, 3] rfl rfl rfl 0 0 rfl rfl rfl hl.1 (Nat.le_of_ble_eq_true rfl) dX0_remove_115 ⟨(by first | exact Nat.le_of_ble_eq_true rfl | omega | (dsimp only; omega)), (by first | exact Nat.le_of_ble_eq_true rfl | omega | (dsimp only; omega))⟩ (fun v w1 H locs hq hH => ?_)
        obtain ⟨n_21, n_22, n_23, rfl, rfl, hw⟩ := hq
        have hH : g_HS d A s [[(q_4, .inr (2, [.int v_vertices, .ref q_5]))], [(q_5, .inl (d.2.1 0, 10, .inl v_q_5))], [(ob, .inr (0, [.ref hA, .ref tA, .ref lA, .ref q_4, va_rf none, va_rf none]))], [(hA, .inr (1, [.ref hB, .int n_21]))], [(hB, .inl (d.2.1 4, 4, .inr (.inl n_22)))], [(lA, .inr (1, [.ref lB, .int n_23]))]] H locs := hH
        refine W.eq (g2 := (F0 m 118 ls [])) rfl ?_
        refine lv_aload_n hF.1.1 hF.1.2.1 dX0_remove_118 rfl (lv_at hl 0 rfl) ?_
        refine g_get (v := .ref q_4) hF hH in_X0 rfl 2 0 rfl rfl 3 (by decide) q186 (fun _ h9 => h9) rfl dX0_remove_119 ?_
        refine g_getN (v := .int v_vertices) hF hH in_X2 rfl 0 0 rfl rfl 0 (by decide) q169 (fun _ h9 => h9) rfl dX0_remove_122 ?_
        have hH := hH.sub (cs' := [[(ob, .inr (0, [.ref hA, .ref tA, .ref lA, .ref q_4, va_rf none, va_rf none]))], [(hA, .inr (1, [.ref hB, .int n_21]))], [(hB, .inl (d.2.1 4, 4, .inr (.inl n_22)))], [(lA, .inr (1, [.ref lB, .int n_23]))], [(q_4, .inr (2, [.int v_vertices, .ref q_5]))], [(q_5, .inl (d.2.1 0, 10, .inl v_q_5))]]) [2, 3, 4, 5, 0, 1] rfl rfl
        exact g_iret hF hH ⟨v_vertices, q_4, q_5, n_21, n_22, n_23, v_vertices, v_q_5, none, none, rfl, rfl, hw⟩ dX0_remove_125
      · have hw := hw.2 c_20
        refine lv_iconst (v := 0) hF.1.1 hF.1.2.1 dX0_remove_51 (by decide) ?_
        refine lv_istore (lv' := [(4, .int 0), (0, .ref ob), (1, .int a1), (2, .ref q_4), (3, .int x3)]) hF.1.1 hF.1.2.1 dX0_remove_52 hl (by decide) rfl (fun ls hl => ?_)
        obtain ⟨f_24, hw⟩ := hw
        have hl := lv_sub hl (l' := [(0, .ref ob), (1, .int a1), (2, .ref q_4), (3, .int x3), (4, .int 0)]) [1, 2, 3, 4, 0] rfl
        exact bk_54 x3 hm_ hf_ lm_ fa_ oa_ v_vertices (wb_X0_remove_43 a1 near n hm_ hf_ lm_ fa_ oa_ v_vertices Q fu) ih f_24 q_4 q_5 0 v_q_5 _ _ _ hH hl hw
  unfold wp_X0_remove at hw
  refine lv_aload_n hF.1.1 hF.1.2.1 dX0_remove_0 rfl (lv_at hl 0 rfl) ?_
  refine lv_iload_n hF.1.1 hF.1.2.1 dX0_remove_1 rfl (lv_at hl 1 rfl) ?_
  refine g_cV [.int a1] 1 rfl hF (met_X0_isVertex l hl0 d ob a1 hA tA lA gA fa oa n gB _ hw) q352 q354 qs6 q92 q355 rfl rfl (by decide +kernel) ⟨Nat.le_of_ble_eq_true rfl, Nat.le_of_ble_eq_true rfl⟩ hH [0, 4] rfl rfl rfl 0 0 rfl rfl rfl hl.1 (Nat.le_of_ble_eq_true rfl) dX0_remove_2 ⟨(by first | exact Nat.le_of_ble_eq_true rfl | omega | (dsimp only; omega)), (by first | exact Nat.le_of_ble_eq_true rfl | omega | (dsimp only; omega))⟩ (fun v w1 H locs hq hH => ?_)
  obtain ⟨r_25, rfl, rfl, hw⟩ := hq
  have hH : g_HS d A s [[(hA, .inr (1, [.ref hB, .int hm]))], [(hB, .inl (d.2.1 4, 4, .inr (.inl hf)))], [(lA, .inr (1, [.ref lB, .int lm]))], [(gB, .inl (d.2.1 0, 10, .inl near))], [(ob, .inr (0, [.ref hA, .ref tA, .ref lA, .ref gA, va_rf fa, va_rf oa]))], [(gA, .inr (2, [.int n, .ref gB]))]] H locs := hH
  refine W.eq (g2 := (F0 m 5 ls [.int r_25])) rfl ?_
  refine lv_if_ne (tgt := 10) hF.1.1 hF.1.2.1 dX0_remove_5 (by decide) (fun c_26 => ?_) (fun c_26 => ?_)
  · have hw := hw.1 c_26
    refine lv_aload_n hF.1.1 hF.1.2.1 dX0_remove_10 rfl (lv_at hl 0 rfl) ?_
    refine g_get (v := .ref gA) hF hH in_X0 rfl 4 0 rfl rfl 3 (by decide) q186 (fun _ h9 => h9) rfl dX0_remove_11 ?_
    refine g_getN (v := .int n) hF hH in_X2 rfl 5 0 rfl rfl 0 (by decide) q169 (fun _ h9 => h9) rfl dX0_remove_14 ?_
    refine lv_iconst (v := 1) hF.1.1 hF.1.2.1 dX0_remove_17 (by decide) ?_
    refine lv_icmp_ne (tgt := 24) hF.1.1 hF.1.2.1 dX0_remove_18 (by decide) (fun c_27 => ?_) (fun c_27 => ?_)
    · have hw := hw.1 c_27
      refine g_new (ci := 2) (fs := [.int 0, .null]) (C := RX2) (T := TX2) (N := 2) hF hH in_X2 rfl tyX2 tyX2_ok q160 q161 q94 (fun j hj => by rcases (show j = 0 ∨ j = 1 by omega) with rfl | rfl <;> rfl) (by first | exact Nat.le_of_ble_eq_true rfl | omega | (dsimp only; omega)) (by first | exact Nat.le_of_ble_eq_true rfl | omega | (dsimp only; omega)) dX0_remove_24 (fun q_28 H hH => ?_)
      have hH : g_HS d A s [[(hA, .inr (1, [.ref hB, .int hm]))], [(hB, .inl (d.2.1 4, 4, .inr (.inl hf)))], [(lA, .inr (1, [.ref lB, .int lm]))], [(gB, .inl (d.2.1 0, 10, .inl near))], [(ob, .inr (0, [.ref hA, .ref tA, .ref lA, .ref gA, va_rf fa, va_rf oa]))], [(gA, .inr (2, [.int n, .ref gB]))], [(q_28, .inr (2, [.int 0, .null]))]] H _ := hH
      refine W.widen (k := 1) (n := 2) (by first | exact Nat.le_of_ble_eq_true rfl | omega | (dsimp only; omega)) (by first | exact Nat.le_of_ble_eq_true rfl | omega | (dsimp only; omega)) ?_
      refine lv_dup hF.1.1 hF.1.2.1 dX0_remove_27 rfl ?_
      refine lv_aload_n hF.1.1 hF.1.2.1 dX0_remove_28 rfl (lv_at hl 0 rfl) ?_
      refine g_get (v := .ref gA) hF hH in_X0 rfl 4 0 rfl rfl 3 (by decide) q186 (fun _ h9 => h9) rfl dX0_remove_29 ?_
      refine g_getN (v := .int n) hF hH in_X2 rfl 5 0 rfl rfl 0 (by decide) q169 (fun _ h9 => h9) rfl dX0_remove_32 ?_
      refine lv_iconst (v := 1) hF.1.1 hF.1.2.1 dX0_remove_35 (by decide) ?_
      refine lv_isub hF.1.1 hF.1.2.1 dX0_remove_36 ?_
      refine g_cI [.int (n - 1)] 1 rfl hF (met_X2_init l hl0 d q_28 (n - 1) _ hw) q162 q163 q94 q164 rfl rfl rfl (by decide +kernel) ⟨Nat.le_of_ble_eq_true rfl, Nat.le_of_ble_eq_true rfl⟩ hH [6] rfl rfl rfl hl.1 (Nat.le_of_ble_eq_true rfl) dX0_remove_37 ⟨(by first | exact Nat.le_of_ble_eq_true rfl | omega | (dsimp only; omega)), (by first | exact Nat.le_of_ble_eq_true rfl | omega | (dsimp only; omega))⟩ (fun v w1 H locs hq hH => ?_)
      obtain ⟨q_29, rfl, rfl, hw⟩ := hq
      have hH : g_HS d A s [[(hA, .inr (1, [.ref hB, .int hm]))], [(hB, .inl (d.2.1 4, 4, .inr (.inl hf)))], [(lA, .inr (1, [.ref lB, .int lm]))], [(gB, .inl (d.2.1 0, 10, .inl near))], [(ob, .inr (0, [.ref hA, .ref tA, .ref lA, .ref gA, va_rf fa, va_rf oa]))], [(gA, .inr (2, [.int n, .ref gB]))], [(q_28, .inr (2, [.int (n - 1), .ref q_29]))], [(q_29, .inl (d.2.1 0, 10, .inl (fun _ => 0)))]] H locs := hH
      refine W.eq (g2 := (F0 m 40 ls [.ref q_28])) rfl ?_
      refine W.widen (k := 2) (n := 12) (by first | exact Nat.le_of_ble_eq_true rfl | omega | (dsimp only; omega)) (by first | exact Nat.le_of_ble_eq_true rfl | omega | (dsimp only; omega)) ?_
      refine lv_astore_n (lv' := [(2, .ref q_28), (0, .ref ob), (1, .int a1)]) hF.1.1 hF.1.2.1 dX0_remove_40 rfl hl (by decide) rfl (fun ls hl => ?_)
      refine lv_iconst (v := 0) hF.1.1 hF.1.2.1 dX0_remove_41 (by decide) ?_
      refine lv_istore_n (lv' := [(3, .int 0), (2, .ref q_28), (0, .ref ob), (1, .int a1)]) hF.1.1 hF.1.2.1 dX0_remove_42 rfl hl (by decide) rfl (fun ls hl => ?_)
      obtain ⟨f_30, hw⟩ := hw
      have hl := lv_sub hl (l' := [(0, .ref ob), (1, .int a1), (2, .ref q_28), (3, .int 0)]) [2, 3, 1, 0] rfl
      exact bk_43 hm hf lm fa oa (n - 1) f_30 q_28 q_29 0 (fun _ => 0) _ _ _ hH hl hw
    · have hw := hw.2 c_27
      refine lv_bipush (v := (-2)) hF.1.1 hF.1.2.1 dX0_remove_21 (by decide) ?_
      refine W.widen (k := 2) (n := 12) (by first | exact Nat.le_of_ble_eq_true rfl | omega | (dsimp only; omega)) (by first | exact Nat.le_of_ble_eq_true rfl | omega | (dsimp only; omega)) ?_
      have hH := hH.sub (cs' := [[(ob, .inr (0, [.ref hA, .ref tA, .ref lA, .ref gA, va_rf fa, va_rf oa]))], [(hA, .inr (1, [.ref hB, .int hm]))], [(hB, .inl (d.2.1 4, 4, .inr (.inl hf)))], [(lA, .inr (1, [.ref lB, .int lm]))], [(gA, .inr (2, [.int n, .ref gB]))], [(gB, .inl (d.2.1 0, 10, .inl near))]]) [4, 0, 1, 2, 5, 3] rfl rfl
      exact g_iret hF hH ⟨(-2), gA, gB, hm, hf, lm, n, near, fa, oa, rfl, rfl, hw⟩ dX0_remove_23
  · have hw := hw.2 c_26
    refine lv_iconst (v := (-1)) hF.1.1 hF.1.2.1 dX0_remove_8 (by decide) ?_
    refine W.widen (k := 2) (n := 12) (by first | exact Nat.le_of_ble_eq_true rfl | omega | (dsimp only; omega)) (by first | exact Nat.le_of_ble_eq_true rfl | omega | (dsimp only; omega)) ?_
    have hH := hH.sub (cs' := [[(ob, .inr (0, [.ref hA, .ref tA, .ref lA, .ref gA, va_rf fa, va_rf oa]))], [(hA, .inr (1, [.ref hB, .int hm]))], [(hB, .inl (d.2.1 4, 4, .inr (.inl hf)))], [(lA, .inr (1, [.ref lB, .int lm]))], [(gA, .inr (2, [.int n, .ref gB]))], [(gB, .inl (d.2.1 0, 10, .inl near))]]) [4, 0, 1, 2, 5, 3] rfl rfl
    exact g_iret hF hH ⟨(-1), gA, gB, hm, hf, lm, n, near, fa, oa, rfl, rfl, hw⟩ dX0_remove_9

def wp_X0_linked (a1 : Int32) (a2 : Int32) (n : Int32) (near : Nat → Int32) (Q : Int32 → Prop) : Prop := (wp_X0_areVertices a1 a2 n (fun r_5 => ((¬ r_5 = 0 → (wp_X2_linked a1 a2 n near (fun r_7 => ((r_7 = 0 → (Q 0)) ∧ (¬ r_7 = 0 → (Q 1)))))) ∧ (r_5 = 0 → (Q (-1))))))
set_option maxHeartbeats 4000000 in
set_option maxRecDepth 100000 in
theorem met_X0_linked (l : Launch) (hl0 : l.stackTraces = false) (d : g_D) (ob : Nat) (a1 : Int32) (a2 : Int32) (hA : Nat) (tA : Nat) (lA : Nat) (gA : Nat) (fa : Option Nat) (oa : Option Nat) (n : Int32) (gB : Nat) (near : Nat → Int32) (Q : Int32 → Prop) (hw : wp_X0_linked a1 a2 n near Q) : g_Met l d yX0_linked cX0_linked 3 (Option.some FieldType.int) ({ frames := 3, cells := 0, slots := 0, locals := 65 } : Room) [.ref ob, .int a1, .int a2] [[(ob, .inr (0, [.ref hA, .ref tA, .ref lA, .ref gA, va_rf fa, va_rf oa]))], [(gA, .inr (2, [.int n, .ref gB]))], [(gB, .inl (d.2.1 0, 10, .inl near))]] 0 0 (fun v w1 => ∃ (r : Int32), v = some (.int r) ∧ w1 = [[(ob, .inr (0, [.ref hA, .ref tA, .ref lA, .ref gA, va_rf fa, va_rf oa]))], [(gA, .inr (2, [.int n, .ref gB]))], [(gB, .inl (d.2.1 0, 10, .inl near))]] ∧ Q r) := by
  refine g_enter (by decide) (Nat.le_of_ble_eq_true rfl) ?_
  intro p e s m args below meth c A ls hF hH hl hin
  have hF : g_F p m c cX0_linked 3 s args RX0 meth (Option.some FieldType.int) := hF
  have hl : lv_has ls 3 [(0, .ref ob), (1, .int a1), (2, .int a2)] := hl
  unfold wp_X0_linked at hw
  refine lv_aload_n hF.1.1 hF.1.2.1 dX0_linked_0 rfl (lv_at hl 0 rfl) ?_
  refine lv_iload_n hF.1.1 hF.1.2.1 dX0_linked_1 rfl (lv_at hl 1 rfl) ?_
  refine lv_iload_n hF.1.1 hF.1.2.1 dX0_linked_2 rfl (lv_at hl 2 rfl) ?_
  refine g_cV [.int a1, .int a2] 2 rfl hF (met_X0_areVertices l hl0 d ob a1 a2 hA tA lA gA fa oa n gB _ hw) q348 q350 qs5 q92 q351 rfl rfl (by decide +kernel) ⟨Nat.le_of_ble_eq_true rfl, Nat.le_of_ble_eq_true rfl⟩ hH [0, 1] rfl rfl rfl 0 0 rfl rfl rfl hl.1 (Nat.le_of_ble_eq_true rfl) dX0_linked_3 ⟨(by first | exact Nat.le_of_ble_eq_true rfl | omega | (dsimp only; omega)), (by first | exact Nat.le_of_ble_eq_true rfl | omega | (dsimp only; omega))⟩ (fun v w1 H locs hq hH => ?_)
  obtain ⟨r_5, rfl, rfl, hw⟩ := hq
  have hH : g_HS d A s [[(gB, .inl (d.2.1 0, 10, .inl near))], [(ob, .inr (0, [.ref hA, .ref tA, .ref lA, .ref gA, va_rf fa, va_rf oa]))], [(gA, .inr (2, [.int n, .ref gB]))]] H locs := hH
  refine W.eq (g2 := (F0 m 6 ls [.int r_5])) rfl ?_
  refine lv_if_ne (tgt := 11) hF.1.1 hF.1.2.1 dX0_linked_6 (by decide) (fun c_6 => ?_) (fun c_6 => ?_)
  · have hw := hw.1 c_6
    refine lv_aload_n hF.1.1 hF.1.2.1 dX0_linked_11 rfl (lv_at hl 0 rfl) ?_
    refine g_get (v := .ref gA) hF hH in_X0 rfl 1 0 rfl rfl 3 (by decide) q186 (fun _ h9 => h9) rfl dX0_linked_12 ?_
    refine lv_iload_n hF.1.1 hF.1.2.1 dX0_linked_15 rfl (lv_at hl 1 rfl) ?_
    refine lv_iload_n hF.1.1 hF.1.2.1 dX0_linked_16 rfl (lv_at hl 2 rfl) ?_
    refine g_cV [.int a1, .int a2] 2 rfl hF (met_X2_linked l hl0 d gA a1 a2 n gB near _ hw) q356 q237 q238 q94 q239 rfl rfl (by decide +kernel) ⟨Nat.le_of_ble_eq_true rfl, Nat.le_of_ble_eq_true rfl⟩ hH [2, 0] rfl rfl rfl 0 0 rfl rfl rfl hl.1 (Nat.le_of_ble_eq_true rfl) dX0_linked_17 ⟨(by first | exact Nat.le_of_ble_eq_true rfl | omega | (dsimp only; omega)), (by first | exact Nat.le_of_ble_eq_true rfl | omega | (dsimp only; omega))⟩ (fun v w1 H locs hq hH => ?_)
    obtain ⟨r_7, rfl, rfl, hw⟩ := hq
    have hH : g_HS d A s [[(ob, .inr (0, [.ref hA, .ref tA, .ref lA, .ref gA, va_rf fa, va_rf oa]))], [(gA, .inr (2, [.int n, .ref gB]))], [(gB, .inl (d.2.1 0, 10, .inl near))]] H locs := hH
    refine W.eq (g2 := (F0 m 20 ls [.int r_7])) rfl ?_
    refine lv_if_eq (tgt := 27) hF.1.1 hF.1.2.1 dX0_linked_20 (by decide) (fun c_8 => ?_) (fun c_8 => ?_)
    · have hw := hw.1 c_8
      refine lv_iconst (v := 0) hF.1.1 hF.1.2.1 dX0_linked_27 (by decide) ?_
      exact g_iret hF hH ⟨0, rfl, rfl, hw⟩ dX0_linked_28
    · have hw := hw.2 c_8
      refine lv_iconst (v := 1) hF.1.1 hF.1.2.1 dX0_linked_23 (by decide) ?_
      refine lv_goto (tgt := 28) hF.1.1 hF.1.2.1 dX0_linked_24 (by decide) ?_
      exact g_iret hF hH ⟨1, rfl, rfl, hw⟩ dX0_linked_28
  · have hw := hw.2 c_6
    refine lv_iconst (v := (-1)) hF.1.1 hF.1.2.1 dX0_linked_9 (by decide) ?_
    have hH := hH.sub (cs' := [[(ob, .inr (0, [.ref hA, .ref tA, .ref lA, .ref gA, va_rf fa, va_rf oa]))], [(gA, .inr (2, [.int n, .ref gB]))], [(gB, .inl (d.2.1 0, 10, .inl near))]]) [1, 2, 0] rfl rfl
    exact g_iret hF hH ⟨(-1), rfl, rfl, hw⟩ dX0_linked_10

def wb_X0_classes_68 (n : Int32) (near : Nat → Int32) (x2 : Int32) (x3 : Int32) (v_many : Int32) (v_q_8 : Nat → Int32) (v_q_9 : Nat → Int32) (K10 : Int32 → Int32 → (Nat → Int32) → Prop) (Q : Int32 → Prop) : Nat → Int32 → (Nat → Int32) → Prop
  | 0, _, _ => False
  | fu + 1, x5, v_q_1 => ((v_many ≤ x5 → K10 (x2 + 1) (x3 + 1) v_q_1) ∧ (¬ v_many ≤ x5 → (vp_in x5 100 ∧ (vp_in (v_q_9 x5.toNatClampNeg) 100 ∧ (wb_X0_classes_68 n near x2 x3 v_many v_q_8 v_q_9 K10 Q fu) (x5 + 1) (upd v_q_1 (v_q_9 x5.toNatClampNeg).toNatClampNeg (vp_nar .boolean (1 : Int32)))))))
def wb_X0_classes_10 (n : Int32) (near : Nat → Int32) (Q : Int32 → Prop) : Nat → Int32 → Int32 → (Nat → Int32) → Prop
  | 0, _, _, _ => False
  | f10 + 1, x2, x3, v_q_1 => ((100 ≤ x3 → (Q x2)) ∧ (¬ 100 ≤ x3 → (wp_X2_linked (x3 / 10) (x3 - x3 / 10 * 10) n near (fun r_20 => ((r_20 = 0 → (wb_X0_classes_10 n near Q f10) x2 (x3 + 1) v_q_1) ∧ (¬ r_20 = 0 → (vp_in x3 100 ∧ ((¬ (v_q_1 x3.toNatClampNeg) = 0 → (wb_X0_classes_10 n near Q f10) x2 (x3 + 1) v_q_1) ∧ ((v_q_1 x3.toNatClampNeg) = 0 → (wp_X11_init (wp_X11_of (x3 / 10) (x3 - x3 / 10 * 10) 0 (fun _ => 0) (fun _ => 0) n near (fun n_27 n_28 n_29 => (∃ f68, wb_X0_classes_68 n near x2 x3 n_29 n_27 n_28 (wb_X0_classes_10 n near Q f10) Q f68 0 v_q_1)))))))))))))
def wp_X0_classes (n : Int32) (near : Nat → Int32) (Q : Int32 → Prop) : Prop := (wb_X0_classes_10 n near Q 101 0 0 (fun _ => 0))
set_option maxHeartbeats 4000000 in
set_option maxRecDepth 100000 in
theorem met_X0_classes (l : Launch) (hl0 : l.stackTraces = false) (d : g_D) (ob : Nat) (hA : Nat) (tA : Nat) (lA : Nat) (gA : Nat) (fa : Option Nat) (oa : Option Nat) (n : Int32) (gB : Nat) (near : Nat → Int32) (Q : Int32 → Prop) (hw : wp_X0_classes n near Q) : g_Met l d yX0_classes cX0_classes 6 (Option.some FieldType.int) ({ frames := 3, cells := 320, slots := 21000, locals := 70 } : Room) [.ref ob] [[(ob, .inr (0, [.ref hA, .ref tA, .ref lA, .ref gA, va_rf fa, va_rf oa]))], [(gA, .inr (2, [.int n, .ref gB]))], [(gB, .inl (d.2.1 0, 10, .inl near))]] 320 21000 (fun v w1 => ∃ (r : Int32), v = some (.int r) ∧ w1 = [[(ob, .inr (0, [.ref hA, .ref tA, .ref lA, .ref gA, va_rf fa, va_rf oa]))], [(gA, .inr (2, [.int n, .ref gB]))], [(gB, .inl (d.2.1 0, 10, .inl near))]] ∧ Q r) := by
  refine g_enter (by decide) (Nat.le_of_ble_eq_true rfl) ?_
  intro p e s m args below meth c A ls hF hH hl hin
  have hF : g_F p m c cX0_classes 6 s args RX0 meth (Option.some FieldType.int) := hF
  have hl : lv_has ls 6 [(0, .ref ob)] := hl
  have bk_68 : ∀ (f10 : Nat) (hf10 : f10 + 1 ≤ 101) (x2 : Int32) (x3 : Int32) (v_many : Int32) (v_q_8 : Nat → Int32) (v_q_9 : Nat → Int32) (K10 : Int32 → Int32 → (Nat → Int32) → Prop) (hK10 : ∀ (q_1 : Nat) (x2 : Int32) (x3 : Int32) (v_q_1 : Nat → Int32) (H : Heap) (locs : List Loc) (ls : Array Slot), g_HS d A s [[(ob, .inr (0, [.ref hA, .ref tA, .ref lA, .ref gA, va_rf fa, va_rf oa]))], [(gA, .inr (2, [.int n, .ref gB]))], [(gB, .inl (d.2.1 0, 10, .inl near))], [(q_1, .inl (d.2.1 1, 100, .inl v_q_1))]] H locs → lv_has ls 6 [(0, .ref ob), (1, .ref q_1), (2, .int x2), (3, .int x3)] → K10 x2 x3 v_q_1 → W p l e ({ frames := 3, cells := 320, slots := 21000, locals := 70 } : Room) s m args below meth c H locs (304 - f10 * 3) (20603 - f10 * 203) (g_E d (fun v w1 => ∃ (r : Int32), v = some (.int r) ∧ w1 = [[(ob, .inr (0, [.ref hA, .ref tA, .ref lA, .ref gA, va_rf fa, va_rf oa]))], [(gA, .inr (2, [.int n, .ref gB]))], [(gB, .inl (d.2.1 0, 10, .inl near))]] ∧ Q r) A below args s 320 21000) (F0 m 10 ls [])) (fu : Nat) (q_1 : Nat) (q_7 : Nat) (q_8 : Nat) (q_9 : Nat) (x5 : Int32) (v_q_1 : Nat → Int32) (H : Heap) (locs : List Loc) (ls : Array Slot), g_HS d A s [[(ob, .inr (0, [.ref hA, .ref tA, .ref lA, .ref gA, va_rf fa, va_rf oa]))], [(q_1, .inl (d.2.1 1, 100, .inl v_q_1))], [(q_7, .inr (7, [.ref q_8, .ref q_9, .int v_many]))], [(q_8, .inl (d.2.1 1, 100, .inl v_q_8))], [(q_9, .inl (d.2.1 0, 100, .inl v_q_9))], [(gA, .inr (2, [.int n, .ref gB]))], [(gB, .inl (d.2.1 0, 10, .inl near))]] H locs → lv_has ls 6 [(0, .ref ob), (1, .ref q_1), (2, .int x2), (3, .int x3), (4, .ref q_7), (5, .int x5)] → wb_X0_classes_68 n near x2 x3 v_many v_q_8 v_q_9 K10 Q fu x5 v_q_1 → W p l e ({ frames := 3, cells := 320, slots := 21000, locals := 70 } : Room) s m args below meth c H locs ((304 - (f10 + 1) * 3) + 3) ((20603 - (f10 + 1) * 203) + 203) (g_E d (fun v w1 => ∃ (r : Int32), v = some (.int r) ∧ w1 = [[(ob, .inr (0, [.ref hA, .ref tA, .ref lA, .ref gA, va_rf fa, va_rf oa]))], [(gA, .inr (2, [.int n, .ref gB]))], [(gB, .inl (d.2.1 0, 10, .inl near))]] ∧ Q r) A below args s 320 21000) (F0 m 68 ls []) := by
    intro f10 hf10 x2 x3 v_many v_q_8 v_q_9 K10 hK10 fu
    induction fu with
    | zero => intro q_1 q_7 q_8 q_9 x5 v_q_1 H locs ls hH hl hw; rw [wb_X0_classes_68] at hw; exact hw.elim
    | succ fu ih =>
      intro q_1 q_7 q_8 q_9 x5 v_q_1 H locs ls hH hl hw
      rw [wb_X0_classes_68] at hw
      refine lv_iload hF.1.1 hF.1.2.1 dX0_classes_68 (lv_at hl 5 rfl) ?_
      refine lv_aload hF.1.1 hF.1.2.1 dX0_classes_70 (lv_at hl 4 rfl) ?_
      refine g_getN (v := .int v_many) hF hH in_X11 rfl 2 0 rfl rfl 2 (by decide) q768 (fun _ h9 => h9) rfl dX0_classes_72 ?_
      refine lv_icmp_ge (tgt := 95) hF.1.1 hF.1.2.1 dX0_classes_75 (by decide) (fun c_16 => ?_) (fun c_16 => ?_)
      · have hw := hw.1 c_16
        refine lv_iinc (v := (x2 + 1)) (lv' := [(2, .int (x2 + 1)), (0, .ref ob), (1, .ref q_1), (3, .int x3), (4, .ref q_7), (5, .int x5)]) hF.1.1 hF.1.2.1 dX0_classes_95 hl (k := 2) rfl rfl (by decide) rfl (fun ls hl => ?_)
        refine lv_iinc (v := (x3 + 1)) (lv' := [(3, .int (x3 + 1)), (2, .int (x2 + 1)), (0, .ref ob), (1, .ref q_1), (4, .ref q_7), (5, .int x5)]) hF.1.1 hF.1.2.1 dX0_classes_98 hl (k := 3) rfl rfl (by decide) rfl (fun ls hl => ?_)
        refine lv_goto (tgt := 10) hF.1.1 hF.1.2.1 dX0_classes_101 (by decide) ?_
        have hH := hH.sub (cs' := [[(ob, .inr (0, [.ref hA, .ref tA, .ref lA, .ref gA, va_rf fa, va_rf oa]))], [(gA, .inr (2, [.int n, .ref gB]))], [(gB, .inl (d.2.1 0, 10, .inl near))], [(q_1, .inl (d.2.1 1, 100, .inl v_q_1))]]) [0, 5, 6, 1] rfl rfl
        have hl := lv_sub hl (l' := [(0, .ref ob), (1, .ref q_1), (2, .int (x2 + 1)), (3, .int (x3 + 1))]) [2, 3, 1, 0] rfl
        refine W.widen (k := (304 - f10 * 3)) (n := (20603 - f10 * 203)) (by first | exact Nat.le_of_ble_eq_true rfl | omega | (dsimp only; omega)) (by first | exact Nat.le_of_ble_eq_true rfl | omega | (dsimp only; omega)) ?_
        exact hK10 q_1 (x2 + 1) (x3 + 1) v_q_1 _ _ _ hH hl hw
      · have hw := hw.2 c_16
        refine lv_aload_n hF.1.1 hF.1.2.1 dX0_classes_78 rfl (lv_at hl 1 rfl) ?_
        refine lv_aload hF.1.1 hF.1.2.1 dX0_classes_79 (lv_at hl 4 rfl) ?_
        refine g_getN (v := .ref q_9) hF hH in_X11 rfl 2 0 rfl rfl 1 (by decide) q765 (fun _ h9 => h9) rfl dX0_classes_81 ?_
        refine lv_iload hF.1.1 hF.1.2.1 dX0_classes_84 (lv_at hl 5 rfl) ?_
        obtain ⟨hi_17, hw⟩ := hw
        refine g_iald hF hH 4 0 rfl rfl hi_17 dX0_classes_86 ?_
        refine lv_iconst (v := 1) hF.1.1 hF.1.2.1 dX0_classes_87 (by decide) ?_
        obtain ⟨hi_18, hw⟩ := hw
        refine g_zast (cs' := [[(ob, .inr (0, [.ref hA, .ref tA, .ref lA, .ref gA, va_rf fa, va_rf oa]))], [(q_1, .inl (d.2.1 1, 100, .inl (upd v_q_1 (v_q_9 x5.toNatClampNeg).toNatClampNeg (vp_nar .boolean (1 : Int32)))))], [(q_7, .inr (7, [.ref q_8, .ref q_9, .int v_many]))], [(q_8, .inl (d.2.1 1, 100, .inl v_q_8))], [(q_9, .inl (d.2.1 0, 100, .inl v_q_9))], [(gA, .inr (2, [.int n, .ref gB]))], [(gB, .inl (d.2.1 0, 10, .inl near))]]) (ch' := [(q_1, .inl (d.2.1 1, 100, .inl (upd v_q_1 (v_q_9 x5.toNatClampNeg).toNatClampNeg (vp_nar .boolean (1 : Int32)))))]) hF hH 1 0 rfl rfl hi_18 dX0_classes_88 rfl rfl (fun H locs hH => ?_)
        refine lv_iinc (v := (x5 + 1)) (lv' := [(5, .int (x5 + 1)), (0, .ref ob), (1, .ref q_1), (2, .int x2), (3, .int x3), (4, .ref q_7)]) hF.1.1 hF.1.2.1 dX0_classes_89 hl (k := 5) rfl rfl (by decide) rfl (fun ls hl => ?_)
        refine lv_goto (tgt := 68) hF.1.1 hF.1.2.1 dX0_classes_92 (by decide) ?_
        have hl := lv_sub hl (l' := [(0, .ref ob), (1, .ref q_1), (2, .int x2), (3, .int x3), (4, .ref q_7), (5, .int (x5 + 1))]) [1, 2, 3, 4, 5, 0] rfl
        exact ih q_1 q_7 q_8 q_9 (x5 + 1) (upd v_q_1 (v_q_9 x5.toNatClampNeg).toNatClampNeg (vp_nar .boolean (1 : Int32))) _ _ _ hH hl hw
  have bk_10 : ∀ (f10 : Nat) (hf : f10 ≤ 101) (q_1 : Nat) (x2 : Int32) (x3 : Int32) (v_q_1 : Nat → Int32) (H : Heap) (locs : List Loc) (ls : Array Slot), g_HS d A s [[(ob, .inr (0, [.ref hA, .ref tA, .ref lA, .ref gA, va_rf fa, va_rf oa]))], [(gA, .inr (2, [.int n, .ref gB]))], [(gB, .inl (d.2.1 0, 10, .inl near))], [(q_1, .inl (d.2.1 1, 100, .inl v_q_1))]] H locs → lv_has ls 6 [(0, .ref ob), (1, .ref q_1), (2, .int x2), (3, .int x3)] → wb_X0_classes_10 n near Q f10 x2 x3 v_q_1 → W p l e ({ frames := 3, cells := 320, slots := 21000, locals := 70 } : Room) s m args below meth c H locs (304 - f10 * 3) (20603 - f10 * 203) (g_E d (fun v w1 => ∃ (r : Int32), v = some (.int r) ∧ w1 = [[(ob, .inr (0, [.ref hA, .ref tA, .ref lA, .ref gA, va_rf fa, va_rf oa]))], [(gA, .inr (2, [.int n, .ref gB]))], [(gB, .inl (d.2.1 0, 10, .inl near))]] ∧ Q r) A below args s 320 21000) (F0 m 10 ls []) := by
    intro f10
    induction f10 with
    | zero => intro hf q_1 x2 x3 v_q_1 H locs ls hH hl hw; rw [wb_X0_classes_10] at hw; exact hw.elim
    | succ f10 ih =>
      intro hf q_1 x2 x3 v_q_1 H locs ls hH hl hw
      rw [wb_X0_classes_10] at hw
      refine lv_iload_n hF.1.1 hF.1.2.1 dX0_classes_10 rfl (lv_at hl 3 rfl) ?_
      refine g_gets (v := .int 100) hF hH (g_z1 hH).1 q753 (fun _ h9 => h9) dX0_classes_11 ?_
      refine lv_icmp_ge (tgt := 104) hF.1.1 hF.1.2.1 dX0_classes_14 (by decide) (fun c_19 => ?_) (fun c_19 => ?_)
      · have hw := hw.1 c_19
        refine lv_iload_n hF.1.1 hF.1.2.1 dX0_classes_104 rfl (lv_at hl 2 rfl) ?_
        refine W.widen (k := 320) (n := 21000) (by first | exact Nat.le_of_ble_eq_true rfl | omega | (dsimp only; omega)) (by first | exact Nat.le_of_ble_eq_true rfl | omega | (dsimp only; omega)) ?_
        have hH := hH.sub (cs' := [[(ob, .inr (0, [.ref hA, .ref tA, .ref lA, .ref gA, va_rf fa, va_rf oa]))], [(gA, .inr (2, [.int n, .ref gB]))], [(gB, .inl (d.2.1 0, 10, .inl near))]]) [0, 1, 2] rfl rfl
        exact g_iret hF hH ⟨x2, rfl, rfl, hw⟩ dX0_classes_105
      · have hw := hw.2 c_19
        refine lv_aload_n hF.1.1 hF.1.2.1 dX0_classes_17 rfl (lv_at hl 0 rfl) ?_
        refine g_get (v := .ref gA) hF hH in_X0 rfl 0 0 rfl rfl 3 (by decide) q186 (fun _ h9 => h9) rfl dX0_classes_18 ?_
        refine lv_iload_n hF.1.1 hF.1.2.1 dX0_classes_21 rfl (lv_at hl 3 rfl) ?_
        refine lv_bipush (v := 10) hF.1.1 hF.1.2.1 dX0_classes_22 (by decide) ?_
        refine lv_idiv hF.1.1 hF.1.2.1 dX0_classes_24 (by decide) ?_
        refine lv_iload_n hF.1.1 hF.1.2.1 dX0_classes_25 rfl (lv_at hl 3 rfl) ?_
        refine lv_bipush (v := 10) hF.1.1 hF.1.2.1 dX0_classes_26 (by decide) ?_
        refine lv_irem hF.1.1 hF.1.2.1 dX0_classes_28 (by decide) ?_
        refine g_cV [.int (x3 / 10), .int (x3 - x3 / 10 * 10)] 2 rfl hF (met_X2_linked l hl0 d gA (x3 / 10) (x3 - x3 / 10 * 10) n gB near _ hw) q356 q237 q238 q94 q239 rfl rfl (by decide +kernel) ⟨Nat.le_of_ble_eq_true rfl, Nat.le_of_ble_eq_true rfl⟩ hH [1, 2] rfl rfl rfl 0 0 rfl rfl rfl hl.1 (Nat.le_of_ble_eq_true rfl) dX0_classes_29 ⟨(by first | exact Nat.le_of_ble_eq_true rfl | omega | (dsimp only; omega)), (by first | exact Nat.le_of_ble_eq_true rfl | omega | (dsimp only; omega))⟩ (fun v w1 H locs hq hH => ?_)
        obtain ⟨r_20, rfl, rfl, hw⟩ := hq
        have hH : g_HS d A s [[(ob, .inr (0, [.ref hA, .ref tA, .ref lA, .ref gA, va_rf fa, va_rf oa]))], [(q_1, .inl (d.2.1 1, 100, .inl v_q_1))], [(gA, .inr (2, [.int n, .ref gB]))], [(gB, .inl (d.2.1 0, 10, .inl near))]] H locs := hH
        refine W.eq (g2 := (F0 m 32 ls [.int r_20])) rfl ?_
        refine lv_if_eq (tgt := 98) hF.1.1 hF.1.2.1 dX0_classes_32 (by decide) (fun c_21 => ?_) (fun c_21 => ?_)
        · have hw := hw.1 c_21
          refine lv_iinc (v := (x3 + 1)) (lv' := [(3, .int (x3 + 1)), (0, .ref ob), (1, .ref q_1), (2, .int x2)]) hF.1.1 hF.1.2.1 dX0_classes_98 hl (k := 3) rfl rfl (by decide) rfl (fun ls hl => ?_)
          refine lv_goto (tgt := 10) hF.1.1 hF.1.2.1 dX0_classes_101 (by decide) ?_
          have hH := hH.sub (cs' := [[(ob, .inr (0, [.ref hA, .ref tA, .ref lA, .ref gA, va_rf fa, va_rf oa]))], [(gA, .inr (2, [.int n, .ref gB]))], [(gB, .inl (d.2.1 0, 10, .inl near))], [(q_1, .inl (d.2.1 1, 100, .inl v_q_1))]]) [0, 2, 3, 1] rfl rfl
          have hl := lv_sub hl (l' := [(0, .ref ob), (1, .ref q_1), (2, .int x2), (3, .int (x3 + 1))]) [1, 2, 3, 0] rfl
          refine W.widen (k := (304 - f10 * 3)) (n := (20603 - f10 * 203)) (by first | exact Nat.le_of_ble_eq_true rfl | omega | (dsimp only; omega)) (by first | exact Nat.le_of_ble_eq_true rfl | omega | (dsimp only; omega)) ?_
          exact (ih (by omega)) q_1 x2 (x3 + 1) v_q_1 _ _ _ hH hl hw
        · have hw := hw.2 c_21
          refine lv_aload_n hF.1.1 hF.1.2.1 dX0_classes_35 rfl (lv_at hl 1 rfl) ?_
          refine lv_iload_n hF.1.1 hF.1.2.1 dX0_classes_36 rfl (lv_at hl 3 rfl) ?_
          obtain ⟨hi_22, hw⟩ := hw
          refine g_zald hF hH 1 0 rfl rfl hi_22 dX0_classes_37 ?_
          refine lv_if_ne (tgt := 98) hF.1.1 hF.1.2.1 dX0_classes_38 (by decide) (fun c_23 => ?_) (fun c_23 => ?_)
          · have hw := hw.1 c_23
            refine lv_iinc (v := (x3 + 1)) (lv' := [(3, .int (x3 + 1)), (0, .ref ob), (1, .ref q_1), (2, .int x2)]) hF.1.1 hF.1.2.1 dX0_classes_98 hl (k := 3) rfl rfl (by decide) rfl (fun ls hl => ?_)
            refine lv_goto (tgt := 10) hF.1.1 hF.1.2.1 dX0_classes_101 (by decide) ?_
            have hH := hH.sub (cs' := [[(ob, .inr (0, [.ref hA, .ref tA, .ref lA, .ref gA, va_rf fa, va_rf oa]))], [(gA, .inr (2, [.int n, .ref gB]))], [(gB, .inl (d.2.1 0, 10, .inl near))], [(q_1, .inl (d.2.1 1, 100, .inl v_q_1))]]) [0, 2, 3, 1] rfl rfl
            have hl := lv_sub hl (l' := [(0, .ref ob), (1, .ref q_1), (2, .int x2), (3, .int (x3 + 1))]) [1, 2, 3, 0] rfl
            refine W.widen (k := (304 - f10 * 3)) (n := (20603 - f10 * 203)) (by first | exact Nat.le_of_ble_eq_true rfl | omega | (dsimp only; omega)) (by first | exact Nat.le_of_ble_eq_true rfl | omega | (dsimp only; omega)) ?_
            exact (ih (by omega)) q_1 x2 (x3 + 1) v_q_1 _ _ _ hH hl hw
          · have hw := hw.2 c_23
            refine g_new (ci := 7) (fs := [.null, .null, .int 0]) (C := RX11) (T := TX11) (N := 3) hF hH in_X11 rfl tyX11 tyX11_ok q755 q756 q121 (fun j hj => by rcases (show j = 0 ∨ j = 1 ∨ j = 2 by omega) with rfl | rfl | rfl <;> rfl) (by first | exact Nat.le_of_ble_eq_true rfl | omega | (dsimp only; omega)) (by first | exact Nat.le_of_ble_eq_true rfl | omega | (dsimp only; omega)) dX0_classes_41 (fun q_24 H hH => ?_)
            have hH : g_HS d A s [[(ob, .inr (0, [.ref hA, .ref tA, .ref lA, .ref gA, va_rf fa, va_rf oa]))], [(q_1, .inl (d.2.1 1, 100, .inl v_q_1))], [(gA, .inr (2, [.int n, .ref gB]))], [(gB, .inl (d.2.1 0, 10, .inl near))], [(q_24, .inr (7, [.null, .null, .int 0]))]] H _ := hH
            refine W.widen (k := ((304 - (f10 + 1) * 3) + 1)) (n := ((20603 - (f10 + 1) * 203) + 3)) (by first | exact Nat.le_of_ble_eq_true rfl | omega | (dsimp only; omega)) (by first | exact Nat.le_of_ble_eq_true rfl | omega | (dsimp only; omega)) ?_
            refine lv_dup hF.1.1 hF.1.2.1 dX0_classes_44 rfl ?_
            refine g_cIN [] 0 rfl hF (met_X11_init l hl0 d q_24 _ hw) q757 q758 q121 q759 rfl rfl rfl (by decide +kernel) ⟨Nat.le_of_ble_eq_true rfl, Nat.le_of_ble_eq_true rfl⟩ hH [4] rfl rfl rfl hl.1 (Nat.le_of_ble_eq_true rfl) dX0_classes_45 ⟨(by first | exact Nat.le_of_ble_eq_true rfl | omega | (dsimp only; omega)), (by first | exact Nat.le_of_ble_eq_true rfl | omega | (dsimp only; omega))⟩ (fun v w1 H locs hq hH => ?_)
            obtain ⟨q_25, q_26, rfl, rfl, hw⟩ := hq
            have hH : g_HS d A s [[(ob, .inr (0, [.ref hA, .ref tA, .ref lA, .ref gA, va_rf fa, va_rf oa]))], [(q_1, .inl (d.2.1 1, 100, .inl v_q_1))], [(gA, .inr (2, [.int n, .ref gB]))], [(gB, .inl (d.2.1 0, 10, .inl near))], [(q_24, .inr (7, [.ref q_25, .ref q_26, .int 0]))], [(q_25, .inl (d.2.1 1, 100, .inl (fun _ => 0)))], [(q_26, .inl (d.2.1 0, 100, .inl (fun _ => 0)))]] H locs := hH
            refine W.eq (g2 := (F0 m 48 ls [.ref q_24])) rfl ?_
            refine W.widen (k := ((304 - (f10 + 1) * 3) + 3)) (n := ((20603 - (f10 + 1) * 203) + 203)) (by first | exact Nat.le_of_ble_eq_true rfl | omega | (dsimp only; omega)) (by first | exact Nat.le_of_ble_eq_true rfl | omega | (dsimp only; omega)) ?_
            refine lv_aload_n hF.1.1 hF.1.2.1 dX0_classes_48 rfl (lv_at hl 0 rfl) ?_
            refine g_get (v := .ref gA) hF hH in_X0 rfl 0 0 rfl rfl 3 (by decide) q186 (fun _ h9 => h9) rfl dX0_classes_49 ?_
            refine lv_iload_n hF.1.1 hF.1.2.1 dX0_classes_52 rfl (lv_at hl 3 rfl) ?_
            refine lv_bipush (v := 10) hF.1.1 hF.1.2.1 dX0_classes_53 (by decide) ?_
            refine lv_idiv hF.1.1 hF.1.2.1 dX0_classes_55 (by decide) ?_
            refine lv_iload_n hF.1.1 hF.1.2.1 dX0_classes_56 rfl (lv_at hl 3 rfl) ?_
            refine lv_bipush (v := 10) hF.1.1 hF.1.2.1 dX0_classes_57 (by decide) ?_
            refine lv_irem hF.1.1 hF.1.2.1 dX0_classes_59 (by decide) ?_
            refine g_cV [.ref gA, .int (x3 / 10), .int (x3 - x3 / 10 * 10)] 3 rfl hF (met_X11_of l hl0 d q_24 gA (x3 / 10) (x3 - x3 / 10 * 10) q_25 q_26 0 (fun _ => 0) (fun _ => 0) n gB near _ hw) q777 q778 q779 q121 q780 rfl rfl (by decide +kernel) ⟨Nat.le_of_ble_eq_true rfl, Nat.le_of_ble_eq_true rfl⟩ hH [4, 5, 6, 2, 3] rfl rfl rfl 0 0 rfl rfl rfl hl.1 (Nat.le_of_ble_eq_true rfl) dX0_classes_60 ⟨(by first | exact Nat.le_of_ble_eq_true rfl | omega | (dsimp only; omega)), (by first | exact Nat.le_of_ble_eq_true rfl | omega | (dsimp only; omega))⟩ (fun v w1 H locs hq hH => ?_)
            obtain ⟨n_27, n_28, n_29, rfl, rfl, hw⟩ := hq
            have hH : g_HS d A s [[(ob, .inr (0, [.ref hA, .ref tA, .ref lA, .ref gA, va_rf fa, va_rf oa]))], [(q_1, .inl (d.2.1 1, 100, .inl v_q_1))], [(q_24, .inr (7, [.ref q_25, .ref q_26, .int n_29]))], [(q_25, .inl (d.2.1 1, 100, .inl n_27))], [(q_26, .inl (d.2.1 0, 100, .inl n_28))], [(gA, .inr (2, [.int n, .ref gB]))], [(gB, .inl (d.2.1 0, 10, .inl near))]] H locs := hH
            refine W.eq (g2 := (F0 m 63 ls [.ref q_24])) rfl ?_
            refine lv_astore (lv' := [(4, .ref q_24), (0, .ref ob), (1, .ref q_1), (2, .int x2), (3, .int x3)]) hF.1.1 hF.1.2.1 dX0_classes_63 hl (by decide) rfl (fun ls hl => ?_)
            refine lv_iconst (v := 0) hF.1.1 hF.1.2.1 dX0_classes_65 (by decide) ?_
            refine lv_istore (lv' := [(5, .int 0), (4, .ref q_24), (0, .ref ob), (1, .ref q_1), (2, .int x2), (3, .int x3)]) hF.1.1 hF.1.2.1 dX0_classes_66 hl (by decide) rfl (fun ls hl => ?_)
            obtain ⟨f_30, hw⟩ := hw
            have hl := lv_sub hl (l' := [(0, .ref ob), (1, .ref q_1), (2, .int x2), (3, .int x3), (4, .ref q_24), (5, .int 0)]) [2, 3, 4, 5, 1, 0] rfl
            exact bk_68 f10 hf x2 x3 n_29 n_27 n_28 (wb_X0_classes_10 n near Q f10) (ih (by omega)) f_30 q_1 q_24 q_25 q_26 0 v_q_1 _ _ _ hH hl hw
  unfold wp_X0_classes at hw
  refine g_gets (v := .int 100) hF hH (g_z1 hH).1 q753 (fun _ h9 => h9) dX0_classes_0 ?_
  refine g_newZ (N' := 100) hF hH q776 (by decide) rfl (by decide) (by first | exact Nat.le_of_ble_eq_true rfl | omega | (dsimp only; omega)) (by first | exact Nat.le_of_ble_eq_true rfl | omega | (dsimp only; omega)) dX0_classes_3 (fun q_31 H hH => ?_)
  have hH : g_HS d A s [[(ob, .inr (0, [.ref hA, .ref tA, .ref lA, .ref gA, va_rf fa, va_rf oa]))], [(gA, .inr (2, [.int n, .ref gB]))], [(gB, .inl (d.2.1 0, 10, .inl near))], [(q_31, .inl (d.2.1 1, 100, .inl (fun _ => 0)))]] H _ := hH
  refine W.widen (k := 1) (n := 100) (by first | exact Nat.le_of_ble_eq_true rfl | omega | (dsimp only; omega)) (by first | exact Nat.le_of_ble_eq_true rfl | omega | (dsimp only; omega)) ?_
  refine lv_astore_n (lv' := [(1, .ref q_31), (0, .ref ob)]) hF.1.1 hF.1.2.1 dX0_classes_5 rfl hl (by decide) rfl (fun ls hl => ?_)
  refine lv_iconst (v := 0) hF.1.1 hF.1.2.1 dX0_classes_6 (by decide) ?_
  refine lv_istore_n (lv' := [(2, .int 0), (1, .ref q_31), (0, .ref ob)]) hF.1.1 hF.1.2.1 dX0_classes_7 rfl hl (by decide) rfl (fun ls hl => ?_)
  refine lv_iconst (v := 0) hF.1.1 hF.1.2.1 dX0_classes_8 (by decide) ?_
  refine lv_istore_n (lv' := [(3, .int 0), (2, .int 0), (1, .ref q_31), (0, .ref ob)]) hF.1.1 hF.1.2.1 dX0_classes_9 rfl hl (by decide) rfl (fun ls hl => ?_)
  have hl := lv_sub hl (l' := [(0, .ref ob), (1, .ref q_31), (2, .int 0), (3, .int 0)]) [3, 2, 1, 0] rfl
  refine W.widen (k := (304 - 101 * 3)) (n := (20603 - 101 * 203)) (by first | exact Nat.le_of_ble_eq_true rfl | omega | (dsimp only; omega)) (by first | exact Nat.le_of_ble_eq_true rfl | omega | (dsimp only; omega)) ?_
  exact bk_10 101 (Nat.le_refl 101) q_31 0 0 (fun _ => 0) _ _ _ hH hl hw

def wp_X0_undo (fa : Option Nat) (oa : Option Nat) (hm : Int32) (hf : Nat → Int64) (lm : Int32) (n : Int32) (near : Nat → Int32) (Q : Int32 → Int32 → (Nat → Int64) → Int32 → Int32 → (Nat → Int32) → (Option Nat) → (Option Nat) → Prop) : Prop := ((¬ hm = 0 → (wp_X1_removeLast_J hm hf (fun r_11 n_12 => (wp_X2_init_2 r_11 (fun n_14 n_15 => (wp_X0_lay fa oa lm (fun n_16 => (Q n_12 n_12 hf n_16 n_14 n_15 none none)))))))) ∧ (hm = 0 → (Q (-2) hm hf lm n near fa oa)))
set_option maxHeartbeats 4000000 in
set_option maxRecDepth 100000 in
theorem met_X0_undo (l : Launch) (hl0 : l.stackTraces = false) (d : g_D) (ob : Nat) (hA : Nat) (tA : Nat) (lA : Nat) (gA : Nat) (fa : Option Nat) (oa : Option Nat) (hB : Nat) (hm : Int32) (hf : Nat → Int64) (lB : Nat) (lm : Int32) (n : Int32) (gB : Nat) (near : Nat → Int32) (Q : Int32 → Int32 → (Nat → Int64) → Int32 → Int32 → (Nat → Int32) → (Option Nat) → (Option Nat) → Prop) (hw : wp_X0_undo fa oa hm hf lm n near Q) : g_Met l d yX0_undo cX0_undo 1 (Option.some FieldType.int) ({ frames := 3, cells := 2, slots := 12, locals := 59 } : Room) [.ref ob] [[(ob, .inr (0, [.ref hA, .ref tA, .ref lA, .ref gA, va_rf fa, va_rf oa]))], [(hA, .inr (1, [.ref hB, .int hm]))], [(hB, .inl (d.2.1 4, 4, .inr (.inl hf)))], [(lA, .inr (1, [.ref lB, .int lm]))], [(gA, .inr (2, [.int n, .ref gB]))], [(gB, .inl (d.2.1 0, 10, .inl near))]] 2 12 (fun v w1 => ∃ (r : Int32) (gA2 : Nat) (gB2 : Nat) (hm2 : Int32) (hf2 : Nat → Int64) (lm2 : Int32) (n2 : Int32) (near2 : Nat → Int32) (fa2 : Option Nat) (oa2 : Option Nat), v = some (.int r) ∧ w1 = [[(ob, .inr (0, [.ref hA, .ref tA, .ref lA, .ref gA2, va_rf fa2, va_rf oa2]))], [(hA, .inr (1, [.ref hB, .int hm2]))], [(hB, .inl (d.2.1 4, 4, .inr (.inl hf2)))], [(lA, .inr (1, [.ref lB, .int lm2]))], [(gA2, .inr (2, [.int n2, .ref gB2]))], [(gB2, .inl (d.2.1 0, 10, .inl near2))]] ∧ Q r hm2 hf2 lm2 n2 near2 fa2 oa2) := by
  refine g_enter (by decide) (Nat.le_of_ble_eq_true rfl) ?_
  intro p e s m args below meth c A ls hF hH hl hin
  have hF : g_F p m c cX0_undo 1 s args RX0 meth (Option.some FieldType.int) := hF
  have hl : lv_has ls 1 [(0, .ref ob)] := hl
  unfold wp_X0_undo at hw
  refine lv_aload_n hF.1.1 hF.1.2.1 dX0_undo_0 rfl (lv_at hl 0 rfl) ?_
  refine g_get (v := .ref hA) hF hH in_X0 rfl 0 0 rfl rfl 0 (by decide) q182 (fun _ h9 => h9) rfl dX0_undo_1 ?_
  refine g_getN (v := .int hm) hF hH in_X1 rfl 1 0 rfl rfl 1 (by decide) q149 (fun _ h9 => h9) rfl dX0_undo_4 ?_
  refine lv_if_ne (tgt := 13) hF.1.1 hF.1.2.1 dX0_undo_7 (by decide) (fun c_9 => ?_) (fun c_9 => ?_)
  · have hw := hw.1 c_9
    refine lv_aload_n hF.1.1 hF.1.2.1 dX0_undo_13 rfl (lv_at hl 0 rfl) ?_
    refine g_new (ci := 2) (fs := [.int 0, .null]) (C := RX2) (T := TX2) (N := 2) hF hH in_X2 rfl tyX2 tyX2_ok q160 q161 q94 (fun j hj => by rcases (show j = 0 ∨ j = 1 by omega) with rfl | rfl <;> rfl) (by first | exact Nat.le_of_ble_eq_true rfl | omega | (dsimp only; omega)) (by first | exact Nat.le_of_ble_eq_true rfl | omega | (dsimp only; omega)) dX0_undo_14 (fun q_10 H hH => ?_)
    have hH : g_HS d A s [[(ob, .inr (0, [.ref hA, .ref tA, .ref lA, .ref gA, va_rf fa, va_rf oa]))], [(hA, .inr (1, [.ref hB, .int hm]))], [(hB, .inl (d.2.1 4, 4, .inr (.inl hf)))], [(lA, .inr (1, [.ref lB, .int lm]))], [(gA, .inr (2, [.int n, .ref gB]))], [(gB, .inl (d.2.1 0, 10, .inl near))], [(q_10, .inr (2, [.int 0, .null]))]] H _ := hH
    refine W.widen (k := 1) (n := 2) (by first | exact Nat.le_of_ble_eq_true rfl | omega | (dsimp only; omega)) (by first | exact Nat.le_of_ble_eq_true rfl | omega | (dsimp only; omega)) ?_
    refine lv_dup hF.1.1 hF.1.2.1 dX0_undo_17 rfl ?_
    refine lv_aload_n hF.1.1 hF.1.2.1 dX0_undo_18 rfl (lv_at hl 0 rfl) ?_
    refine g_get (v := .ref hA) hF hH in_X0 rfl 0 0 rfl rfl 0 (by decide) q182 (fun _ h9 => h9) rfl dX0_undo_19 ?_
    refine g_cV [] 0 rfl hF (met_X1_removeLast_J l hl0 d hA hB hm hf _ hw) q790 q791 q792 q93 q793 rfl rfl (by decide +kernel) ⟨Nat.le_of_ble_eq_true rfl, Nat.le_of_ble_eq_true rfl⟩ hH [1, 2] rfl rfl rfl 0 0 rfl rfl rfl hl.1 (Nat.le_of_ble_eq_true rfl) dX0_undo_22 ⟨(by first | exact Nat.le_of_ble_eq_true rfl | omega | (dsimp only; omega)), (by first | exact Nat.le_of_ble_eq_true rfl | omega | (dsimp only; omega))⟩ (fun v w1 H locs hq hH => ?_)
    obtain ⟨r_11, n_12, rfl, rfl, hw⟩ := hq
    have hH : g_HS d A s [[(ob, .inr (0, [.ref hA, .ref tA, .ref lA, .ref gA, va_rf fa, va_rf oa]))], [(lA, .inr (1, [.ref lB, .int lm]))], [(gA, .inr (2, [.int n, .ref gB]))], [(gB, .inl (d.2.1 0, 10, .inl near))], [(q_10, .inr (2, [.int 0, .null]))], [(hA, .inr (1, [.ref hB, .int n_12]))], [(hB, .inl (d.2.1 4, 4, .inr (.inl hf)))]] H locs := hH
    refine W.eq (g2 := (F0 m 25 ls [.long r_11, .ref q_10, .ref q_10, .ref ob])) rfl ?_
    refine g_cI [.long r_11] 1 rfl hF (met_X2_init_2 l hl0 d q_10 r_11 _ hw) q794 q795 q94 q796 rfl rfl rfl (by decide +kernel) ⟨Nat.le_of_ble_eq_true rfl, Nat.le_of_ble_eq_true rfl⟩ hH [4] rfl rfl rfl hl.1 (Nat.le_of_ble_eq_true rfl) dX0_undo_25 ⟨(by first | exact Nat.le_of_ble_eq_true rfl | omega | (dsimp only; omega)), (by first | exact Nat.le_of_ble_eq_true rfl | omega | (dsimp only; omega))⟩ (fun v w1 H locs hq hH => ?_)
    obtain ⟨q_13, n_14, n_15, rfl, rfl, hw⟩ := hq
    have hH : g_HS d A s [[(ob, .inr (0, [.ref hA, .ref tA, .ref lA, .ref gA, va_rf fa, va_rf oa]))], [(lA, .inr (1, [.ref lB, .int lm]))], [(gA, .inr (2, [.int n, .ref gB]))], [(gB, .inl (d.2.1 0, 10, .inl near))], [(hA, .inr (1, [.ref hB, .int n_12]))], [(hB, .inl (d.2.1 4, 4, .inr (.inl hf)))], [(q_10, .inr (2, [.int n_14, .ref q_13]))], [(q_13, .inl (d.2.1 0, 10, .inl n_15))]] H locs := hH
    refine W.eq (g2 := (F0 m 28 ls [.ref q_10, .ref ob])) rfl ?_
    refine W.widen (k := 2) (n := 12) (by first | exact Nat.le_of_ble_eq_true rfl | omega | (dsimp only; omega)) (by first | exact Nat.le_of_ble_eq_true rfl | omega | (dsimp only; omega)) ?_
    refine g_cV [.ref q_10] 1 rfl hF (met_X0_lay l hl0 d ob q_10 hA tA lA gA fa oa lB lm _ hw) q336 q338 qs4 q92 q339 rfl rfl (by decide +kernel) ⟨Nat.le_of_ble_eq_true rfl, Nat.le_of_ble_eq_true rfl⟩ hH [0, 1] rfl rfl rfl 0 0 rfl rfl rfl hl.1 (Nat.le_of_ble_eq_true rfl) dX0_undo_28 ⟨(by first | exact Nat.le_of_ble_eq_true rfl | omega | (dsimp only; omega)), (by first | exact Nat.le_of_ble_eq_true rfl | omega | (dsimp only; omega))⟩ (fun v w1 H locs hq hH => ?_)
    obtain ⟨n_16, rfl, rfl, hw⟩ := hq
    have hH : g_HS d A s [[(gA, .inr (2, [.int n, .ref gB]))], [(gB, .inl (d.2.1 0, 10, .inl near))], [(hA, .inr (1, [.ref hB, .int n_12]))], [(hB, .inl (d.2.1 4, 4, .inr (.inl hf)))], [(q_10, .inr (2, [.int n_14, .ref q_13]))], [(q_13, .inl (d.2.1 0, 10, .inl n_15))], [(ob, .inr (0, [.ref hA, .ref tA, .ref lA, .ref q_10, va_rf none, va_rf none]))], [(lA, .inr (1, [.ref lB, .int n_16]))]] H locs := hH
    refine W.eq (g2 := (F0 m 31 ls [])) rfl ?_
    refine lv_aload_n hF.1.1 hF.1.2.1 dX0_undo_31 rfl (lv_at hl 0 rfl) ?_
    refine g_get (v := .ref hA) hF hH in_X0 rfl 6 0 rfl rfl 0 (by decide) q182 (fun _ h9 => h9) rfl dX0_undo_32 ?_
    refine g_getN (v := .int n_12) hF hH in_X1 rfl 2 0 rfl rfl 1 (by decide) q149 (fun _ h9 => h9) rfl dX0_undo_35 ?_
    have hH := hH.sub (cs' := [[(ob, .inr (0, [.ref hA, .ref tA, .ref lA, .ref q_10, va_rf none, va_rf none]))], [(hA, .inr (1, [.ref hB, .int n_12]))], [(hB, .inl (d.2.1 4, 4, .inr (.inl hf)))], [(lA, .inr (1, [.ref lB, .int n_16]))], [(q_10, .inr (2, [.int n_14, .ref q_13]))], [(q_13, .inl (d.2.1 0, 10, .inl n_15))]]) [6, 2, 3, 7, 4, 5] rfl rfl
    exact g_iret hF hH ⟨n_12, q_10, q_13, n_12, hf, n_16, n_14, n_15, none, none, rfl, rfl, hw⟩ dX0_undo_38
  · have hw := hw.2 c_9
    refine lv_bipush (v := (-2)) hF.1.1 hF.1.2.1 dX0_undo_10 (by decide) ?_
    refine W.widen (k := 2) (n := 12) (by first | exact Nat.le_of_ble_eq_true rfl | omega | (dsimp only; omega)) (by first | exact Nat.le_of_ble_eq_true rfl | omega | (dsimp only; omega)) ?_
    exact g_iret hF hH ⟨(-2), gA, gB, hm, hf, lm, n, near, fa, oa, rfl, rfl, hw⟩ dX0_undo_12

def wp_X0_isModule (a1 : Int32) (n : Int32) (near : Nat → Int32) (Q : Int32 → Prop) : Prop := (wp_X0_isSet a1 n (fun r_5 => ((¬ r_5 = 0 → (wp_X2_splitters a1 n near (fun r_7 => ((¬ r_7 = 0 → (Q 0)) ∧ (r_7 = 0 → (Q 1)))))) ∧ (r_5 = 0 → (Q (-1))))))
set_option maxHeartbeats 4000000 in
set_option maxRecDepth 100000 in
theorem met_X0_isModule (l : Launch) (hl0 : l.stackTraces = false) (d : g_D) (ob : Nat) (a1 : Int32) (hA : Nat) (tA : Nat) (lA : Nat) (gA : Nat) (fa : Option Nat) (oa : Option Nat) (n : Int32) (gB : Nat) (near : Nat → Int32) (Q : Int32 → Prop) (hw : wp_X0_isModule a1 n near Q) : g_Met l d yX0_isModule cX0_isModule 2 (Option.some FieldType.int) ({ frames := 2, cells := 0, slots := 0, locals := 45 } : Room) [.ref ob, .int a1] [[(ob, .inr (0, [.ref hA, .ref tA, .ref lA, .ref gA, va_rf fa, va_rf oa]))], [(gA, .inr (2, [.int n, .ref gB]))], [(gB, .inl (d.2.1 0, 10, .inl near))]] 0 0 (fun v w1 => ∃ (r : Int32), v = some (.int r) ∧ w1 = [[(ob, .inr (0, [.ref hA, .ref tA, .ref lA, .ref gA, va_rf fa, va_rf oa]))], [(gA, .inr (2, [.int n, .ref gB]))], [(gB, .inl (d.2.1 0, 10, .inl near))]] ∧ Q r) := by
  refine g_enter (by decide) (Nat.le_of_ble_eq_true rfl) ?_
  intro p e s m args below meth c A ls hF hH hl hin
  have hF : g_F p m c cX0_isModule 2 s args RX0 meth (Option.some FieldType.int) := hF
  have hl : lv_has ls 2 [(0, .ref ob), (1, .int a1)] := hl
  unfold wp_X0_isModule at hw
  refine lv_aload_n hF.1.1 hF.1.2.1 dX0_isModule_0 rfl (lv_at hl 0 rfl) ?_
  refine lv_iload_n hF.1.1 hF.1.2.1 dX0_isModule_1 rfl (lv_at hl 1 rfl) ?_
  refine g_cV [.int a1] 1 rfl hF (met_X0_isSet l hl0 d ob a1 hA tA lA gA fa oa n gB _ hw) q804 q806 qs17 q92 q807 rfl rfl (by decide +kernel) ⟨Nat.le_of_ble_eq_true rfl, Nat.le_of_ble_eq_true rfl⟩ hH [0, 1] rfl rfl rfl 0 0 rfl rfl rfl hl.1 (Nat.le_of_ble_eq_true rfl) dX0_isModule_2 ⟨(by first | exact Nat.le_of_ble_eq_true rfl | omega | (dsimp only; omega)), (by first | exact Nat.le_of_ble_eq_true rfl | omega | (dsimp only; omega))⟩ (fun v w1 H locs hq hH => ?_)
  obtain ⟨r_5, rfl, rfl, hw⟩ := hq
  have hH : g_HS d A s [[(gB, .inl (d.2.1 0, 10, .inl near))], [(ob, .inr (0, [.ref hA, .ref tA, .ref lA, .ref gA, va_rf fa, va_rf oa]))], [(gA, .inr (2, [.int n, .ref gB]))]] H locs := hH
  refine W.eq (g2 := (F0 m 5 ls [.int r_5])) rfl ?_
  refine lv_if_ne (tgt := 10) hF.1.1 hF.1.2.1 dX0_isModule_5 (by decide) (fun c_6 => ?_) (fun c_6 => ?_)
  · have hw := hw.1 c_6
    refine lv_aload_n hF.1.1 hF.1.2.1 dX0_isModule_10 rfl (lv_at hl 0 rfl) ?_
    refine g_get (v := .ref gA) hF hH in_X0 rfl 1 0 rfl rfl 3 (by decide) q186 (fun _ h9 => h9) rfl dX0_isModule_11 ?_
    refine lv_iload_n hF.1.1 hF.1.2.1 dX0_isModule_14 rfl (lv_at hl 1 rfl) ?_
    refine g_cV [.int a1] 1 rfl hF (met_X2_splitters l hl0 d gA a1 n gB near _ hw) q809 q522 q523 q94 q524 rfl rfl (by decide +kernel) ⟨Nat.le_of_ble_eq_true rfl, Nat.le_of_ble_eq_true rfl⟩ hH [2, 0] rfl rfl rfl 0 0 rfl rfl rfl hl.1 (Nat.le_of_ble_eq_true rfl) dX0_isModule_15 ⟨(by first | exact Nat.le_of_ble_eq_true rfl | omega | (dsimp only; omega)), (by first | exact Nat.le_of_ble_eq_true rfl | omega | (dsimp only; omega))⟩ (fun v w1 H locs hq hH => ?_)
    obtain ⟨r_7, rfl, rfl, hw⟩ := hq
    have hH : g_HS d A s [[(ob, .inr (0, [.ref hA, .ref tA, .ref lA, .ref gA, va_rf fa, va_rf oa]))], [(gA, .inr (2, [.int n, .ref gB]))], [(gB, .inl (d.2.1 0, 10, .inl near))]] H locs := hH
    refine W.eq (g2 := (F0 m 18 ls [.int r_7])) rfl ?_
    refine lv_if_ne (tgt := 25) hF.1.1 hF.1.2.1 dX0_isModule_18 (by decide) (fun c_8 => ?_) (fun c_8 => ?_)
    · have hw := hw.1 c_8
      refine lv_iconst (v := 0) hF.1.1 hF.1.2.1 dX0_isModule_25 (by decide) ?_
      exact g_iret hF hH ⟨0, rfl, rfl, hw⟩ dX0_isModule_26
    · have hw := hw.2 c_8
      refine lv_iconst (v := 1) hF.1.1 hF.1.2.1 dX0_isModule_21 (by decide) ?_
      refine lv_goto (tgt := 26) hF.1.1 hF.1.2.1 dX0_isModule_22 (by decide) ?_
      exact g_iret hF hH ⟨1, rfl, rfl, hw⟩ dX0_isModule_26
  · have hw := hw.2 c_6
    refine lv_iconst (v := (-1)) hF.1.1 hF.1.2.1 dX0_isModule_8 (by decide) ?_
    have hH := hH.sub (cs' := [[(ob, .inr (0, [.ref hA, .ref tA, .ref lA, .ref gA, va_rf fa, va_rf oa]))], [(gA, .inr (2, [.int n, .ref gB]))], [(gB, .inl (d.2.1 0, 10, .inl near))]]) [1, 2, 0] rfl rfl
    exact g_iret hF hH ⟨(-1), rfl, rfl, hw⟩ dX0_isModule_9

def wp_X0_splitters (a1 : Int32) (n : Int32) (near : Nat → Int32) (Q : Int32 → Prop) : Prop := (wp_X0_isSet a1 n (fun r_4 => ((r_4 = 0 → (Q (-1))) ∧ (¬ r_4 = 0 → (wp_X2_splitters a1 n near (fun r_6 => (Q r_6)))))))
set_option maxHeartbeats 4000000 in
set_option maxRecDepth 100000 in
theorem met_X0_splitters (l : Launch) (hl0 : l.stackTraces = false) (d : g_D) (ob : Nat) (a1 : Int32) (hA : Nat) (tA : Nat) (lA : Nat) (gA : Nat) (fa : Option Nat) (oa : Option Nat) (n : Int32) (gB : Nat) (near : Nat → Int32) (Q : Int32 → Prop) (hw : wp_X0_splitters a1 n near Q) : g_Met l d yX0_splitters cX0_splitters 2 (Option.some FieldType.int) ({ frames := 2, cells := 0, slots := 0, locals := 45 } : Room) [.ref ob, .int a1] [[(ob, .inr (0, [.ref hA, .ref tA, .ref lA, .ref gA, va_rf fa, va_rf oa]))], [(gA, .inr (2, [.int n, .ref gB]))], [(gB, .inl (d.2.1 0, 10, .inl near))]] 0 0 (fun v w1 => ∃ (r : Int32), v = some (.int r) ∧ w1 = [[(ob, .inr (0, [.ref hA, .ref tA, .ref lA, .ref gA, va_rf fa, va_rf oa]))], [(gA, .inr (2, [.int n, .ref gB]))], [(gB, .inl (d.2.1 0, 10, .inl near))]] ∧ Q r) := by
  refine g_enter (by decide) (Nat.le_of_ble_eq_true rfl) ?_
  intro p e s m args below meth c A ls hF hH hl hin
  have hF : g_F p m c cX0_splitters 2 s args RX0 meth (Option.some FieldType.int) := hF
  have hl : lv_has ls 2 [(0, .ref ob), (1, .int a1)] := hl
  unfold wp_X0_splitters at hw
  refine lv_aload_n hF.1.1 hF.1.2.1 dX0_splitters_0 rfl (lv_at hl 0 rfl) ?_
  refine lv_iload_n hF.1.1 hF.1.2.1 dX0_splitters_1 rfl (lv_at hl 1 rfl) ?_
  refine g_cV [.int a1] 1 rfl hF (met_X0_isSet l hl0 d ob a1 hA tA lA gA fa oa n gB _ hw) q804 q806 qs17 q92 q807 rfl rfl (by decide +kernel) ⟨Nat.le_of_ble_eq_true rfl, Nat.le_of_ble_eq_true rfl⟩ hH [0, 1] rfl rfl rfl 0 0 rfl rfl rfl hl.1 (Nat.le_of_ble_eq_true rfl) dX0_splitters_2 ⟨(by first | exact Nat.le_of_ble_eq_true rfl | omega | (dsimp only; omega)), (by first | exact Nat.le_of_ble_eq_true rfl | omega | (dsimp only; omega))⟩ (fun v w1 H locs hq hH => ?_)
  obtain ⟨r_4, rfl, rfl, hw⟩ := hq
  have hH : g_HS d A s [[(gB, .inl (d.2.1 0, 10, .inl near))], [(ob, .inr (0, [.ref hA, .ref tA, .ref lA, .ref gA, va_rf fa, va_rf oa]))], [(gA, .inr (2, [.int n, .ref gB]))]] H locs := hH
  refine W.eq (g2 := (F0 m 5 ls [.int r_4])) rfl ?_
  refine lv_if_eq (tgt := 19) hF.1.1 hF.1.2.1 dX0_splitters_5 (by decide) (fun c_5 => ?_) (fun c_5 => ?_)
  · have hw := hw.1 c_5
    refine lv_iconst (v := (-1)) hF.1.1 hF.1.2.1 dX0_splitters_19 (by decide) ?_
    have hH := hH.sub (cs' := [[(ob, .inr (0, [.ref hA, .ref tA, .ref lA, .ref gA, va_rf fa, va_rf oa]))], [(gA, .inr (2, [.int n, .ref gB]))], [(gB, .inl (d.2.1 0, 10, .inl near))]]) [1, 2, 0] rfl rfl
    exact g_iret hF hH ⟨(-1), rfl, rfl, hw⟩ dX0_splitters_20
  · have hw := hw.2 c_5
    refine lv_aload_n hF.1.1 hF.1.2.1 dX0_splitters_8 rfl (lv_at hl 0 rfl) ?_
    refine g_get (v := .ref gA) hF hH in_X0 rfl 1 0 rfl rfl 3 (by decide) q186 (fun _ h9 => h9) rfl dX0_splitters_9 ?_
    refine lv_iload_n hF.1.1 hF.1.2.1 dX0_splitters_12 rfl (lv_at hl 1 rfl) ?_
    refine g_cV [.int a1] 1 rfl hF (met_X2_splitters l hl0 d gA a1 n gB near _ hw) q809 q522 q523 q94 q524 rfl rfl (by decide +kernel) ⟨Nat.le_of_ble_eq_true rfl, Nat.le_of_ble_eq_true rfl⟩ hH [2, 0] rfl rfl rfl 0 0 rfl rfl rfl hl.1 (Nat.le_of_ble_eq_true rfl) dX0_splitters_13 ⟨(by first | exact Nat.le_of_ble_eq_true rfl | omega | (dsimp only; omega)), (by first | exact Nat.le_of_ble_eq_true rfl | omega | (dsimp only; omega))⟩ (fun v w1 H locs hq hH => ?_)
    obtain ⟨r_6, rfl, rfl, hw⟩ := hq
    have hH : g_HS d A s [[(ob, .inr (0, [.ref hA, .ref tA, .ref lA, .ref gA, va_rf fa, va_rf oa]))], [(gA, .inr (2, [.int n, .ref gB]))], [(gB, .inl (d.2.1 0, 10, .inl near))]] H locs := hH
    refine W.eq (g2 := (F0 m 16 ls [.int r_6])) rfl ?_
    refine lv_goto (tgt := 20) hF.1.1 hF.1.2.1 dX0_splitters_16 (by decide) ?_
    exact g_iret hF hH ⟨r_6, rfl, rfl, hw⟩ dX0_splitters_20

def wp_X0_module (a1 : Int32) (n : Int32) (near : Nat → Int32) (Q : Int32 → Prop) : Prop := (wp_X0_isSet a1 n (fun r_4 => ((r_4 = 0 → (Q (-1))) ∧ (¬ r_4 = 0 → (wp_X2_module a1 n near (fun r_6 => (Q r_6)))))))
set_option maxHeartbeats 4000000 in
set_option maxRecDepth 100000 in
theorem met_X0_module (l : Launch) (hl0 : l.stackTraces = false) (d : g_D) (ob : Nat) (a1 : Int32) (hA : Nat) (tA : Nat) (lA : Nat) (gA : Nat) (fa : Option Nat) (oa : Option Nat) (n : Int32) (gB : Nat) (near : Nat → Int32) (Q : Int32 → Prop) (hw : wp_X0_module a1 n near Q) : g_Met l d yX0_module cX0_module 2 (Option.some FieldType.int) ({ frames := 3, cells := 0, slots := 0, locals := 68 } : Room) [.ref ob, .int a1] [[(ob, .inr (0, [.ref hA, .ref tA, .ref lA, .ref gA, va_rf fa, va_rf oa]))], [(gA, .inr (2, [.int n, .ref gB]))], [(gB, .inl (d.2.1 0, 10, .inl near))]] 0 0 (fun v w1 => ∃ (r : Int32), v = some (.int r) ∧ w1 = [[(ob, .inr (0, [.ref hA, .ref tA, .ref lA, .ref gA, va_rf fa, va_rf oa]))], [(gA, .inr (2, [.int n, .ref gB]))], [(gB, .inl (d.2.1 0, 10, .inl near))]] ∧ Q r) := by
  refine g_enter (by decide) (Nat.le_of_ble_eq_true rfl) ?_
  intro p e s m args below meth c A ls hF hH hl hin
  have hF : g_F p m c cX0_module 2 s args RX0 meth (Option.some FieldType.int) := hF
  have hl : lv_has ls 2 [(0, .ref ob), (1, .int a1)] := hl
  unfold wp_X0_module at hw
  refine lv_aload_n hF.1.1 hF.1.2.1 dX0_module_0 rfl (lv_at hl 0 rfl) ?_
  refine lv_iload_n hF.1.1 hF.1.2.1 dX0_module_1 rfl (lv_at hl 1 rfl) ?_
  refine g_cV [.int a1] 1 rfl hF (met_X0_isSet l hl0 d ob a1 hA tA lA gA fa oa n gB _ hw) q804 q806 qs17 q92 q807 rfl rfl (by decide +kernel) ⟨Nat.le_of_ble_eq_true rfl, Nat.le_of_ble_eq_true rfl⟩ hH [0, 1] rfl rfl rfl 0 0 rfl rfl rfl hl.1 (Nat.le_of_ble_eq_true rfl) dX0_module_2 ⟨(by first | exact Nat.le_of_ble_eq_true rfl | omega | (dsimp only; omega)), (by first | exact Nat.le_of_ble_eq_true rfl | omega | (dsimp only; omega))⟩ (fun v w1 H locs hq hH => ?_)
  obtain ⟨r_4, rfl, rfl, hw⟩ := hq
  have hH : g_HS d A s [[(gB, .inl (d.2.1 0, 10, .inl near))], [(ob, .inr (0, [.ref hA, .ref tA, .ref lA, .ref gA, va_rf fa, va_rf oa]))], [(gA, .inr (2, [.int n, .ref gB]))]] H locs := hH
  refine W.eq (g2 := (F0 m 5 ls [.int r_4])) rfl ?_
  refine lv_if_eq (tgt := 19) hF.1.1 hF.1.2.1 dX0_module_5 (by decide) (fun c_5 => ?_) (fun c_5 => ?_)
  · have hw := hw.1 c_5
    refine lv_iconst (v := (-1)) hF.1.1 hF.1.2.1 dX0_module_19 (by decide) ?_
    have hH := hH.sub (cs' := [[(ob, .inr (0, [.ref hA, .ref tA, .ref lA, .ref gA, va_rf fa, va_rf oa]))], [(gA, .inr (2, [.int n, .ref gB]))], [(gB, .inl (d.2.1 0, 10, .inl near))]]) [1, 2, 0] rfl rfl
    exact g_iret hF hH ⟨(-1), rfl, rfl, hw⟩ dX0_module_20
  · have hw := hw.2 c_5
    refine lv_aload_n hF.1.1 hF.1.2.1 dX0_module_8 rfl (lv_at hl 0 rfl) ?_
    refine g_get (v := .ref gA) hF hH in_X0 rfl 1 0 rfl rfl 3 (by decide) q186 (fun _ h9 => h9) rfl dX0_module_9 ?_
    refine lv_iload_n hF.1.1 hF.1.2.1 dX0_module_12 rfl (lv_at hl 1 rfl) ?_
    refine g_cV [.int a1] 1 rfl hF (met_X2_module l hl0 d gA a1 n gB near _ hw) q517 q518 q519 q94 q520 rfl rfl (by decide +kernel) ⟨Nat.le_of_ble_eq_true rfl, Nat.le_of_ble_eq_true rfl⟩ hH [2, 0] rfl rfl rfl 0 0 rfl rfl rfl hl.1 (Nat.le_of_ble_eq_true rfl) dX0_module_13 ⟨(by first | exact Nat.le_of_ble_eq_true rfl | omega | (dsimp only; omega)), (by first | exact Nat.le_of_ble_eq_true rfl | omega | (dsimp only; omega))⟩ (fun v w1 H locs hq hH => ?_)
    obtain ⟨r_6, rfl, rfl, hw⟩ := hq
    have hH : g_HS d A s [[(ob, .inr (0, [.ref hA, .ref tA, .ref lA, .ref gA, va_rf fa, va_rf oa]))], [(gA, .inr (2, [.int n, .ref gB]))], [(gB, .inl (d.2.1 0, 10, .inl near))]] H locs := hH
    refine W.eq (g2 := (F0 m 16 ls [.int r_6])) rfl ?_
    refine lv_goto (tgt := 20) hF.1.1 hF.1.2.1 dX0_module_16 (by decide) ?_
    exact g_iret hF hH ⟨r_6, rfl, rfl, hw⟩ dX0_module_20

def wb_X0_isPathOfFour_42 (a1 : Int32) (a2 : Int32) (a3 : Int32) (a4 : Int32) (n : Int32) (near : Nat → Int32) (Q : Int32 → Prop) (y0 : Int32) : Prop := ((y0 = 0 → (Q 0)) ∧ (¬ y0 = 0 → ((a4 ≤ a1 → (Q 0)) ∧ (¬ a4 ≤ a1 → ((a1 = a3 → (Q 0)) ∧ (¬ a1 = a3 → ((a2 = a4 → (Q 0)) ∧ (¬ a2 = a4 → (wp_X2_linked a1 a3 n near (fun r_21 => ((¬ r_21 = 0 → (Q 0)) ∧ (r_21 = 0 → (wp_X2_linked a1 a4 n near (fun r_23 => ((¬ r_23 = 0 → (Q 0)) ∧ (r_23 = 0 → (wp_X2_linked a2 a4 n near (fun r_25 => ((¬ r_25 = 0 → (Q 0)) ∧ (r_25 = 0 → (Q 1)))))))))))))))))))))
def wb_X0_isPathOfFour_41 (a1 : Int32) (a2 : Int32) (a3 : Int32) (a4 : Int32) (n : Int32) (near : Nat → Int32) (Q : Int32 → Prop) : Prop := (wb_X0_isPathOfFour_42 a1 a2 a3 a4 n near Q 0)
def wp_X0_isPathOfFour (a1 : Int32) (a2 : Int32) (a3 : Int32) (a4 : Int32) (n : Int32) (near : Nat → Int32) (Q : Int32 → Prop) : Prop := (wp_X2_linked a1 a2 n near (fun r_27 => ((r_27 = 0 → (wb_X0_isPathOfFour_41 a1 a2 a3 a4 n near Q)) ∧ (¬ r_27 = 0 → (wp_X2_linked a2 a3 n near (fun r_29 => ((r_29 = 0 → (wb_X0_isPathOfFour_41 a1 a2 a3 a4 n near Q)) ∧ (¬ r_29 = 0 → (wp_X2_linked a3 a4 n near (fun r_31 => ((r_31 = 0 → (wb_X0_isPathOfFour_41 a1 a2 a3 a4 n near Q)) ∧ (¬ r_31 = 0 → (wb_X0_isPathOfFour_42 a1 a2 a3 a4 n near Q 1)))))))))))))
set_option maxHeartbeats 4000000 in
set_option maxRecDepth 100000 in
theorem met_X0_isPathOfFour (l : Launch) (hl0 : l.stackTraces = false) (d : g_D) (ob : Nat) (a1 : Int32) (a2 : Int32) (a3 : Int32) (a4 : Int32) (hA : Nat) (tA : Nat) (lA : Nat) (gA : Nat) (fa : Option Nat) (oa : Option Nat) (n : Int32) (gB : Nat) (near : Nat → Int32) (Q : Int32 → Prop) (hw : wp_X0_isPathOfFour a1 a2 a3 a4 n near Q) : g_Met l d yX0_isPathOfFour cX0_isPathOfFour 6 (Option.some FieldType.boolean) ({ frames := 2, cells := 0, slots := 0, locals := 43 } : Room) [.ref ob, .int a1, .int a2, .int a3, .int a4] [[(ob, .inr (0, [.ref hA, .ref tA, .ref lA, .ref gA, va_rf fa, va_rf oa]))], [(gA, .inr (2, [.int n, .ref gB]))], [(gB, .inl (d.2.1 0, 10, .inl near))]] 0 0 (fun v w1 => ∃ (r : Int32), v = some (.int r) ∧ w1 = [[(ob, .inr (0, [.ref hA, .ref tA, .ref lA, .ref gA, va_rf fa, va_rf oa]))], [(gA, .inr (2, [.int n, .ref gB]))], [(gB, .inl (d.2.1 0, 10, .inl near))]] ∧ Q r) := by
  refine g_enter (by decide) (Nat.le_of_ble_eq_true rfl) ?_
  intro p e s m args below meth c A ls hF hH hl hin
  have hF : g_F p m c cX0_isPathOfFour 6 s args RX0 meth (Option.some FieldType.boolean) := hF
  have hl : lv_has ls 6 [(0, .ref ob), (1, .int a1), (2, .int a2), (3, .int a3), (4, .int a4)] := hl
  have bk_42 : ∀ (y0 : Int32) (H : Heap) (locs : List Loc) (ls : Array Slot), g_HS d A s [[(ob, .inr (0, [.ref hA, .ref tA, .ref lA, .ref gA, va_rf fa, va_rf oa]))], [(gA, .inr (2, [.int n, .ref gB]))], [(gB, .inl (d.2.1 0, 10, .inl near))]] H locs → lv_has ls 6 [(0, .ref ob), (1, .int a1), (2, .int a2), (3, .int a3), (4, .int a4)] → wb_X0_isPathOfFour_42 a1 a2 a3 a4 n near Q y0 → W p l e ({ frames := 2, cells := 0, slots := 0, locals := 43 } : Room) s m args below meth c H locs 0 0 (g_E d (fun v w1 => ∃ (r : Int32), v = some (.int r) ∧ w1 = [[(ob, .inr (0, [.ref hA, .ref tA, .ref lA, .ref gA, va_rf fa, va_rf oa]))], [(gA, .inr (2, [.int n, .ref gB]))], [(gB, .inl (d.2.1 0, 10, .inl near))]] ∧ Q r) A below args s 0 0) (F0 m 42 ls [.int y0]) := by
    intro y0 H locs ls hH hl hw
    unfold wb_X0_isPathOfFour_42 at hw
    refine lv_istore (lv' := [(5, .int y0), (0, .ref ob), (1, .int a1), (2, .int a2), (3, .int a3), (4, .int a4)]) hF.1.1 hF.1.2.1 dX0_isPathOfFour_42 hl (by decide) rfl (fun ls hl => ?_)
    refine lv_iload hF.1.1 hF.1.2.1 dX0_isPathOfFour_44 (lv_at hl 0 rfl) ?_
    refine lv_if_eq (tgt := 108) hF.1.1 hF.1.2.1 dX0_isPathOfFour_46 (by decide) (fun c_17 => ?_) (fun c_17 => ?_)
    · have hw := hw.1 c_17
      refine lv_iconst (v := 0) hF.1.1 hF.1.2.1 dX0_isPathOfFour_108 (by decide) ?_
      exact g_zret hF rfl hH ⟨0, rfl, rfl, hw⟩ dX0_isPathOfFour_109
    · have hw := hw.2 c_17
      refine lv_iload_n hF.1.1 hF.1.2.1 dX0_isPathOfFour_49 rfl (lv_at hl 2 rfl) ?_
      refine lv_iload hF.1.1 hF.1.2.1 dX0_isPathOfFour_50 (lv_at hl 5 rfl) ?_
      refine lv_icmp_ge (tgt := 108) hF.1.1 hF.1.2.1 dX0_isPathOfFour_52 (by decide) (fun c_18 => ?_) (fun c_18 => ?_)
      · have hw := hw.1 c_18
        refine lv_iconst (v := 0) hF.1.1 hF.1.2.1 dX0_isPathOfFour_108 (by decide) ?_
        exact g_zret hF rfl hH ⟨0, rfl, rfl, hw⟩ dX0_isPathOfFour_109
      · have hw := hw.2 c_18
        refine lv_iload_n hF.1.1 hF.1.2.1 dX0_isPathOfFour_55 rfl (lv_at hl 2 rfl) ?_
        refine lv_iload_n hF.1.1 hF.1.2.1 dX0_isPathOfFour_56 rfl (lv_at hl 4 rfl) ?_
        refine lv_icmp_eq (tgt := 108) hF.1.1 hF.1.2.1 dX0_isPathOfFour_57 (by decide) (fun c_19 => ?_) (fun c_19 => ?_)
        · have hw := hw.1 c_19
          refine lv_iconst (v := 0) hF.1.1 hF.1.2.1 dX0_isPathOfFour_108 (by decide) ?_
          exact g_zret hF rfl hH ⟨0, rfl, rfl, hw⟩ dX0_isPathOfFour_109
        · have hw := hw.2 c_19
          refine lv_iload_n hF.1.1 hF.1.2.1 dX0_isPathOfFour_60 rfl (lv_at hl 3 rfl) ?_
          refine lv_iload hF.1.1 hF.1.2.1 dX0_isPathOfFour_61 (lv_at hl 5 rfl) ?_
          refine lv_icmp_eq (tgt := 108) hF.1.1 hF.1.2.1 dX0_isPathOfFour_63 (by decide) (fun c_20 => ?_) (fun c_20 => ?_)
          · have hw := hw.1 c_20
            refine lv_iconst (v := 0) hF.1.1 hF.1.2.1 dX0_isPathOfFour_108 (by decide) ?_
            exact g_zret hF rfl hH ⟨0, rfl, rfl, hw⟩ dX0_isPathOfFour_109
          · have hw := hw.2 c_20
            refine lv_aload_n hF.1.1 hF.1.2.1 dX0_isPathOfFour_66 rfl (lv_at hl 1 rfl) ?_
            refine g_get (v := .ref gA) hF hH in_X0 rfl 0 0 rfl rfl 3 (by decide) q186 (fun _ h9 => h9) rfl dX0_isPathOfFour_67 ?_
            refine lv_iload_n hF.1.1 hF.1.2.1 dX0_isPathOfFour_70 rfl (lv_at hl 2 rfl) ?_
            refine lv_iload_n hF.1.1 hF.1.2.1 dX0_isPathOfFour_71 rfl (lv_at hl 4 rfl) ?_
            refine g_cV [.int a1, .int a3] 2 rfl hF (met_X2_linked l hl0 d gA a1 a3 n gB near _ hw) q356 q237 q238 q94 q239 rfl rfl (by decide +kernel) ⟨Nat.le_of_ble_eq_true rfl, Nat.le_of_ble_eq_true rfl⟩ hH [1, 2] rfl rfl rfl 0 0 rfl rfl rfl hl.1 (Nat.le_of_ble_eq_true rfl) dX0_isPathOfFour_72 ⟨(by first | exact Nat.le_of_ble_eq_true rfl | omega | (dsimp only; omega)), (by first | exact Nat.le_of_ble_eq_true rfl | omega | (dsimp only; omega))⟩ (fun v w1 H locs hq hH => ?_)
            obtain ⟨r_21, rfl, rfl, hw⟩ := hq
            have hH : g_HS d A s [[(ob, .inr (0, [.ref hA, .ref tA, .ref lA, .ref gA, va_rf fa, va_rf oa]))], [(gA, .inr (2, [.int n, .ref gB]))], [(gB, .inl (d.2.1 0, 10, .inl near))]] H locs := hH
            refine W.eq (g2 := (F0 m 75 ls [.int r_21])) rfl ?_
            refine lv_if_ne (tgt := 108) hF.1.1 hF.1.2.1 dX0_isPathOfFour_75 (by decide) (fun c_22 => ?_) (fun c_22 => ?_)
            · have hw := hw.1 c_22
              refine lv_iconst (v := 0) hF.1.1 hF.1.2.1 dX0_isPathOfFour_108 (by decide) ?_
              exact g_zret hF rfl hH ⟨0, rfl, rfl, hw⟩ dX0_isPathOfFour_109
            · have hw := hw.2 c_22
              refine lv_aload_n hF.1.1 hF.1.2.1 dX0_isPathOfFour_78 rfl (lv_at hl 1 rfl) ?_
              refine g_get (v := .ref gA) hF hH in_X0 rfl 0 0 rfl rfl 3 (by decide) q186 (fun _ h9 => h9) rfl dX0_isPathOfFour_79 ?_
              refine lv_iload_n hF.1.1 hF.1.2.1 dX0_isPathOfFour_82 rfl (lv_at hl 2 rfl) ?_
              refine lv_iload hF.1.1 hF.1.2.1 dX0_isPathOfFour_83 (lv_at hl 5 rfl) ?_
              refine g_cV [.int a1, .int a4] 2 rfl hF (met_X2_linked l hl0 d gA a1 a4 n gB near _ hw) q356 q237 q238 q94 q239 rfl rfl (by decide +kernel) ⟨Nat.le_of_ble_eq_true rfl, Nat.le_of_ble_eq_true rfl⟩ hH [1, 2] rfl rfl rfl 0 0 rfl rfl rfl hl.1 (Nat.le_of_ble_eq_true rfl) dX0_isPathOfFour_85 ⟨(by first | exact Nat.le_of_ble_eq_true rfl | omega | (dsimp only; omega)), (by first | exact Nat.le_of_ble_eq_true rfl | omega | (dsimp only; omega))⟩ (fun v w1 H locs hq hH => ?_)
              obtain ⟨r_23, rfl, rfl, hw⟩ := hq
              have hH : g_HS d A s [[(ob, .inr (0, [.ref hA, .ref tA, .ref lA, .ref gA, va_rf fa, va_rf oa]))], [(gA, .inr (2, [.int n, .ref gB]))], [(gB, .inl (d.2.1 0, 10, .inl near))]] H locs := hH
              refine W.eq (g2 := (F0 m 88 ls [.int r_23])) rfl ?_
              refine lv_if_ne (tgt := 108) hF.1.1 hF.1.2.1 dX0_isPathOfFour_88 (by decide) (fun c_24 => ?_) (fun c_24 => ?_)
              · have hw := hw.1 c_24
                refine lv_iconst (v := 0) hF.1.1 hF.1.2.1 dX0_isPathOfFour_108 (by decide) ?_
                exact g_zret hF rfl hH ⟨0, rfl, rfl, hw⟩ dX0_isPathOfFour_109
              · have hw := hw.2 c_24
                refine lv_aload_n hF.1.1 hF.1.2.1 dX0_isPathOfFour_91 rfl (lv_at hl 1 rfl) ?_
                refine g_get (v := .ref gA) hF hH in_X0 rfl 0 0 rfl rfl 3 (by decide) q186 (fun _ h9 => h9) rfl dX0_isPathOfFour_92 ?_
                refine lv_iload_n hF.1.1 hF.1.2.1 dX0_isPathOfFour_95 rfl (lv_at hl 3 rfl) ?_
                refine lv_iload hF.1.1 hF.1.2.1 dX0_isPathOfFour_96 (lv_at hl 5 rfl) ?_
                refine g_cV [.int a2, .int a4] 2 rfl hF (met_X2_linked l hl0 d gA a2 a4 n gB near _ hw) q356 q237 q238 q94 q239 rfl rfl (by decide +kernel) ⟨Nat.le_of_ble_eq_true rfl, Nat.le_of_ble_eq_true rfl⟩ hH [1, 2] rfl rfl rfl 0 0 rfl rfl rfl hl.1 (Nat.le_of_ble_eq_true rfl) dX0_isPathOfFour_98 ⟨(by first | exact Nat.le_of_ble_eq_true rfl | omega | (dsimp only; omega)), (by first | exact Nat.le_of_ble_eq_true rfl | omega | (dsimp only; omega))⟩ (fun v w1 H locs hq hH => ?_)
                obtain ⟨r_25, rfl, rfl, hw⟩ := hq
                have hH : g_HS d A s [[(ob, .inr (0, [.ref hA, .ref tA, .ref lA, .ref gA, va_rf fa, va_rf oa]))], [(gA, .inr (2, [.int n, .ref gB]))], [(gB, .inl (d.2.1 0, 10, .inl near))]] H locs := hH
                refine W.eq (g2 := (F0 m 101 ls [.int r_25])) rfl ?_
                refine lv_if_ne (tgt := 108) hF.1.1 hF.1.2.1 dX0_isPathOfFour_101 (by decide) (fun c_26 => ?_) (fun c_26 => ?_)
                · have hw := hw.1 c_26
                  refine lv_iconst (v := 0) hF.1.1 hF.1.2.1 dX0_isPathOfFour_108 (by decide) ?_
                  exact g_zret hF rfl hH ⟨0, rfl, rfl, hw⟩ dX0_isPathOfFour_109
                · have hw := hw.2 c_26
                  refine lv_iconst (v := 1) hF.1.1 hF.1.2.1 dX0_isPathOfFour_104 (by decide) ?_
                  refine lv_goto (tgt := 109) hF.1.1 hF.1.2.1 dX0_isPathOfFour_105 (by decide) ?_
                  exact g_zret hF rfl hH ⟨1, rfl, rfl, hw⟩ dX0_isPathOfFour_109
  have bk_41 : ∀ (H : Heap) (locs : List Loc) (ls : Array Slot), g_HS d A s [[(ob, .inr (0, [.ref hA, .ref tA, .ref lA, .ref gA, va_rf fa, va_rf oa]))], [(gA, .inr (2, [.int n, .ref gB]))], [(gB, .inl (d.2.1 0, 10, .inl near))]] H locs → lv_has ls 6 [(0, .ref ob), (1, .int a1), (2, .int a2), (3, .int a3), (4, .int a4)] → wb_X0_isPathOfFour_41 a1 a2 a3 a4 n near Q → W p l e ({ frames := 2, cells := 0, slots := 0, locals := 43 } : Room) s m args below meth c H locs 0 0 (g_E d (fun v w1 => ∃ (r : Int32), v = some (.int r) ∧ w1 = [[(ob, .inr (0, [.ref hA, .ref tA, .ref lA, .ref gA, va_rf fa, va_rf oa]))], [(gA, .inr (2, [.int n, .ref gB]))], [(gB, .inl (d.2.1 0, 10, .inl near))]] ∧ Q r) A below args s 0 0) (F0 m 41 ls []) := by
    intro  H locs ls hH hl hw
    unfold wb_X0_isPathOfFour_41 at hw
    refine lv_iconst (v := 0) hF.1.1 hF.1.2.1 dX0_isPathOfFour_41 (by decide) ?_
    exact bk_42 0 _ _ _ hH hl hw
  unfold wp_X0_isPathOfFour at hw
  refine lv_aload_n hF.1.1 hF.1.2.1 dX0_isPathOfFour_0 rfl (lv_at hl 0 rfl) ?_
  refine g_get (v := .ref gA) hF hH in_X0 rfl 0 0 rfl rfl 3 (by decide) q186 (fun _ h9 => h9) rfl dX0_isPathOfFour_1 ?_
  refine lv_iload_n hF.1.1 hF.1.2.1 dX0_isPathOfFour_4 rfl (lv_at hl 1 rfl) ?_
  refine lv_iload_n hF.1.1 hF.1.2.1 dX0_isPathOfFour_5 rfl (lv_at hl 2 rfl) ?_
  refine g_cV [.int a1, .int a2] 2 rfl hF (met_X2_linked l hl0 d gA a1 a2 n gB near _ hw) q356 q237 q238 q94 q239 rfl rfl (by decide +kernel) ⟨Nat.le_of_ble_eq_true rfl, Nat.le_of_ble_eq_true rfl⟩ hH [1, 2] rfl rfl rfl 0 0 rfl rfl rfl hl.1 (Nat.le_of_ble_eq_true rfl) dX0_isPathOfFour_6 ⟨(by first | exact Nat.le_of_ble_eq_true rfl | omega | (dsimp only; omega)), (by first | exact Nat.le_of_ble_eq_true rfl | omega | (dsimp only; omega))⟩ (fun v w1 H locs hq hH => ?_)
  obtain ⟨r_27, rfl, rfl, hw⟩ := hq
  have hH : g_HS d A s [[(ob, .inr (0, [.ref hA, .ref tA, .ref lA, .ref gA, va_rf fa, va_rf oa]))], [(gA, .inr (2, [.int n, .ref gB]))], [(gB, .inl (d.2.1 0, 10, .inl near))]] H locs := hH
  refine W.eq (g2 := (F0 m 9 ls [.int r_27])) rfl ?_
  refine lv_if_eq (tgt := 41) hF.1.1 hF.1.2.1 dX0_isPathOfFour_9 (by decide) (fun c_28 => ?_) (fun c_28 => ?_)
  · have hw := hw.1 c_28
    exact bk_41 _ _ _ hH hl hw
  · have hw := hw.2 c_28
    refine lv_aload_n hF.1.1 hF.1.2.1 dX0_isPathOfFour_12 rfl (lv_at hl 0 rfl) ?_
    refine g_get (v := .ref gA) hF hH in_X0 rfl 0 0 rfl rfl 3 (by decide) q186 (fun _ h9 => h9) rfl dX0_isPathOfFour_13 ?_
    refine lv_iload_n hF.1.1 hF.1.2.1 dX0_isPathOfFour_16 rfl (lv_at hl 2 rfl) ?_
    refine lv_iload_n hF.1.1 hF.1.2.1 dX0_isPathOfFour_17 rfl (lv_at hl 3 rfl) ?_
    refine g_cV [.int a2, .int a3] 2 rfl hF (met_X2_linked l hl0 d gA a2 a3 n gB near _ hw) q356 q237 q238 q94 q239 rfl rfl (by decide +kernel) ⟨Nat.le_of_ble_eq_true rfl, Nat.le_of_ble_eq_true rfl⟩ hH [1, 2] rfl rfl rfl 0 0 rfl rfl rfl hl.1 (Nat.le_of_ble_eq_true rfl) dX0_isPathOfFour_18 ⟨(by first | exact Nat.le_of_ble_eq_true rfl | omega | (dsimp only; omega)), (by first | exact Nat.le_of_ble_eq_true rfl | omega | (dsimp only; omega))⟩ (fun v w1 H locs hq hH => ?_)
    obtain ⟨r_29, rfl, rfl, hw⟩ := hq
    have hH : g_HS d A s [[(ob, .inr (0, [.ref hA, .ref tA, .ref lA, .ref gA, va_rf fa, va_rf oa]))], [(gA, .inr (2, [.int n, .ref gB]))], [(gB, .inl (d.2.1 0, 10, .inl near))]] H locs := hH
    refine W.eq (g2 := (F0 m 21 ls [.int r_29])) rfl ?_
    refine lv_if_eq (tgt := 41) hF.1.1 hF.1.2.1 dX0_isPathOfFour_21 (by decide) (fun c_30 => ?_) (fun c_30 => ?_)
    · have hw := hw.1 c_30
      exact bk_41 _ _ _ hH hl hw
    · have hw := hw.2 c_30
      refine lv_aload_n hF.1.1 hF.1.2.1 dX0_isPathOfFour_24 rfl (lv_at hl 0 rfl) ?_
      refine g_get (v := .ref gA) hF hH in_X0 rfl 0 0 rfl rfl 3 (by decide) q186 (fun _ h9 => h9) rfl dX0_isPathOfFour_25 ?_
      refine lv_iload_n hF.1.1 hF.1.2.1 dX0_isPathOfFour_28 rfl (lv_at hl 3 rfl) ?_
      refine lv_iload hF.1.1 hF.1.2.1 dX0_isPathOfFour_29 (lv_at hl 4 rfl) ?_
      refine g_cV [.int a3, .int a4] 2 rfl hF (met_X2_linked l hl0 d gA a3 a4 n gB near _ hw) q356 q237 q238 q94 q239 rfl rfl (by decide +kernel) ⟨Nat.le_of_ble_eq_true rfl, Nat.le_of_ble_eq_true rfl⟩ hH [1, 2] rfl rfl rfl 0 0 rfl rfl rfl hl.1 (Nat.le_of_ble_eq_true rfl) dX0_isPathOfFour_31 ⟨(by first | exact Nat.le_of_ble_eq_true rfl | omega | (dsimp only; omega)), (by first | exact Nat.le_of_ble_eq_true rfl | omega | (dsimp only; omega))⟩ (fun v w1 H locs hq hH => ?_)
      obtain ⟨r_31, rfl, rfl, hw⟩ := hq
      have hH : g_HS d A s [[(ob, .inr (0, [.ref hA, .ref tA, .ref lA, .ref gA, va_rf fa, va_rf oa]))], [(gA, .inr (2, [.int n, .ref gB]))], [(gB, .inl (d.2.1 0, 10, .inl near))]] H locs := hH
      refine W.eq (g2 := (F0 m 34 ls [.int r_31])) rfl ?_
      refine lv_if_eq (tgt := 41) hF.1.1 hF.1.2.1 dX0_isPathOfFour_34 (by decide) (fun c_32 => ?_) (fun c_32 => ?_)
      · have hw := hw.1 c_32
        exact bk_41 _ _ _ hH hl hw
      · have hw := hw.2 c_32
        refine lv_iconst (v := 1) hF.1.1 hF.1.2.1 dX0_isPathOfFour_37 (by decide) ?_
        refine lv_goto (tgt := 42) hF.1.1 hF.1.2.1 dX0_isPathOfFour_38 (by decide) ?_
        exact bk_42 1 _ _ _ hH hl hw

def wb_X0_pathOfFour_21 (a1 : Int32) (n : Int32) (near : Nat → Int32) (x2 : Int32) (Q : Int32 → Prop) : Nat → Int32 → Prop
  | 0, _ => False
  | fu + 1, x3 => (((((x2 * x2) * x2) * x2) ≤ x3 → (Q (-4))) ∧ (¬ (((x2 * x2) * x2) * x2) ≤ x3 → (¬ ((x2 * x2) * x2) = 0 ∧ (¬ (x2 * x2) = 0 ∧ (¬ x2 = 0 ∧ (¬ x2 = 0 ∧ (¬ x2 = 0 ∧ (¬ x2 = 0 ∧ (wp_X0_isPathOfFour (x3 / ((x2 * x2) * x2)) ((x3 / (x2 * x2)) - (x3 / (x2 * x2)) / x2 * x2) ((x3 / x2) - (x3 / x2) / x2 * x2) (x3 - x3 / x2 * x2) n near (fun r_22 => ((r_22 = 0 → (wb_X0_pathOfFour_21 a1 n near x2 Q fu) (x3 + 1)) ∧ (¬ r_22 = 0 → ((¬ a1 = 0 → ((¬ a1 = 1 → ((¬ a1 = 2 → (Q (x3 - x3 / x2 * x2))) ∧ (a1 = 2 → (Q ((x3 / x2) - (x3 / x2) / x2 * x2))))) ∧ (a1 = 1 → (Q ((x3 / (x2 * x2)) - (x3 / (x2 * x2)) / x2 * x2))))) ∧ (a1 = 0 → (Q (x3 / ((x2 * x2) * x2)))))))))))))))))
def wp_X0_pathOfFour (a1 : Int32) (n : Int32) (near : Nat → Int32) (Q : Int32 → Prop) : Prop := (wp_X0_inRange a1 0 3 (fun r_27 => ((¬ r_27 = 0 → (∃ f21, wb_X0_pathOfFour_21 a1 n near n Q f21 0)) ∧ (r_27 = 0 → (Q (-1))))))
set_option maxHeartbeats 4000000 in
set_option maxRecDepth 100000 in
theorem met_X0_pathOfFour (l : Launch) (hl0 : l.stackTraces = false) (d : g_D) (ob : Nat) (a1 : Int32) (hA : Nat) (tA : Nat) (lA : Nat) (gA : Nat) (fa : Option Nat) (oa : Option Nat) (n : Int32) (gB : Nat) (near : Nat → Int32) (Q : Int32 → Prop) (hw : wp_X0_pathOfFour a1 n near Q) : g_Met l d yX0_pathOfFour cX0_pathOfFour 8 (Option.some FieldType.int) ({ frames := 3, cells := 0, slots := 0, locals := 68 } : Room) [.ref ob, .int a1] [[(ob, .inr (0, [.ref hA, .ref tA, .ref lA, .ref gA, va_rf fa, va_rf oa]))], [(gA, .inr (2, [.int n, .ref gB]))], [(gB, .inl (d.2.1 0, 10, .inl near))]] 0 0 (fun v w1 => ∃ (r : Int32), v = some (.int r) ∧ w1 = [[(ob, .inr (0, [.ref hA, .ref tA, .ref lA, .ref gA, va_rf fa, va_rf oa]))], [(gA, .inr (2, [.int n, .ref gB]))], [(gB, .inl (d.2.1 0, 10, .inl near))]] ∧ Q r) := by
  refine g_enter (by decide) (Nat.le_of_ble_eq_true rfl) ?_
  intro p e s m args below meth c A ls hF hH hl hin
  have hF : g_F p m c cX0_pathOfFour 8 s args RX0 meth (Option.some FieldType.int) := hF
  have hl : lv_has ls 8 [(0, .ref ob), (1, .int a1)] := hl
  have bk_21 : ∀ (x2 : Int32) (fu : Nat) (x3 : Int32) (H : Heap) (locs : List Loc) (ls : Array Slot), g_HS d A s [[(ob, .inr (0, [.ref hA, .ref tA, .ref lA, .ref gA, va_rf fa, va_rf oa]))], [(gA, .inr (2, [.int n, .ref gB]))], [(gB, .inl (d.2.1 0, 10, .inl near))]] H locs → lv_has ls 8 [(0, .ref ob), (1, .int a1), (2, .int x2), (3, .int x3)] → wb_X0_pathOfFour_21 a1 n near x2 Q fu x3 → W p l e ({ frames := 3, cells := 0, slots := 0, locals := 68 } : Room) s m args below meth c H locs 0 0 (g_E d (fun v w1 => ∃ (r : Int32), v = some (.int r) ∧ w1 = [[(ob, .inr (0, [.ref hA, .ref tA, .ref lA, .ref gA, va_rf fa, va_rf oa]))], [(gA, .inr (2, [.int n, .ref gB]))], [(gB, .inl (d.2.1 0, 10, .inl near))]] ∧ Q r) A below args s 0 0) (F0 m 21 ls []) := by
    intro x2 fu
    induction fu with
    | zero => intro x3 H locs ls hH hl hw; rw [wb_X0_pathOfFour_21] at hw; exact hw.elim
    | succ fu ih =>
      intro x3 H locs ls hH hl hw
      rw [wb_X0_pathOfFour_21] at hw
      refine lv_iload_n hF.1.1 hF.1.2.1 dX0_pathOfFour_21 rfl (lv_at hl 3 rfl) ?_
      refine lv_iload_n hF.1.1 hF.1.2.1 dX0_pathOfFour_22 rfl (lv_at hl 2 rfl) ?_
      refine lv_iload_n hF.1.1 hF.1.2.1 dX0_pathOfFour_23 rfl (lv_at hl 2 rfl) ?_
      refine lv_imul hF.1.1 hF.1.2.1 dX0_pathOfFour_24 ?_
      refine lv_iload_n hF.1.1 hF.1.2.1 dX0_pathOfFour_25 rfl (lv_at hl 2 rfl) ?_
      refine lv_imul hF.1.1 hF.1.2.1 dX0_pathOfFour_26 ?_
      refine lv_iload_n hF.1.1 hF.1.2.1 dX0_pathOfFour_27 rfl (lv_at hl 2 rfl) ?_
      refine lv_imul hF.1.1 hF.1.2.1 dX0_pathOfFour_28 ?_
      refine lv_icmp_ge (tgt := 115) hF.1.1 hF.1.2.1 dX0_pathOfFour_29 (by decide) (fun c_15 => ?_) (fun c_15 => ?_)
      · have hw := hw.1 c_15
        refine lv_bipush (v := (-4)) hF.1.1 hF.1.2.1 dX0_pathOfFour_115 (by decide) ?_
        exact g_iret hF hH ⟨(-4), rfl, rfl, hw⟩ dX0_pathOfFour_117
      · have hw := hw.2 c_15
        refine lv_iload_n hF.1.1 hF.1.2.1 dX0_pathOfFour_32 rfl (lv_at hl 3 rfl) ?_
        refine lv_iload_n hF.1.1 hF.1.2.1 dX0_pathOfFour_33 rfl (lv_at hl 2 rfl) ?_
        refine lv_iload_n hF.1.1 hF.1.2.1 dX0_pathOfFour_34 rfl (lv_at hl 2 rfl) ?_
        refine lv_imul hF.1.1 hF.1.2.1 dX0_pathOfFour_35 ?_
        refine lv_iload_n hF.1.1 hF.1.2.1 dX0_pathOfFour_36 rfl (lv_at hl 2 rfl) ?_
        refine lv_imul hF.1.1 hF.1.2.1 dX0_pathOfFour_37 ?_
        obtain ⟨hz_16, hw⟩ := hw
        refine lv_idiv hF.1.1 hF.1.2.1 dX0_pathOfFour_38 hz_16 ?_
        refine lv_istore (lv' := [(4, .int (x3 / ((x2 * x2) * x2))), (0, .ref ob), (1, .int a1), (2, .int x2), (3, .int x3)]) hF.1.1 hF.1.2.1 dX0_pathOfFour_39 hl (by decide) rfl (fun ls hl => ?_)
        refine lv_iload_n hF.1.1 hF.1.2.1 dX0_pathOfFour_41 rfl (lv_at hl 4 rfl) ?_
        refine lv_iload_n hF.1.1 hF.1.2.1 dX0_pathOfFour_42 rfl (lv_at hl 3 rfl) ?_
        refine lv_iload_n hF.1.1 hF.1.2.1 dX0_pathOfFour_43 rfl (lv_at hl 3 rfl) ?_
        refine lv_imul hF.1.1 hF.1.2.1 dX0_pathOfFour_44 ?_
        obtain ⟨hz_17, hw⟩ := hw
        refine lv_idiv hF.1.1 hF.1.2.1 dX0_pathOfFour_45 hz_17 ?_
        refine lv_iload_n hF.1.1 hF.1.2.1 dX0_pathOfFour_46 rfl (lv_at hl 3 rfl) ?_
        obtain ⟨hz_18, hw⟩ := hw
        refine lv_irem hF.1.1 hF.1.2.1 dX0_pathOfFour_47 hz_18 ?_
        refine lv_istore (lv' := [(5, .int ((x3 / (x2 * x2)) - (x3 / (x2 * x2)) / x2 * x2)), (4, .int (x3 / ((x2 * x2) * x2))), (0, .ref ob), (1, .int a1), (2, .int x2), (3, .int x3)]) hF.1.1 hF.1.2.1 dX0_pathOfFour_48 hl (by decide) rfl (fun ls hl => ?_)
        refine lv_iload_n hF.1.1 hF.1.2.1 dX0_pathOfFour_50 rfl (lv_at hl 5 rfl) ?_
        refine lv_iload_n hF.1.1 hF.1.2.1 dX0_pathOfFour_51 rfl (lv_at hl 4 rfl) ?_
        obtain ⟨hz_19, hw⟩ := hw
        refine lv_idiv hF.1.1 hF.1.2.1 dX0_pathOfFour_52 hz_19 ?_
        refine lv_iload_n hF.1.1 hF.1.2.1 dX0_pathOfFour_53 rfl (lv_at hl 4 rfl) ?_
        obtain ⟨hz_20, hw⟩ := hw
        refine lv_irem hF.1.1 hF.1.2.1 dX0_pathOfFour_54 hz_20 ?_
        refine lv_istore (lv' := [(6, .int ((x3 / x2) - (x3 / x2) / x2 * x2)), (5, .int ((x3 / (x2 * x2)) - (x3 / (x2 * x2)) / x2 * x2)), (4, .int (x3 / ((x2 * x2) * x2))), (0, .ref ob), (1, .int a1), (2, .int x2), (3, .int x3)]) hF.1.1 hF.1.2.1 dX0_pathOfFour_55 hl (by decide) rfl (fun ls hl => ?_)
        refine lv_iload_n hF.1.1 hF.1.2.1 dX0_pathOfFour_57 rfl (lv_at hl 6 rfl) ?_
        refine lv_iload_n hF.1.1 hF.1.2.1 dX0_pathOfFour_58 rfl (lv_at hl 5 rfl) ?_
        obtain ⟨hz_21, hw⟩ := hw
        refine lv_irem hF.1.1 hF.1.2.1 dX0_pathOfFour_59 hz_21 ?_
        refine lv_istore (lv' := [(7, .int (x3 - x3 / x2 * x2)), (6, .int ((x3 / x2) - (x3 / x2) / x2 * x2)), (5, .int ((x3 / (x2 * x2)) - (x3 / (x2 * x2)) / x2 * x2)), (4, .int (x3 / ((x2 * x2) * x2))), (0, .ref ob), (1, .int a1), (2, .int x2), (3, .int x3)]) hF.1.1 hF.1.2.1 dX0_pathOfFour_60 hl (by decide) rfl (fun ls hl => ?_)
        refine lv_aload_n hF.1.1 hF.1.2.1 dX0_pathOfFour_62 rfl (lv_at hl 4 rfl) ?_
        refine lv_iload hF.1.1 hF.1.2.1 dX0_pathOfFour_63 (lv_at hl 3 rfl) ?_
        refine lv_iload hF.1.1 hF.1.2.1 dX0_pathOfFour_65 (lv_at hl 2 rfl) ?_
        refine lv_iload hF.1.1 hF.1.2.1 dX0_pathOfFour_67 (lv_at hl 1 rfl) ?_
        refine lv_iload hF.1.1 hF.1.2.1 dX0_pathOfFour_69 (lv_at hl 0 rfl) ?_
        refine g_cV [.int (x3 / ((x2 * x2) * x2)), .int ((x3 / (x2 * x2)) - (x3 / (x2 * x2)) / x2 * x2), .int ((x3 / x2) - (x3 / x2) / x2 * x2), .int (x3 - x3 / x2 * x2)] 4 rfl hF (met_X0_isPathOfFour l hl0 d ob (x3 / ((x2 * x2) * x2)) ((x3 / (x2 * x2)) - (x3 / (x2 * x2)) / x2 * x2) ((x3 / x2) - (x3 / x2) / x2 * x2) (x3 - x3 / x2 * x2) hA tA lA gA fa oa n gB near _ hw) q914 q916 qs22 q92 q917 rfl rfl (by decide +kernel) ⟨Nat.le_of_ble_eq_true rfl, Nat.le_of_ble_eq_true rfl⟩ hH [0, 1, 2] rfl rfl rfl 0 0 rfl rfl rfl hl.1 (Nat.le_of_ble_eq_true rfl) dX0_pathOfFour_71 ⟨(by first | exact Nat.le_of_ble_eq_true rfl | omega | (dsimp only; omega)), (by first | exact Nat.le_of_ble_eq_true rfl | omega | (dsimp only; omega))⟩ (fun v w1 H locs hq hH => ?_)
        obtain ⟨r_22, rfl, rfl, hw⟩ := hq
        have hH : g_HS d A s [[(ob, .inr (0, [.ref hA, .ref tA, .ref lA, .ref gA, va_rf fa, va_rf oa]))], [(gA, .inr (2, [.int n, .ref gB]))], [(gB, .inl (d.2.1 0, 10, .inl near))]] H locs := hH
        refine W.eq (g2 := (F0 m 74 ls [.int r_22])) rfl ?_
        refine lv_if_eq (tgt := 109) hF.1.1 hF.1.2.1 dX0_pathOfFour_74 (by decide) (fun c_23 => ?_) (fun c_23 => ?_)
        · have hw := hw.1 c_23
          refine lv_iinc (v := (x3 + 1)) (lv' := [(3, .int (x3 + 1)), (7, .int (x3 - x3 / x2 * x2)), (6, .int ((x3 / x2) - (x3 / x2) / x2 * x2)), (5, .int ((x3 / (x2 * x2)) - (x3 / (x2 * x2)) / x2 * x2)), (4, .int (x3 / ((x2 * x2) * x2))), (0, .ref ob), (1, .int a1), (2, .int x2)]) hF.1.1 hF.1.2.1 dX0_pathOfFour_109 hl (k := 7) rfl rfl (by decide) rfl (fun ls hl => ?_)
          refine lv_goto (tgt := 21) hF.1.1 hF.1.2.1 dX0_pathOfFour_112 (by decide) ?_
          have hl := lv_sub hl (l' := [(0, .ref ob), (1, .int a1), (2, .int x2), (3, .int (x3 + 1))]) [5, 6, 7, 0] rfl
          exact ih (x3 + 1) _ _ _ hH hl hw
        · have hw := hw.2 c_23
          refine lv_iload_n hF.1.1 hF.1.2.1 dX0_pathOfFour_77 rfl (lv_at hl 5 rfl) ?_
          refine lv_if_ne (tgt := 86) hF.1.1 hF.1.2.1 dX0_pathOfFour_78 (by decide) (fun c_24 => ?_) (fun c_24 => ?_)
          · have hw := hw.1 c_24
            refine lv_iload_n hF.1.1 hF.1.2.1 dX0_pathOfFour_86 rfl (lv_at hl 5 rfl) ?_
            refine lv_iconst (v := 1) hF.1.1 hF.1.2.1 dX0_pathOfFour_87 (by decide) ?_
            refine lv_icmp_ne (tgt := 96) hF.1.1 hF.1.2.1 dX0_pathOfFour_88 (by decide) (fun c_25 => ?_) (fun c_25 => ?_)
            · have hw := hw.1 c_25
              refine lv_iload_n hF.1.1 hF.1.2.1 dX0_pathOfFour_96 rfl (lv_at hl 5 rfl) ?_
              refine lv_iconst (v := 2) hF.1.1 hF.1.2.1 dX0_pathOfFour_97 (by decide) ?_
              refine lv_icmp_ne (tgt := 106) hF.1.1 hF.1.2.1 dX0_pathOfFour_98 (by decide) (fun c_26 => ?_) (fun c_26 => ?_)
              · have hw := hw.1 c_26
                refine lv_iload hF.1.1 hF.1.2.1 dX0_pathOfFour_106 (lv_at hl 0 rfl) ?_
                exact g_iret hF hH ⟨(x3 - x3 / x2 * x2), rfl, rfl, hw⟩ dX0_pathOfFour_108
              · have hw := hw.2 c_26
                refine lv_iload hF.1.1 hF.1.2.1 dX0_pathOfFour_101 (lv_at hl 1 rfl) ?_
                refine lv_goto (tgt := 108) hF.1.1 hF.1.2.1 dX0_pathOfFour_103 (by decide) ?_
                exact g_iret hF hH ⟨((x3 / x2) - (x3 / x2) / x2 * x2), rfl, rfl, hw⟩ dX0_pathOfFour_108
            · have hw := hw.2 c_25
              refine lv_iload hF.1.1 hF.1.2.1 dX0_pathOfFour_91 (lv_at hl 2 rfl) ?_
              refine lv_goto (tgt := 108) hF.1.1 hF.1.2.1 dX0_pathOfFour_93 (by decide) ?_
              exact g_iret hF hH ⟨((x3 / (x2 * x2)) - (x3 / (x2 * x2)) / x2 * x2), rfl, rfl, hw⟩ dX0_pathOfFour_108
          · have hw := hw.2 c_24
            refine lv_iload hF.1.1 hF.1.2.1 dX0_pathOfFour_81 (lv_at hl 3 rfl) ?_
            refine lv_goto (tgt := 108) hF.1.1 hF.1.2.1 dX0_pathOfFour_83 (by decide) ?_
            exact g_iret hF hH ⟨(x3 / ((x2 * x2) * x2)), rfl, rfl, hw⟩ dX0_pathOfFour_108
  unfold wp_X0_pathOfFour at hw
  refine lv_iload_n hF.1.1 hF.1.2.1 dX0_pathOfFour_0 rfl (lv_at hl 1 rfl) ?_
  refine lv_iconst (v := 0) hF.1.1 hF.1.2.1 dX0_pathOfFour_1 (by decide) ?_
  refine lv_iconst (v := 3) hF.1.1 hF.1.2.1 dX0_pathOfFour_2 (by decide) ?_
  refine g_cS [.int a1, .int 0, .int 3] 3 rfl hF (met_X0_inRange l hl0 d a1 0 3 _ hw) q206 q207 q92 q208 rfl rfl (by decide +kernel) ⟨Nat.le_of_ble_eq_true rfl, Nat.le_of_ble_eq_true rfl⟩ hH [] rfl rfl rfl hl.1 (Nat.le_of_ble_eq_true rfl) dX0_pathOfFour_3 ⟨(by first | exact Nat.le_of_ble_eq_true rfl | omega | (dsimp only; omega)), (by first | exact Nat.le_of_ble_eq_true rfl | omega | (dsimp only; omega))⟩ (fun v w1 H locs hq hH => ?_)
  obtain ⟨r_27, rfl, rfl, hw⟩ := hq
  have hH : g_HS d A s [[(ob, .inr (0, [.ref hA, .ref tA, .ref lA, .ref gA, va_rf fa, va_rf oa]))], [(gA, .inr (2, [.int n, .ref gB]))], [(gB, .inl (d.2.1 0, 10, .inl near))]] H locs := hH
  refine W.eq (g2 := (F0 m 6 ls [.int r_27])) rfl ?_
  refine lv_if_ne (tgt := 11) hF.1.1 hF.1.2.1 dX0_pathOfFour_6 (by decide) (fun c_28 => ?_) (fun c_28 => ?_)
  · have hw := hw.1 c_28
    refine lv_aload_n hF.1.1 hF.1.2.1 dX0_pathOfFour_11 rfl (lv_at hl 0 rfl) ?_
    refine g_get (v := .ref gA) hF hH in_X0 rfl 0 0 rfl rfl 3 (by decide) q186 (fun _ h9 => h9) rfl dX0_pathOfFour_12 ?_
    refine g_getN (v := .int n) hF hH in_X2 rfl 1 0 rfl rfl 0 (by decide) q169 (fun _ h9 => h9) rfl dX0_pathOfFour_15 ?_
    refine lv_istore_n (lv' := [(2, .int n), (0, .ref ob), (1, .int a1)]) hF.1.1 hF.1.2.1 dX0_pathOfFour_18 rfl hl (by decide) rfl (fun ls hl => ?_)
    refine lv_iconst (v := 0) hF.1.1 hF.1.2.1 dX0_pathOfFour_19 (by decide) ?_
    refine lv_istore_n (lv' := [(3, .int 0), (2, .int n), (0, .ref ob), (1, .int a1)]) hF.1.1 hF.1.2.1 dX0_pathOfFour_20 rfl hl (by decide) rfl (fun ls hl => ?_)
    obtain ⟨f_29, hw⟩ := hw
    have hl := lv_sub hl (l' := [(0, .ref ob), (1, .int a1), (2, .int n), (3, .int 0)]) [2, 3, 1, 0] rfl
    exact bk_21 n f_29 0 _ _ _ hH hl hw
  · have hw := hw.2 c_28
    refine lv_iconst (v := (-1)) hF.1.1 hF.1.2.1 dX0_pathOfFour_9 (by decide) ?_
    exact g_iret hF hH ⟨(-1), rfl, rfl, hw⟩ dX0_pathOfFour_10

def wb_X0_isSplit_48 (a1 : Int32) (n : Int32) (near : Nat → Int32) (Q : Int32 → Int32 → (Nat → Int32) → Prop) (x4 : Int32) (x5 : Int32) (y0 : Int32) (pm_ : Int32) (pf_ : Nat → Int32) : Prop := ((y0 = 0 → ((y0 = 0 ∨ y0 = 1) ∧ (Q y0 pm_ pf_))) ∧ (¬ y0 = 0 → (wp_X1_set_S a1 (x5.toInt64) pm_ pf_ 10 (fun n_14 => (wp_X1_add_S ((x4 &&& (x5 ^^^ (-1))).toInt64) pm_ n_14 10 (fun r_15 n_16 n_17 => ((y0 = 0 ∨ y0 = 1) ∧ (Q y0 n_16 n_17))))))))
def wb_X0_isSplit_47 (a1 : Int32) (n : Int32) (near : Nat → Int32) (Q : Int32 → Int32 → (Nat → Int32) → Prop) (x4 : Int32) (x5 : Int32) (pm_ : Int32) (pf_ : Nat → Int32) : Prop := (wb_X0_isSplit_48 a1 n near Q x4 x5 0 pm_ pf_)
def wp_X0_isSplit (a1 : Int32) (a2 : Int32) (n : Int32) (near : Nat → Int32) (pm : Int32) (pf : Nat → Int32) (Q : Int32 → Int32 → (Nat → Int32) → Prop) : Prop := (wp_X1_at_S a1 pm pf 10 (fun r_19 => (vp_in a2 10 ∧ (wp_X0_has (r_19.toInt32) a2 (fun r_21 => ((¬ r_21 = 0 → (wb_X0_isSplit_47 a1 n near Q (r_19.toInt32) ((r_19.toInt32) &&& (near a2.toNatClampNeg)) pm pf)) ∧ (r_21 = 0 → ((((r_19.toInt32) &&& (near a2.toNatClampNeg)) = 0 → (wb_X0_isSplit_47 a1 n near Q (r_19.toInt32) ((r_19.toInt32) &&& (near a2.toNatClampNeg)) pm pf)) ∧ (¬ ((r_19.toInt32) &&& (near a2.toNatClampNeg)) = 0 → ((((r_19.toInt32) &&& (near a2.toNatClampNeg)) = (r_19.toInt32) → (wb_X0_isSplit_47 a1 n near Q (r_19.toInt32) ((r_19.toInt32) &&& (near a2.toNatClampNeg)) pm pf)) ∧ (¬ ((r_19.toInt32) &&& (near a2.toNatClampNeg)) = (r_19.toInt32) → (wb_X0_isSplit_48 a1 n near Q (r_19.toInt32) ((r_19.toInt32) &&& (near a2.toNatClampNeg)) 1 pm pf))))))))))))
set_option maxHeartbeats 4000000 in
set_option maxRecDepth 100000 in
theorem met_X0_isSplit (l : Launch) (hl0 : l.stackTraces = false) (d : g_D) (ob : Nat) (pA : Nat) (a1 : Int32) (a2 : Int32) (hA : Nat) (tA : Nat) (lA : Nat) (gA : Nat) (fa : Option Nat) (oa : Option Nat) (n : Int32) (gB : Nat) (near : Nat → Int32) (pB : Nat) (pm : Int32) (pf : Nat → Int32) (Q : Int32 → Int32 → (Nat → Int32) → Prop) (hw : wp_X0_isSplit a1 a2 n near pm pf Q) : g_Met l d yX0_isSplit cX0_isSplit 7 (Option.some FieldType.boolean) ({ frames := 10, cells := 0, slots := 0, locals := 10346 } : Room) [.ref ob, .ref pA, .int a1, .int a2] [[(ob, .inr (0, [.ref hA, .ref tA, .ref lA, .ref gA, va_rf fa, va_rf oa]))], [(gA, .inr (2, [.int n, .ref gB]))], [(gB, .inl (d.2.1 0, 10, .inl near))], [(pA, .inr (1, [.ref pB, .int pm]))], [(pB, .inl (d.2.1 3, 10, .inl pf))]] 0 0 (fun v w1 => ∃ (r : Int32) (pm2 : Int32) (pf2 : Nat → Int32), v = some (.int r) ∧ w1 = [[(ob, .inr (0, [.ref hA, .ref tA, .ref lA, .ref gA, va_rf fa, va_rf oa]))], [(gA, .inr (2, [.int n, .ref gB]))], [(gB, .inl (d.2.1 0, 10, .inl near))], [(pA, .inr (1, [.ref pB, .int pm2]))], [(pB, .inl (d.2.1 3, 10, .inl pf2))]] ∧ Q r pm2 pf2) := by
  refine g_enter (by decide) (Nat.le_of_ble_eq_true rfl) ?_
  intro p e s m args below meth c A ls hF hH hl hin
  have hF : g_F p m c cX0_isSplit 7 s args RX0 meth (Option.some FieldType.boolean) := hF
  have hl : lv_has ls 7 [(0, .ref ob), (1, .ref pA), (2, .int a1), (3, .int a2)] := hl
  have bk_48 : ∀ (x4 : Int32) (x5 : Int32) (y0 : Int32) (pm_ : Int32) (pf_ : Nat → Int32) (H : Heap) (locs : List Loc) (ls : Array Slot), g_HS d A s [[(ob, .inr (0, [.ref hA, .ref tA, .ref lA, .ref gA, va_rf fa, va_rf oa]))], [(gA, .inr (2, [.int n, .ref gB]))], [(gB, .inl (d.2.1 0, 10, .inl near))], [(pA, .inr (1, [.ref pB, .int pm_]))], [(pB, .inl (d.2.1 3, 10, .inl pf_))]] H locs → lv_has ls 7 [(1, .ref pA), (2, .int a1), (4, .int x4), (5, .int x5)] → wb_X0_isSplit_48 a1 n near Q x4 x5 y0 pm_ pf_ → W p l e ({ frames := 10, cells := 0, slots := 0, locals := 10346 } : Room) s m args below meth c H locs 0 0 (g_E d (fun v w1 => ∃ (r : Int32) (pm2 : Int32) (pf2 : Nat → Int32), v = some (.int r) ∧ w1 = [[(ob, .inr (0, [.ref hA, .ref tA, .ref lA, .ref gA, va_rf fa, va_rf oa]))], [(gA, .inr (2, [.int n, .ref gB]))], [(gB, .inl (d.2.1 0, 10, .inl near))], [(pA, .inr (1, [.ref pB, .int pm2]))], [(pB, .inl (d.2.1 3, 10, .inl pf2))]] ∧ Q r pm2 pf2) A below args s 0 0) (F0 m 48 ls [.int y0]) := by
    intro x4 x5 y0 pm_ pf_ H locs ls hH hl hw
    unfold wb_X0_isSplit_48 at hw
    refine lv_istore (lv' := [(6, .int y0), (1, .ref pA), (2, .int a1), (4, .int x4), (5, .int x5)]) hF.1.1 hF.1.2.1 dX0_isSplit_48 hl (by decide) rfl (fun ls hl => ?_)
    refine lv_iload hF.1.1 hF.1.2.1 dX0_isSplit_50 (lv_at hl 0 rfl) ?_
    refine lv_if_eq (tgt := 76) hF.1.1 hF.1.2.1 dX0_isSplit_52 (by decide) (fun c_12 => ?_) (fun c_12 => ?_)
    · have hw := hw.1 c_12
      refine lv_iload hF.1.1 hF.1.2.1 dX0_isSplit_76 (lv_at hl 0 rfl) ?_
      obtain ⟨hb_13, hw⟩ := hw
      exact g_zret hF (g_b01 hb_13) hH ⟨y0, pm_, pf_, rfl, rfl, hw⟩ dX0_isSplit_78
    · have hw := hw.2 c_12
      refine lv_aload_n hF.1.1 hF.1.2.1 dX0_isSplit_55 rfl (lv_at hl 1 rfl) ?_
      refine lv_iload_n hF.1.1 hF.1.2.1 dX0_isSplit_56 rfl (lv_at hl 2 rfl) ?_
      refine lv_iload hF.1.1 hF.1.2.1 dX0_isSplit_57 (lv_at hl 4 rfl) ?_
      refine lv_i2l (v := (x5.toInt64)) hF.1.1 hF.1.2.1 dX0_isSplit_59 rfl ?_
      refine g_cV [.int a1, .long (x5.toInt64)] 2 rfl hF (met_X1_set_S l hl0 d pA a1 (x5.toInt64) pB pm_ pf_ 10 _ hw) q931 q932 q933 q93 q934 rfl rfl (by decide +kernel) ⟨Nat.le_of_ble_eq_true rfl, Nat.le_of_ble_eq_true rfl⟩ hH [3, 4] rfl rfl rfl 0 0 rfl rfl rfl hl.1 (Nat.le_of_ble_eq_true rfl) dX0_isSplit_60 ⟨(by first | exact Nat.le_of_ble_eq_true rfl | omega | (dsimp only; omega)), (by first | exact Nat.le_of_ble_eq_true rfl | omega | (dsimp only; omega))⟩ (fun v w1 H locs hq hH => ?_)
      obtain ⟨n_14, rfl, rfl, hw⟩ := hq
      have hH : g_HS d A s [[(ob, .inr (0, [.ref hA, .ref tA, .ref lA, .ref gA, va_rf fa, va_rf oa]))], [(gA, .inr (2, [.int n, .ref gB]))], [(gB, .inl (d.2.1 0, 10, .inl near))], [(pA, .inr (1, [.ref pB, .int pm_]))], [(pB, .inl (d.2.1 3, 10, .inl n_14))]] H locs := hH
      refine W.eq (g2 := (F0 m 63 ls [])) rfl ?_
      refine lv_aload_n hF.1.1 hF.1.2.1 dX0_isSplit_63 rfl (lv_at hl 1 rfl) ?_
      refine lv_iload hF.1.1 hF.1.2.1 dX0_isSplit_64 (lv_at hl 3 rfl) ?_
      refine lv_iload hF.1.1 hF.1.2.1 dX0_isSplit_66 (lv_at hl 4 rfl) ?_
      refine lv_iconst (v := (-1)) hF.1.1 hF.1.2.1 dX0_isSplit_68 (by decide) ?_
      refine lv_ixor hF.1.1 hF.1.2.1 dX0_isSplit_69 ?_
      refine lv_iand hF.1.1 hF.1.2.1 dX0_isSplit_70 ?_
      refine lv_i2l (v := ((x4 &&& (x5 ^^^ (-1))).toInt64)) hF.1.1 hF.1.2.1 dX0_isSplit_71 rfl ?_
      refine g_cVW [.long ((x4 &&& (x5 ^^^ (-1))).toInt64)] 1 rfl hF (met_X1_add_S l hl0 d pA ((x4 &&& (x5 ^^^ (-1))).toInt64) pB pm_ n_14 10 _ hw) q243 q244 q245 q93 q246 rfl rfl (by decide +kernel) ⟨Nat.le_of_ble_eq_true rfl, Nat.le_of_ble_eq_true rfl⟩ hH [3, 4] rfl rfl rfl 0 0 rfl rfl rfl hl.1 (Nat.le_of_ble_eq_true rfl) dX0_isSplit_72 ⟨(by first | exact Nat.le_of_ble_eq_true rfl | omega | (dsimp only; omega)), (by first | exact Nat.le_of_ble_eq_true rfl | omega | (dsimp only; omega))⟩ (fun v w1 H locs hq hH => ?_)
      obtain ⟨r_15, n_16, n_17, rfl, rfl, hw⟩ := hq
      have hH : g_HS d A s [[(ob, .inr (0, [.ref hA, .ref tA, .ref lA, .ref gA, va_rf fa, va_rf oa]))], [(gA, .inr (2, [.int n, .ref gB]))], [(gB, .inl (d.2.1 0, 10, .inl near))], [(pA, .inr (1, [.ref pB, .int n_16]))], [(pB, .inl (d.2.1 3, 10, .inl n_17))]] H locs := hH
      refine W.eq (g2 := (F0 m 75 ls [.int r_15])) rfl ?_
      refine lv_pop hF.1.1 hF.1.2.1 dX0_isSplit_75 rfl ?_
      refine lv_iload hF.1.1 hF.1.2.1 dX0_isSplit_76 (lv_at hl 0 rfl) ?_
      obtain ⟨hb_18, hw⟩ := hw
      exact g_zret hF (g_b01 hb_18) hH ⟨y0, n_16, n_17, rfl, rfl, hw⟩ dX0_isSplit_78
  have bk_47 : ∀ (x4 : Int32) (x5 : Int32) (pm_ : Int32) (pf_ : Nat → Int32) (H : Heap) (locs : List Loc) (ls : Array Slot), g_HS d A s [[(ob, .inr (0, [.ref hA, .ref tA, .ref lA, .ref gA, va_rf fa, va_rf oa]))], [(gA, .inr (2, [.int n, .ref gB]))], [(gB, .inl (d.2.1 0, 10, .inl near))], [(pA, .inr (1, [.ref pB, .int pm_]))], [(pB, .inl (d.2.1 3, 10, .inl pf_))]] H locs → lv_has ls 7 [(1, .ref pA), (2, .int a1), (4, .int x4), (5, .int x5)] → wb_X0_isSplit_47 a1 n near Q x4 x5 pm_ pf_ → W p l e ({ frames := 10, cells := 0, slots := 0, locals := 10346 } : Room) s m args below meth c H locs 0 0 (g_E d (fun v w1 => ∃ (r : Int32) (pm2 : Int32) (pf2 : Nat → Int32), v = some (.int r) ∧ w1 = [[(ob, .inr (0, [.ref hA, .ref tA, .ref lA, .ref gA, va_rf fa, va_rf oa]))], [(gA, .inr (2, [.int n, .ref gB]))], [(gB, .inl (d.2.1 0, 10, .inl near))], [(pA, .inr (1, [.ref pB, .int pm2]))], [(pB, .inl (d.2.1 3, 10, .inl pf2))]] ∧ Q r pm2 pf2) A below args s 0 0) (F0 m 47 ls []) := by
    intro x4 x5 pm_ pf_ H locs ls hH hl hw
    unfold wb_X0_isSplit_47 at hw
    refine lv_iconst (v := 0) hF.1.1 hF.1.2.1 dX0_isSplit_47 (by decide) ?_
    exact bk_48 x4 x5 0 pm_ pf_ _ _ _ hH hl hw
  unfold wp_X0_isSplit at hw
  refine lv_aload_n hF.1.1 hF.1.2.1 dX0_isSplit_0 rfl (lv_at hl 1 rfl) ?_
  refine lv_iload_n hF.1.1 hF.1.2.1 dX0_isSplit_1 rfl (lv_at hl 2 rfl) ?_
  refine g_cV [.int a1] 1 rfl hF (met_X1_at_S l hl0 d pA a1 pB pm pf 10 _ hw) q930 q225 q226 q93 q227 rfl rfl (by decide +kernel) ⟨Nat.le_of_ble_eq_true rfl, Nat.le_of_ble_eq_true rfl⟩ hH [3, 4] rfl rfl rfl 0 0 rfl rfl rfl hl.1 (Nat.le_of_ble_eq_true rfl) dX0_isSplit_2 ⟨(by first | exact Nat.le_of_ble_eq_true rfl | omega | (dsimp only; omega)), (by first | exact Nat.le_of_ble_eq_true rfl | omega | (dsimp only; omega))⟩ (fun v w1 H locs hq hH => ?_)
  obtain ⟨r_19, rfl, rfl, hw⟩ := hq
  have hH : g_HS d A s [[(ob, .inr (0, [.ref hA, .ref tA, .ref lA, .ref gA, va_rf fa, va_rf oa]))], [(gA, .inr (2, [.int n, .ref gB]))], [(gB, .inl (d.2.1 0, 10, .inl near))], [(pA, .inr (1, [.ref pB, .int pm]))], [(pB, .inl (d.2.1 3, 10, .inl pf))]] H locs := hH
  refine W.eq (g2 := (F0 m 5 ls [.long r_19])) rfl ?_
  refine lv_l2i (v := (r_19.toInt32)) hF.1.1 hF.1.2.1 dX0_isSplit_5 rfl ?_
  refine lv_istore (lv' := [(4, .int (r_19.toInt32)), (0, .ref ob), (1, .ref pA), (2, .int a1), (3, .int a2)]) hF.1.1 hF.1.2.1 dX0_isSplit_6 hl (by decide) rfl (fun ls hl => ?_)
  refine lv_iload hF.1.1 hF.1.2.1 dX0_isSplit_8 (lv_at hl 0 rfl) ?_
  refine lv_aload_n hF.1.1 hF.1.2.1 dX0_isSplit_10 rfl (lv_at hl 1 rfl) ?_
  refine g_get (v := .ref gA) hF hH in_X0 rfl 0 0 rfl rfl 3 (by decide) q186 (fun _ h9 => h9) rfl dX0_isSplit_11 ?_
  refine g_getN (v := .ref gB) hF hH in_X2 rfl 1 0 rfl rfl 1 (by decide) q173 (fun _ h9 => h9) rfl dX0_isSplit_14 ?_
  refine lv_iload_n hF.1.1 hF.1.2.1 dX0_isSplit_17 rfl (lv_at hl 4 rfl) ?_
  obtain ⟨hi_20, hw⟩ := hw
  refine g_iald hF hH 2 0 rfl rfl hi_20 dX0_isSplit_18 ?_
  refine lv_iand hF.1.1 hF.1.2.1 dX0_isSplit_19 ?_
  refine lv_istore (lv' := [(5, .int ((r_19.toInt32) &&& (near a2.toNatClampNeg))), (4, .int (r_19.toInt32)), (0, .ref ob), (1, .ref pA), (2, .int a1), (3, .int a2)]) hF.1.1 hF.1.2.1 dX0_isSplit_20 hl (by decide) rfl (fun ls hl => ?_)
  refine lv_iload hF.1.1 hF.1.2.1 dX0_isSplit_22 (lv_at hl 1 rfl) ?_
  refine lv_iload_n hF.1.1 hF.1.2.1 dX0_isSplit_24 rfl (lv_at hl 5 rfl) ?_
  refine g_cS [.int (r_19.toInt32), .int a2] 2 rfl hF (met_X0_has l hl0 d (r_19.toInt32) a2 _ hw) q516 q241 q92 q242 rfl rfl (by decide +kernel) ⟨Nat.le_of_ble_eq_true rfl, Nat.le_of_ble_eq_true rfl⟩ hH [] rfl rfl rfl hl.1 (Nat.le_of_ble_eq_true rfl) dX0_isSplit_25 ⟨(by first | exact Nat.le_of_ble_eq_true rfl | omega | (dsimp only; omega)), (by first | exact Nat.le_of_ble_eq_true rfl | omega | (dsimp only; omega))⟩ (fun v w1 H locs hq hH => ?_)
  obtain ⟨r_21, rfl, rfl, hw⟩ := hq
  have hH : g_HS d A s [[(ob, .inr (0, [.ref hA, .ref tA, .ref lA, .ref gA, va_rf fa, va_rf oa]))], [(gA, .inr (2, [.int n, .ref gB]))], [(gB, .inl (d.2.1 0, 10, .inl near))], [(pA, .inr (1, [.ref pB, .int pm]))], [(pB, .inl (d.2.1 3, 10, .inl pf))]] H locs := hH
  refine W.eq (g2 := (F0 m 28 ls [.int r_21])) rfl ?_
  refine lv_if_ne (tgt := 47) hF.1.1 hF.1.2.1 dX0_isSplit_28 (by decide) (fun c_22 => ?_) (fun c_22 => ?_)
  · have hw := hw.1 c_22
    have hl := lv_sub hl (l' := [(1, .ref pA), (2, .int a1), (4, .int (r_19.toInt32)), (5, .int ((r_19.toInt32) &&& (near a2.toNatClampNeg)))]) [3, 4, 1, 0] rfl
    exact bk_47 (r_19.toInt32) ((r_19.toInt32) &&& (near a2.toNatClampNeg)) pm pf _ _ _ hH hl hw
  · have hw := hw.2 c_22
    refine lv_iload hF.1.1 hF.1.2.1 dX0_isSplit_31 (lv_at hl 0 rfl) ?_
    refine lv_if_eq (tgt := 47) hF.1.1 hF.1.2.1 dX0_isSplit_33 (by decide) (fun c_23 => ?_) (fun c_23 => ?_)
    · have hw := hw.1 c_23
      have hl := lv_sub hl (l' := [(1, .ref pA), (2, .int a1), (4, .int (r_19.toInt32)), (5, .int ((r_19.toInt32) &&& (near a2.toNatClampNeg)))]) [3, 4, 1, 0] rfl
      exact bk_47 (r_19.toInt32) ((r_19.toInt32) &&& (near a2.toNatClampNeg)) pm pf _ _ _ hH hl hw
    · have hw := hw.2 c_23
      refine lv_iload hF.1.1 hF.1.2.1 dX0_isSplit_36 (lv_at hl 0 rfl) ?_
      refine lv_iload hF.1.1 hF.1.2.1 dX0_isSplit_38 (lv_at hl 1 rfl) ?_
      refine lv_icmp_eq (tgt := 47) hF.1.1 hF.1.2.1 dX0_isSplit_40 (by decide) (fun c_24 => ?_) (fun c_24 => ?_)
      · have hw := hw.1 c_24
        have hl := lv_sub hl (l' := [(1, .ref pA), (2, .int a1), (4, .int (r_19.toInt32)), (5, .int ((r_19.toInt32) &&& (near a2.toNatClampNeg)))]) [3, 4, 1, 0] rfl
        exact bk_47 (r_19.toInt32) ((r_19.toInt32) &&& (near a2.toNatClampNeg)) pm pf _ _ _ hH hl hw
      · have hw := hw.2 c_24
        refine lv_iconst (v := 1) hF.1.1 hF.1.2.1 dX0_isSplit_43 (by decide) ?_
        refine lv_goto (tgt := 48) hF.1.1 hF.1.2.1 dX0_isSplit_44 (by decide) ?_
        have hl := lv_sub hl (l' := [(1, .ref pA), (2, .int a1), (4, .int (r_19.toInt32)), (5, .int ((r_19.toInt32) &&& (near a2.toNatClampNeg)))]) [3, 4, 1, 0] rfl
        exact bk_48 (r_19.toInt32) ((r_19.toInt32) &&& (near a2.toNatClampNeg)) 1 pm pf _ _ _ hH hl hw

def wb_X0_partsWithout_66 (near : Nat → Int32) (n : Int32) (x5 : Int32) (K40 : Int32 → (Nat → Int32) → Int32 → Prop) (K51 : Int32 → Int32 → (Nat → Int32) → Int32 → Prop) (Q : Int32 → (Nat → Int32) → Prop) : Nat → Int32 → Int32 → (Nat → Int32) → Int32 → Prop
  | 0, _, _, _, _ => False
  | fu + 1, x4, x6, v_q_2, v_many => ((v_many ≤ x6 → K51 x4 (x5 + 1) v_q_2 v_many) ∧ (¬ v_many ≤ x6 → (wp_X0_isSplit x6 x5 n near v_many v_q_2 (fun r_15 n_16 n_17 => (wb_X0_partsWithout_66 near n x5 K40 K51 Q fu) (x4 ||| r_15) (x6 + 1) n_17 n_16))))
def wb_X0_partsWithout_51 (near : Nat → Int32) (n : Int32) (K40 : Int32 → (Nat → Int32) → Int32 → Prop) (Q : Int32 → (Nat → Int32) → Prop) : Nat → Int32 → Int32 → (Nat → Int32) → Int32 → Prop
  | 0, _, _, _, _ => False
  | fu + 1, x4, x5, v_q_2, v_many => ((n ≤ x5 → K40 x4 v_q_2 v_many) ∧ (¬ n ≤ x5 → (∃ f66, wb_X0_partsWithout_66 near n x5 K40 (wb_X0_partsWithout_51 near n K40 Q fu) Q f66 x4 0 v_q_2 v_many)))
def wb_X0_partsWithout_40 (near : Nat → Int32) (n : Int32) (Q : Int32 → (Nat → Int32) → Prop) : Nat → Int32 → (Nat → Int32) → Int32 → Prop
  | 0, _, _, _ => False
  | fu + 1, x4, v_q_2, v_many => ((x4 = 0 → (Q v_many v_q_2)) ∧ (¬ x4 = 0 → (∃ f51, wb_X0_partsWithout_51 near n (wb_X0_partsWithout_40 near n Q fu) Q f51 0 0 v_q_2 v_many)))
def wp_X0_partsWithout (a1 : Int32) (n : Int32) (near : Nat → Int32) (Q : Int32 → (Nat → Int32) → Prop) : Prop := (wp_X1_init (wp_X2_all n (fun r_24 => (((r_24 &&& (((1 : Int32) <<< (a1 &&& 31)) ^^^ (-1))) = 0 → (∃ f40, wb_X0_partsWithout_40 near n Q f40 1 (fun _ => 0) 0)) ∧ (¬ (r_24 &&& (((1 : Int32) <<< (a1 &&& 31)) ^^^ (-1))) = 0 → (wp_X1_add_S ((r_24 &&& (((1 : Int32) <<< (a1 &&& 31)) ^^^ (-1))).toInt64) 0 (fun _ => 0) 10 (fun r_27 n_28 n_29 => (∃ f40, wb_X0_partsWithout_40 near n Q f40 1 n_29 n_28))))))))
set_option maxHeartbeats 4000000 in
set_option maxRecDepth 100000 in
theorem met_X0_partsWithout (l : Launch) (hl0 : l.stackTraces = false) (d : g_D) (ob : Nat) (a1 : Int32) (hA : Nat) (tA : Nat) (lA : Nat) (gA : Nat) (fa : Option Nat) (oa : Option Nat) (n : Int32) (gB : Nat) (near : Nat → Int32) (Q : Int32 → (Nat → Int32) → Prop) (hw : wp_X0_partsWithout a1 n near Q) : g_Met l d yX0_partsWithout cX0_partsWithout 7 (Option.some (FieldType.object "GraphModules$Row")) ({ frames := 11, cells := 2, slots := 12, locals := 10372 } : Room) [.ref ob, .int a1] [[(ob, .inr (0, [.ref hA, .ref tA, .ref lA, .ref gA, va_rf fa, va_rf oa]))], [(gA, .inr (2, [.int n, .ref gB]))], [(gB, .inl (d.2.1 0, 10, .inl near))]] 2 12 (fun v w1 => ∃ (pA : Nat) (pB : Nat) (pm2 : Int32) (pf2 : Nat → Int32), v = some (.ref pA) ∧ w1 = [[(ob, .inr (0, [.ref hA, .ref tA, .ref lA, .ref gA, va_rf fa, va_rf oa]))], [(gA, .inr (2, [.int n, .ref gB]))], [(gB, .inl (d.2.1 0, 10, .inl near))], [(pA, .inr (1, [.ref pB, .int pm2]))], [(pB, .inl (d.2.1 3, 10, .inl pf2))]] ∧ Q pm2 pf2) := by
  refine g_enter (by decide) (Nat.le_of_ble_eq_true rfl) ?_
  intro p e s m args below meth c A ls hF hH hl hin
  have hF : g_F p m c cX0_partsWithout 7 s args RX0 meth (Option.some (FieldType.object "GraphModules$Row")) := hF
  have hl : lv_has ls 7 [(0, .ref ob), (1, .int a1)] := hl
  have bk_66 : ∀ (x5 : Int32) (K40 : Int32 → (Nat → Int32) → Int32 → Prop) (hK40 : ∀ (q_1 : Nat) (q_2 : Nat) (x4 : Int32) (v_q_2 : Nat → Int32) (v_many : Int32) (H : Heap) (locs : List Loc) (ls : Array Slot), g_HS d A s [[(ob, .inr (0, [.ref hA, .ref tA, .ref lA, .ref gA, va_rf fa, va_rf oa]))], [(gB, .inl (d.2.1 0, 10, .inl near))], [(q_2, .inl (d.2.1 3, 10, .inl v_q_2))], [(q_1, .inr (1, [.ref q_2, .int v_many]))], [(gA, .inr (2, [.int n, .ref gB]))]] H locs → lv_has ls 7 [(0, .ref ob), (2, .ref q_1), (4, .int x4)] → K40 x4 v_q_2 v_many → W p l e ({ frames := 11, cells := 2, slots := 12, locals := 10372 } : Room) s m args below meth c H locs 2 12 (g_E d (fun v w1 => ∃ (pA : Nat) (pB : Nat) (pm2 : Int32) (pf2 : Nat → Int32), v = some (.ref pA) ∧ w1 = [[(ob, .inr (0, [.ref hA, .ref tA, .ref lA, .ref gA, va_rf fa, va_rf oa]))], [(gA, .inr (2, [.int n, .ref gB]))], [(gB, .inl (d.2.1 0, 10, .inl near))], [(pA, .inr (1, [.ref pB, .int pm2]))], [(pB, .inl (d.2.1 3, 10, .inl pf2))]] ∧ Q pm2 pf2) A below args s 2 12) (F0 m 40 ls [])) (K51 : Int32 → Int32 → (Nat → Int32) → Int32 → Prop) (hK51 : ∀ (q_1 : Nat) (q_2 : Nat) (x4 : Int32) (x5 : Int32) (v_q_2 : Nat → Int32) (v_many : Int32) (H : Heap) (locs : List Loc) (ls : Array Slot), g_HS d A s [[(ob, .inr (0, [.ref hA, .ref tA, .ref lA, .ref gA, va_rf fa, va_rf oa]))], [(gB, .inl (d.2.1 0, 10, .inl near))], [(q_2, .inl (d.2.1 3, 10, .inl v_q_2))], [(q_1, .inr (1, [.ref q_2, .int v_many]))], [(gA, .inr (2, [.int n, .ref gB]))]] H locs → lv_has ls 7 [(0, .ref ob), (2, .ref q_1), (4, .int x4), (5, .int x5)] → K51 x4 x5 v_q_2 v_many → W p l e ({ frames := 11, cells := 2, slots := 12, locals := 10372 } : Room) s m args below meth c H locs 2 12 (g_E d (fun v w1 => ∃ (pA : Nat) (pB : Nat) (pm2 : Int32) (pf2 : Nat → Int32), v = some (.ref pA) ∧ w1 = [[(ob, .inr (0, [.ref hA, .ref tA, .ref lA, .ref gA, va_rf fa, va_rf oa]))], [(gA, .inr (2, [.int n, .ref gB]))], [(gB, .inl (d.2.1 0, 10, .inl near))], [(pA, .inr (1, [.ref pB, .int pm2]))], [(pB, .inl (d.2.1 3, 10, .inl pf2))]] ∧ Q pm2 pf2) A below args s 2 12) (F0 m 51 ls [])) (fu : Nat) (q_1 : Nat) (q_2 : Nat) (x4 : Int32) (x6 : Int32) (v_q_2 : Nat → Int32) (v_many : Int32) (H : Heap) (locs : List Loc) (ls : Array Slot), g_HS d A s [[(ob, .inr (0, [.ref hA, .ref tA, .ref lA, .ref gA, va_rf fa, va_rf oa]))], [(gB, .inl (d.2.1 0, 10, .inl near))], [(q_2, .inl (d.2.1 3, 10, .inl v_q_2))], [(q_1, .inr (1, [.ref q_2, .int v_many]))], [(gA, .inr (2, [.int n, .ref gB]))]] H locs → lv_has ls 7 [(0, .ref ob), (2, .ref q_1), (4, .int x4), (5, .int x5), (6, .int x6)] → wb_X0_partsWithout_66 near n x5 K40 K51 Q fu x4 x6 v_q_2 v_many → W p l e ({ frames := 11, cells := 2, slots := 12, locals := 10372 } : Room) s m args below meth c H locs 2 12 (g_E d (fun v w1 => ∃ (pA : Nat) (pB : Nat) (pm2 : Int32) (pf2 : Nat → Int32), v = some (.ref pA) ∧ w1 = [[(ob, .inr (0, [.ref hA, .ref tA, .ref lA, .ref gA, va_rf fa, va_rf oa]))], [(gA, .inr (2, [.int n, .ref gB]))], [(gB, .inl (d.2.1 0, 10, .inl near))], [(pA, .inr (1, [.ref pB, .int pm2]))], [(pB, .inl (d.2.1 3, 10, .inl pf2))]] ∧ Q pm2 pf2) A below args s 2 12) (F0 m 66 ls []) := by
    intro x5 K40 hK40 K51 hK51 fu
    induction fu with
    | zero => intro q_1 q_2 x4 x6 v_q_2 v_many H locs ls hH hl hw; rw [wb_X0_partsWithout_66] at hw; exact hw.elim
    | succ fu ih =>
      intro q_1 q_2 x4 x6 v_q_2 v_many H locs ls hH hl hw
      rw [wb_X0_partsWithout_66] at hw
      refine lv_iload hF.1.1 hF.1.2.1 dX0_partsWithout_66 (lv_at hl 4 rfl) ?_
      refine lv_aload_n hF.1.1 hF.1.2.1 dX0_partsWithout_68 rfl (lv_at hl 1 rfl) ?_
      refine g_getN (v := .int v_many) hF hH in_X1 rfl 3 0 rfl rfl 1 (by decide) q149 (fun _ h9 => h9) rfl dX0_partsWithout_69 ?_
      refine lv_icmp_ge (tgt := 95) hF.1.1 hF.1.2.1 dX0_partsWithout_72 (by decide) (fun c_14 => ?_) (fun c_14 => ?_)
      · have hw := hw.1 c_14
        refine lv_iinc (v := (x5 + 1)) (lv' := [(5, .int (x5 + 1)), (0, .ref ob), (2, .ref q_1), (4, .int x4), (6, .int x6)]) hF.1.1 hF.1.2.1 dX0_partsWithout_95 hl (k := 3) rfl rfl (by decide) rfl (fun ls hl => ?_)
        refine lv_goto (tgt := 51) hF.1.1 hF.1.2.1 dX0_partsWithout_98 (by decide) ?_
        have hl := lv_sub hl (l' := [(0, .ref ob), (2, .ref q_1), (4, .int x4), (5, .int (x5 + 1))]) [1, 2, 3, 0] rfl
        exact hK51 q_1 q_2 x4 (x5 + 1) v_q_2 v_many _ _ _ hH hl hw
      · have hw := hw.2 c_14
        refine lv_iload hF.1.1 hF.1.2.1 dX0_partsWithout_75 (lv_at hl 2 rfl) ?_
        refine lv_aload_n hF.1.1 hF.1.2.1 dX0_partsWithout_77 rfl (lv_at hl 0 rfl) ?_
        refine lv_aload_n hF.1.1 hF.1.2.1 dX0_partsWithout_78 rfl (lv_at hl 1 rfl) ?_
        refine lv_iload hF.1.1 hF.1.2.1 dX0_partsWithout_79 (lv_at hl 4 rfl) ?_
        refine lv_iload hF.1.1 hF.1.2.1 dX0_partsWithout_81 (lv_at hl 3 rfl) ?_
        refine g_cV [.ref q_1, .int x6, .int x5] 3 rfl hF (met_X0_isSplit l hl0 d ob q_1 x6 x5 hA tA lA gA fa oa n gB near q_2 v_many v_q_2 _ hw) q926 q928 qs24 q92 q929 rfl rfl (by decide +kernel) ⟨Nat.le_of_ble_eq_true rfl, Nat.le_of_ble_eq_true rfl⟩ hH [0, 4, 1, 3, 2] rfl rfl rfl 0 0 rfl rfl rfl hl.1 (Nat.le_of_ble_eq_true rfl) dX0_partsWithout_83 ⟨(by first | exact Nat.le_of_ble_eq_true rfl | omega | (dsimp only; omega)), (by first | exact Nat.le_of_ble_eq_true rfl | omega | (dsimp only; omega))⟩ (fun v w1 H locs hq hH => ?_)
        obtain ⟨r_15, n_16, n_17, rfl, rfl, hw⟩ := hq
        have hH : g_HS d A s [[(ob, .inr (0, [.ref hA, .ref tA, .ref lA, .ref gA, va_rf fa, va_rf oa]))], [(gA, .inr (2, [.int n, .ref gB]))], [(gB, .inl (d.2.1 0, 10, .inl near))], [(q_1, .inr (1, [.ref q_2, .int n_16]))], [(q_2, .inl (d.2.1 3, 10, .inl n_17))]] H locs := hH
        refine W.eq (g2 := (F0 m 86 ls [.int r_15, .int x4])) rfl ?_
        refine lv_ior hF.1.1 hF.1.2.1 dX0_partsWithout_86 ?_
        refine lv_istore (lv' := [(4, .int (x4 ||| r_15)), (0, .ref ob), (2, .ref q_1), (5, .int x5), (6, .int x6)]) hF.1.1 hF.1.2.1 dX0_partsWithout_87 hl (by decide) rfl (fun ls hl => ?_)
        refine lv_iinc (v := (x6 + 1)) (lv' := [(6, .int (x6 + 1)), (4, .int (x4 ||| r_15)), (0, .ref ob), (2, .ref q_1), (5, .int x5)]) hF.1.1 hF.1.2.1 dX0_partsWithout_89 hl (k := 4) rfl rfl (by decide) rfl (fun ls hl => ?_)
        refine lv_goto (tgt := 66) hF.1.1 hF.1.2.1 dX0_partsWithout_92 (by decide) ?_
        have hH := hH.sub (cs' := [[(ob, .inr (0, [.ref hA, .ref tA, .ref lA, .ref gA, va_rf fa, va_rf oa]))], [(gB, .inl (d.2.1 0, 10, .inl near))], [(q_2, .inl (d.2.1 3, 10, .inl n_17))], [(q_1, .inr (1, [.ref q_2, .int n_16]))], [(gA, .inr (2, [.int n, .ref gB]))]]) [0, 2, 4, 3, 1] rfl rfl
        have hl := lv_sub hl (l' := [(0, .ref ob), (2, .ref q_1), (4, .int (x4 ||| r_15)), (5, .int x5), (6, .int (x6 + 1))]) [2, 3, 1, 4, 0] rfl
        exact ih q_1 q_2 (x4 ||| r_15) (x6 + 1) n_17 n_16 _ _ _ hH hl hw
  have bk_51 : ∀ (K40 : Int32 → (Nat → Int32) → Int32 → Prop) (hK40 : ∀ (q_1 : Nat) (q_2 : Nat) (x4 : Int32) (v_q_2 : Nat → Int32) (v_many : Int32) (H : Heap) (locs : List Loc) (ls : Array Slot), g_HS d A s [[(ob, .inr (0, [.ref hA, .ref tA, .ref lA, .ref gA, va_rf fa, va_rf oa]))], [(gB, .inl (d.2.1 0, 10, .inl near))], [(q_2, .inl (d.2.1 3, 10, .inl v_q_2))], [(q_1, .inr (1, [.ref q_2, .int v_many]))], [(gA, .inr (2, [.int n, .ref gB]))]] H locs → lv_has ls 7 [(0, .ref ob), (2, .ref q_1), (4, .int x4)] → K40 x4 v_q_2 v_many → W p l e ({ frames := 11, cells := 2, slots := 12, locals := 10372 } : Room) s m args below meth c H locs 2 12 (g_E d (fun v w1 => ∃ (pA : Nat) (pB : Nat) (pm2 : Int32) (pf2 : Nat → Int32), v = some (.ref pA) ∧ w1 = [[(ob, .inr (0, [.ref hA, .ref tA, .ref lA, .ref gA, va_rf fa, va_rf oa]))], [(gA, .inr (2, [.int n, .ref gB]))], [(gB, .inl (d.2.1 0, 10, .inl near))], [(pA, .inr (1, [.ref pB, .int pm2]))], [(pB, .inl (d.2.1 3, 10, .inl pf2))]] ∧ Q pm2 pf2) A below args s 2 12) (F0 m 40 ls [])) (fu : Nat) (q_1 : Nat) (q_2 : Nat) (x4 : Int32) (x5 : Int32) (v_q_2 : Nat → Int32) (v_many : Int32) (H : Heap) (locs : List Loc) (ls : Array Slot), g_HS d A s [[(ob, .inr (0, [.ref hA, .ref tA, .ref lA, .ref gA, va_rf fa, va_rf oa]))], [(gB, .inl (d.2.1 0, 10, .inl near))], [(q_2, .inl (d.2.1 3, 10, .inl v_q_2))], [(q_1, .inr (1, [.ref q_2, .int v_many]))], [(gA, .inr (2, [.int n, .ref gB]))]] H locs → lv_has ls 7 [(0, .ref ob), (2, .ref q_1), (4, .int x4), (5, .int x5)] → wb_X0_partsWithout_51 near n K40 Q fu x4 x5 v_q_2 v_many → W p l e ({ frames := 11, cells := 2, slots := 12, locals := 10372 } : Room) s m args below meth c H locs 2 12 (g_E d (fun v w1 => ∃ (pA : Nat) (pB : Nat) (pm2 : Int32) (pf2 : Nat → Int32), v = some (.ref pA) ∧ w1 = [[(ob, .inr (0, [.ref hA, .ref tA, .ref lA, .ref gA, va_rf fa, va_rf oa]))], [(gA, .inr (2, [.int n, .ref gB]))], [(gB, .inl (d.2.1 0, 10, .inl near))], [(pA, .inr (1, [.ref pB, .int pm2]))], [(pB, .inl (d.2.1 3, 10, .inl pf2))]] ∧ Q pm2 pf2) A below args s 2 12) (F0 m 51 ls []) := by
    intro K40 hK40 fu
    induction fu with
    | zero => intro q_1 q_2 x4 x5 v_q_2 v_many H locs ls hH hl hw; rw [wb_X0_partsWithout_51] at hw; exact hw.elim
    | succ fu ih =>
      intro q_1 q_2 x4 x5 v_q_2 v_many H locs ls hH hl hw
      rw [wb_X0_partsWithout_51] at hw
      refine lv_iload hF.1.1 hF.1.2.1 dX0_partsWithout_51 (lv_at hl 3 rfl) ?_
      refine lv_aload_n hF.1.1 hF.1.2.1 dX0_partsWithout_53 rfl (lv_at hl 0 rfl) ?_
      refine g_get (v := .ref gA) hF hH in_X0 rfl 0 0 rfl rfl 3 (by decide) q186 (fun _ h9 => h9) rfl dX0_partsWithout_54 ?_
      refine g_getN (v := .int n) hF hH in_X2 rfl 4 0 rfl rfl 0 (by decide) q169 (fun _ h9 => h9) rfl dX0_partsWithout_57 ?_
      refine lv_icmp_ge (tgt := 101) hF.1.1 hF.1.2.1 dX0_partsWithout_60 (by decide) (fun c_18 => ?_) (fun c_18 => ?_)
      · have hw := hw.1 c_18
        refine lv_goto (tgt := 40) hF.1.1 hF.1.2.1 dX0_partsWithout_101 (by decide) ?_
        have hl := lv_sub hl (l' := [(0, .ref ob), (2, .ref q_1), (4, .int x4)]) [0, 1, 2] rfl
        exact hK40 q_1 q_2 x4 v_q_2 v_many _ _ _ hH hl hw
      · have hw := hw.2 c_18
        refine lv_iconst (v := 0) hF.1.1 hF.1.2.1 dX0_partsWithout_63 (by decide) ?_
        refine lv_istore (lv' := [(6, .int 0), (0, .ref ob), (2, .ref q_1), (4, .int x4), (5, .int x5)]) hF.1.1 hF.1.2.1 dX0_partsWithout_64 hl (by decide) rfl (fun ls hl => ?_)
        obtain ⟨f_19, hw⟩ := hw
        have hl := lv_sub hl (l' := [(0, .ref ob), (2, .ref q_1), (4, .int x4), (5, .int x5), (6, .int 0)]) [1, 2, 3, 4, 0] rfl
        exact bk_66 x5 K40 hK40 (wb_X0_partsWithout_51 near n K40 Q fu) ih f_19 q_1 q_2 x4 0 v_q_2 v_many _ _ _ hH hl hw
  have bk_40 : ∀ (fu : Nat) (q_1 : Nat) (q_2 : Nat) (x4 : Int32) (v_q_2 : Nat → Int32) (v_many : Int32) (H : Heap) (locs : List Loc) (ls : Array Slot), g_HS d A s [[(ob, .inr (0, [.ref hA, .ref tA, .ref lA, .ref gA, va_rf fa, va_rf oa]))], [(gB, .inl (d.2.1 0, 10, .inl near))], [(q_2, .inl (d.2.1 3, 10, .inl v_q_2))], [(q_1, .inr (1, [.ref q_2, .int v_many]))], [(gA, .inr (2, [.int n, .ref gB]))]] H locs → lv_has ls 7 [(0, .ref ob), (2, .ref q_1), (4, .int x4)] → wb_X0_partsWithout_40 near n Q fu x4 v_q_2 v_many → W p l e ({ frames := 11, cells := 2, slots := 12, locals := 10372 } : Room) s m args below meth c H locs 2 12 (g_E d (fun v w1 => ∃ (pA : Nat) (pB : Nat) (pm2 : Int32) (pf2 : Nat → Int32), v = some (.ref pA) ∧ w1 = [[(ob, .inr (0, [.ref hA, .ref tA, .ref lA, .ref gA, va_rf fa, va_rf oa]))], [(gA, .inr (2, [.int n, .ref gB]))], [(gB, .inl (d.2.1 0, 10, .inl near))], [(pA, .inr (1, [.ref pB, .int pm2]))], [(pB, .inl (d.2.1 3, 10, .inl pf2))]] ∧ Q pm2 pf2) A below args s 2 12) (F0 m 40 ls []) := by
    intro fu
    induction fu with
    | zero => intro q_1 q_2 x4 v_q_2 v_many H locs ls hH hl hw; rw [wb_X0_partsWithout_40] at hw; exact hw.elim
    | succ fu ih =>
      intro q_1 q_2 x4 v_q_2 v_many H locs ls hH hl hw
      rw [wb_X0_partsWithout_40] at hw
      refine lv_iload hF.1.1 hF.1.2.1 dX0_partsWithout_40 (lv_at hl 2 rfl) ?_
      refine lv_if_eq (tgt := 104) hF.1.1 hF.1.2.1 dX0_partsWithout_42 (by decide) (fun c_20 => ?_) (fun c_20 => ?_)
      · have hw := hw.1 c_20
        refine lv_aload_n hF.1.1 hF.1.2.1 dX0_partsWithout_104 rfl (lv_at hl 1 rfl) ?_
        have hH := hH.sub (cs' := [[(ob, .inr (0, [.ref hA, .ref tA, .ref lA, .ref gA, va_rf fa, va_rf oa]))], [(gA, .inr (2, [.int n, .ref gB]))], [(gB, .inl (d.2.1 0, 10, .inl near))], [(q_1, .inr (1, [.ref q_2, .int v_many]))], [(q_2, .inl (d.2.1 3, 10, .inl v_q_2))]]) [0, 4, 1, 3, 2] rfl rfl
        exact g_aret hF (Or.inl ⟨_, rfl⟩) (Or.inr ⟨_, rfl⟩) hH ⟨q_1, q_2, v_many, v_q_2, rfl, rfl, hw⟩ dX0_partsWithout_105
      · have hw := hw.2 c_20
        refine lv_iconst (v := 0) hF.1.1 hF.1.2.1 dX0_partsWithout_45 (by decide) ?_
        refine lv_istore (lv' := [(4, .int 0), (0, .ref ob), (2, .ref q_1)]) hF.1.1 hF.1.2.1 dX0_partsWithout_46 hl (by decide) rfl (fun ls hl => ?_)
        refine lv_iconst (v := 0) hF.1.1 hF.1.2.1 dX0_partsWithout_48 (by decide) ?_
        refine lv_istore (lv' := [(5, .int 0), (4, .int 0), (0, .ref ob), (2, .ref q_1)]) hF.1.1 hF.1.2.1 dX0_partsWithout_49 hl (by decide) rfl (fun ls hl => ?_)
        obtain ⟨f_21, hw⟩ := hw
        have hl := lv_sub hl (l' := [(0, .ref ob), (2, .ref q_1), (4, .int 0), (5, .int 0)]) [2, 3, 1, 0] rfl
        exact bk_51 (wb_X0_partsWithout_40 near n Q fu) ih f_21 q_1 q_2 0 0 v_q_2 v_many _ _ _ hH hl hw
  unfold wp_X0_partsWithout at hw
  refine g_new (ci := 1) (fs := [.null, .int 0]) (C := RX1) (T := TX1) (N := 2) hF hH in_X1 rfl tyX1 tyX1_ok q139 q140 q93 (fun j hj => by rcases (show j = 0 ∨ j = 1 by omega) with rfl | rfl <;> rfl) (by first | exact Nat.le_of_ble_eq_true rfl | omega | (dsimp only; omega)) (by first | exact Nat.le_of_ble_eq_true rfl | omega | (dsimp only; omega)) dX0_partsWithout_0 (fun q_22 H hH => ?_)
  have hH : g_HS d A s [[(ob, .inr (0, [.ref hA, .ref tA, .ref lA, .ref gA, va_rf fa, va_rf oa]))], [(gA, .inr (2, [.int n, .ref gB]))], [(gB, .inl (d.2.1 0, 10, .inl near))], [(q_22, .inr (1, [.null, .int 0]))]] H _ := hH
  refine W.widen (k := 1) (n := 2) (by first | exact Nat.le_of_ble_eq_true rfl | omega | (dsimp only; omega)) (by first | exact Nat.le_of_ble_eq_true rfl | omega | (dsimp only; omega)) ?_
  refine lv_dup hF.1.1 hF.1.2.1 dX0_partsWithout_3 rfl ?_
  refine lv_bipush (v := 10) hF.1.1 hF.1.2.1 dX0_partsWithout_4 (by decide) ?_
  refine g_newS (N' := 10) hF hH q155 (by decide) rfl (by decide) (by first | exact Nat.le_of_ble_eq_true rfl | omega | (dsimp only; omega)) (by first | exact Nat.le_of_ble_eq_true rfl | omega | (dsimp only; omega)) dX0_partsWithout_6 (fun q_23 H hH => ?_)
  have hH : g_HS d A s [[(ob, .inr (0, [.ref hA, .ref tA, .ref lA, .ref gA, va_rf fa, va_rf oa]))], [(gA, .inr (2, [.int n, .ref gB]))], [(gB, .inl (d.2.1 0, 10, .inl near))], [(q_22, .inr (1, [.null, .int 0]))], [(q_23, .inl (d.2.1 3, 10, .inl (fun _ => 0)))]] H _ := hH
  refine W.widen (k := 2) (n := 12) (by first | exact Nat.le_of_ble_eq_true rfl | omega | (dsimp only; omega)) (by first | exact Nat.le_of_ble_eq_true rfl | omega | (dsimp only; omega)) ?_
  refine g_cI [.ref q_23] 1 rfl hF (met_X1_init l hl0 d q_22 q_23 _ hw) q141 q142 q93 q143 rfl rfl rfl (by decide +kernel) ⟨Nat.le_of_ble_eq_true rfl, Nat.le_of_ble_eq_true rfl⟩ hH [3] rfl rfl rfl hl.1 (Nat.le_of_ble_eq_true rfl) dX0_partsWithout_8 ⟨(by first | exact Nat.le_of_ble_eq_true rfl | omega | (dsimp only; omega)), (by first | exact Nat.le_of_ble_eq_true rfl | omega | (dsimp only; omega))⟩ (fun v w1 H locs hq hH => ?_)
  obtain ⟨rfl, rfl, hw⟩ := hq
  have hH : g_HS d A s [[(ob, .inr (0, [.ref hA, .ref tA, .ref lA, .ref gA, va_rf fa, va_rf oa]))], [(gA, .inr (2, [.int n, .ref gB]))], [(gB, .inl (d.2.1 0, 10, .inl near))], [(q_23, .inl (d.2.1 3, 10, .inl (fun _ => 0)))], [(q_22, .inr (1, [.ref q_23, .int 0]))]] H locs := hH
  refine W.eq (g2 := (F0 m 11 ls [.ref q_22])) rfl ?_
  refine lv_astore_n (lv' := [(2, .ref q_22), (0, .ref ob), (1, .int a1)]) hF.1.1 hF.1.2.1 dX0_partsWithout_11 rfl hl (by decide) rfl (fun ls hl => ?_)
  refine lv_aload_n hF.1.1 hF.1.2.1 dX0_partsWithout_12 rfl (lv_at hl 1 rfl) ?_
  refine g_get (v := .ref gA) hF hH in_X0 rfl 0 0 rfl rfl 3 (by decide) q186 (fun _ h9 => h9) rfl dX0_partsWithout_13 ?_
  refine g_cV [] 0 rfl hF (met_X2_all l hl0 d gA n gB _ hw) q808 q444 q445 q94 q446 rfl rfl (by decide +kernel) ⟨Nat.le_of_ble_eq_true rfl, Nat.le_of_ble_eq_true rfl⟩ hH [1] rfl rfl rfl 0 0 rfl rfl rfl hl.1 (Nat.le_of_ble_eq_true rfl) dX0_partsWithout_16 ⟨(by first | exact Nat.le_of_ble_eq_true rfl | omega | (dsimp only; omega)), (by first | exact Nat.le_of_ble_eq_true rfl | omega | (dsimp only; omega))⟩ (fun v w1 H locs hq hH => ?_)
  obtain ⟨r_24, rfl, rfl, hw⟩ := hq
  have hH : g_HS d A s [[(ob, .inr (0, [.ref hA, .ref tA, .ref lA, .ref gA, va_rf fa, va_rf oa]))], [(gB, .inl (d.2.1 0, 10, .inl near))], [(q_23, .inl (d.2.1 3, 10, .inl (fun _ => 0)))], [(q_22, .inr (1, [.ref q_23, .int 0]))], [(gA, .inr (2, [.int n, .ref gB]))]] H locs := hH
  refine W.eq (g2 := (F0 m 19 ls [.int r_24])) rfl ?_
  refine lv_iconst (v := 1) hF.1.1 hF.1.2.1 dX0_partsWithout_19 (by decide) ?_
  refine lv_iload_n hF.1.1 hF.1.2.1 dX0_partsWithout_20 rfl (lv_at hl 2 rfl) ?_
  refine lv_ishl hF.1.1 hF.1.2.1 dX0_partsWithout_21 ?_
  refine lv_iconst (v := (-1)) hF.1.1 hF.1.2.1 dX0_partsWithout_22 (by decide) ?_
  refine lv_ixor hF.1.1 hF.1.2.1 dX0_partsWithout_23 ?_
  refine lv_iand hF.1.1 hF.1.2.1 dX0_partsWithout_24 ?_
  refine lv_istore_n (lv' := [(3, .int (r_24 &&& (((1 : Int32) <<< (a1 &&& 31)) ^^^ (-1)))), (2, .ref q_22), (0, .ref ob), (1, .int a1)]) hF.1.1 hF.1.2.1 dX0_partsWithout_25 rfl hl (by decide) rfl (fun ls hl => ?_)
  refine lv_iload_n hF.1.1 hF.1.2.1 dX0_partsWithout_26 rfl (lv_at hl 0 rfl) ?_
  refine lv_if_eq (tgt := 37) hF.1.1 hF.1.2.1 dX0_partsWithout_27 (by decide) (fun c_25 => ?_) (fun c_25 => ?_)
  · have hw := hw.1 c_25
    refine lv_iconst (v := 1) hF.1.1 hF.1.2.1 dX0_partsWithout_37 (by decide) ?_
    refine lv_istore (lv' := [(4, .int 1), (3, .int (r_24 &&& (((1 : Int32) <<< (a1 &&& 31)) ^^^ (-1)))), (2, .ref q_22), (0, .ref ob), (1, .int a1)]) hF.1.1 hF.1.2.1 dX0_partsWithout_38 hl (by decide) rfl (fun ls hl => ?_)
    obtain ⟨f_26, hw⟩ := hw
    have hl := lv_sub hl (l' := [(0, .ref ob), (2, .ref q_22), (4, .int 1)]) [3, 2, 0] rfl
    exact bk_40 f_26 q_22 q_23 1 (fun _ => 0) 0 _ _ _ hH hl hw
  · have hw := hw.2 c_25
    refine lv_aload_n hF.1.1 hF.1.2.1 dX0_partsWithout_30 rfl (lv_at hl 1 rfl) ?_
    refine lv_iload_n hF.1.1 hF.1.2.1 dX0_partsWithout_31 rfl (lv_at hl 0 rfl) ?_
    refine lv_i2l (v := ((r_24 &&& (((1 : Int32) <<< (a1 &&& 31)) ^^^ (-1))).toInt64)) hF.1.1 hF.1.2.1 dX0_partsWithout_32 rfl ?_
    refine g_cVW [.long ((r_24 &&& (((1 : Int32) <<< (a1 &&& 31)) ^^^ (-1))).toInt64)] 1 rfl hF (met_X1_add_S l hl0 d q_22 ((r_24 &&& (((1 : Int32) <<< (a1 &&& 31)) ^^^ (-1))).toInt64) q_23 0 (fun _ => 0) 10 _ hw) q243 q244 q245 q93 q246 rfl rfl (by decide +kernel) ⟨Nat.le_of_ble_eq_true rfl, Nat.le_of_ble_eq_true rfl⟩ hH [3, 2] rfl rfl rfl 0 0 rfl rfl rfl hl.1 (Nat.le_of_ble_eq_true rfl) dX0_partsWithout_33 ⟨(by first | exact Nat.le_of_ble_eq_true rfl | omega | (dsimp only; omega)), (by first | exact Nat.le_of_ble_eq_true rfl | omega | (dsimp only; omega))⟩ (fun v w1 H locs hq hH => ?_)
    obtain ⟨r_27, n_28, n_29, rfl, rfl, hw⟩ := hq
    have hH : g_HS d A s [[(ob, .inr (0, [.ref hA, .ref tA, .ref lA, .ref gA, va_rf fa, va_rf oa]))], [(gB, .inl (d.2.1 0, 10, .inl near))], [(gA, .inr (2, [.int n, .ref gB]))], [(q_22, .inr (1, [.ref q_23, .int n_28]))], [(q_23, .inl (d.2.1 3, 10, .inl n_29))]] H locs := hH
    refine W.eq (g2 := (F0 m 36 ls [.int r_27])) rfl ?_
    refine lv_pop hF.1.1 hF.1.2.1 dX0_partsWithout_36 rfl ?_
    refine lv_iconst (v := 1) hF.1.1 hF.1.2.1 dX0_partsWithout_37 (by decide) ?_
    refine lv_istore (lv' := [(4, .int 1), (3, .int (r_24 &&& (((1 : Int32) <<< (a1 &&& 31)) ^^^ (-1)))), (2, .ref q_22), (0, .ref ob), (1, .int a1)]) hF.1.1 hF.1.2.1 dX0_partsWithout_38 hl (by decide) rfl (fun ls hl => ?_)
    obtain ⟨f_30, hw⟩ := hw
    have hH := hH.sub (cs' := [[(ob, .inr (0, [.ref hA, .ref tA, .ref lA, .ref gA, va_rf fa, va_rf oa]))], [(gB, .inl (d.2.1 0, 10, .inl near))], [(q_23, .inl (d.2.1 3, 10, .inl n_29))], [(q_22, .inr (1, [.ref q_23, .int n_28]))], [(gA, .inr (2, [.int n, .ref gB]))]]) [0, 1, 4, 3, 2] rfl rfl
    have hl := lv_sub hl (l' := [(0, .ref ob), (2, .ref q_22), (4, .int 1)]) [3, 2, 0] rfl
    exact bk_40 f_30 q_22 q_23 1 n_29 n_28 _ _ _ hH hl hw

def wp_X0_parts (a1 : Int32) (n : Int32) (near : Nat → Int32) (Q : Int32 → Prop) : Prop := (wp_X0_isVertex a1 n (fun r_7 => ((r_7 = 0 → (Q (-1))) ∧ (¬ r_7 = 0 → (wp_X0_partsWithout a1 n near (fun n_11 n_12 => (Q n_11)))))))
set_option maxHeartbeats 4000000 in
set_option maxRecDepth 100000 in
theorem met_X0_parts (l : Launch) (hl0 : l.stackTraces = false) (d : g_D) (ob : Nat) (a1 : Int32) (hA : Nat) (tA : Nat) (lA : Nat) (gA : Nat) (fa : Option Nat) (oa : Option Nat) (n : Int32) (gB : Nat) (near : Nat → Int32) (Q : Int32 → Prop) (hw : wp_X0_parts a1 n near Q) : g_Met l d yX0_parts cX0_parts 2 (Option.some FieldType.int) ({ frames := 12, cells := 2, slots := 12, locals := 10398 } : Room) [.ref ob, .int a1] [[(ob, .inr (0, [.ref hA, .ref tA, .ref lA, .ref gA, va_rf fa, va_rf oa]))], [(gA, .inr (2, [.int n, .ref gB]))], [(gB, .inl (d.2.1 0, 10, .inl near))]] 2 12 (fun v w1 => ∃ (r : Int32), v = some (.int r) ∧ w1 = [[(ob, .inr (0, [.ref hA, .ref tA, .ref lA, .ref gA, va_rf fa, va_rf oa]))], [(gA, .inr (2, [.int n, .ref gB]))], [(gB, .inl (d.2.1 0, 10, .inl near))]] ∧ Q r) := by
  refine g_enter (by decide) (Nat.le_of_ble_eq_true rfl) ?_
  intro p e s m args below meth c A ls hF hH hl hin
  have hF : g_F p m c cX0_parts 2 s args RX0 meth (Option.some FieldType.int) := hF
  have hl : lv_has ls 2 [(0, .ref ob), (1, .int a1)] := hl
  unfold wp_X0_parts at hw
  refine lv_aload_n hF.1.1 hF.1.2.1 dX0_parts_0 rfl (lv_at hl 0 rfl) ?_
  refine lv_iload_n hF.1.1 hF.1.2.1 dX0_parts_1 rfl (lv_at hl 1 rfl) ?_
  refine g_cV [.int a1] 1 rfl hF (met_X0_isVertex l hl0 d ob a1 hA tA lA gA fa oa n gB _ hw) q352 q354 qs6 q92 q355 rfl rfl (by decide +kernel) ⟨Nat.le_of_ble_eq_true rfl, Nat.le_of_ble_eq_true rfl⟩ hH [0, 1] rfl rfl rfl 0 0 rfl rfl rfl hl.1 (Nat.le_of_ble_eq_true rfl) dX0_parts_2 ⟨(by first | exact Nat.le_of_ble_eq_true rfl | omega | (dsimp only; omega)), (by first | exact Nat.le_of_ble_eq_true rfl | omega | (dsimp only; omega))⟩ (fun v w1 H locs hq hH => ?_)
  obtain ⟨r_7, rfl, rfl, hw⟩ := hq
  have hH : g_HS d A s [[(gB, .inl (d.2.1 0, 10, .inl near))], [(ob, .inr (0, [.ref hA, .ref tA, .ref lA, .ref gA, va_rf fa, va_rf oa]))], [(gA, .inr (2, [.int n, .ref gB]))]] H locs := hH
  refine W.eq (g2 := (F0 m 5 ls [.int r_7])) rfl ?_
  refine lv_if_eq (tgt := 19) hF.1.1 hF.1.2.1 dX0_parts_5 (by decide) (fun c_8 => ?_) (fun c_8 => ?_)
  · have hw := hw.1 c_8
    refine lv_iconst (v := (-1)) hF.1.1 hF.1.2.1 dX0_parts_19 (by decide) ?_
    refine W.widen (k := 2) (n := 12) (by first | exact Nat.le_of_ble_eq_true rfl | omega | (dsimp only; omega)) (by first | exact Nat.le_of_ble_eq_true rfl | omega | (dsimp only; omega)) ?_
    have hH := hH.sub (cs' := [[(ob, .inr (0, [.ref hA, .ref tA, .ref lA, .ref gA, va_rf fa, va_rf oa]))], [(gA, .inr (2, [.int n, .ref gB]))], [(gB, .inl (d.2.1 0, 10, .inl near))]]) [1, 2, 0] rfl rfl
    exact g_iret hF hH ⟨(-1), rfl, rfl, hw⟩ dX0_parts_20
  · have hw := hw.2 c_8
    refine lv_aload_n hF.1.1 hF.1.2.1 dX0_parts_8 rfl (lv_at hl 0 rfl) ?_
    refine lv_iload_n hF.1.1 hF.1.2.1 dX0_parts_9 rfl (lv_at hl 1 rfl) ?_
    refine g_cV [.int a1] 1 rfl hF (met_X0_partsWithout l hl0 d ob a1 hA tA lA gA fa oa n gB near _ hw) q922 q924 qs23 q92 q925 rfl rfl (by decide +kernel) ⟨Nat.le_of_ble_eq_true rfl, Nat.le_of_ble_eq_true rfl⟩ hH [1, 2, 0] rfl rfl rfl 0 0 rfl rfl rfl hl.1 (Nat.le_of_ble_eq_true rfl) dX0_parts_10 ⟨(by first | exact Nat.le_of_ble_eq_true rfl | omega | (dsimp only; omega)), (by first | exact Nat.le_of_ble_eq_true rfl | omega | (dsimp only; omega))⟩ (fun v w1 H locs hq hH => ?_)
    obtain ⟨q_9, q_10, n_11, n_12, rfl, rfl, hw⟩ := hq
    have hH : g_HS d A s [[(ob, .inr (0, [.ref hA, .ref tA, .ref lA, .ref gA, va_rf fa, va_rf oa]))], [(gA, .inr (2, [.int n, .ref gB]))], [(gB, .inl (d.2.1 0, 10, .inl near))], [(q_9, .inr (1, [.ref q_10, .int n_11]))], [(q_10, .inl (d.2.1 3, 10, .inl n_12))]] H locs := hH
    refine W.eq (g2 := (F0 m 13 ls [.ref q_9])) rfl ?_
    refine W.widen (k := 2) (n := 12) (by first | exact Nat.le_of_ble_eq_true rfl | omega | (dsimp only; omega)) (by first | exact Nat.le_of_ble_eq_true rfl | omega | (dsimp only; omega)) ?_
    refine g_getN (v := .int n_11) hF hH in_X1 rfl 3 0 rfl rfl 1 (by decide) q149 (fun _ h9 => h9) rfl dX0_parts_13 ?_
    refine lv_goto (tgt := 20) hF.1.1 hF.1.2.1 dX0_parts_16 (by decide) ?_
    have hH := hH.sub (cs' := [[(ob, .inr (0, [.ref hA, .ref tA, .ref lA, .ref gA, va_rf fa, va_rf oa]))], [(gA, .inr (2, [.int n, .ref gB]))], [(gB, .inl (d.2.1 0, 10, .inl near))]]) [0, 1, 2] rfl rfl
    exact g_iret hF hH ⟨n_11, rfl, rfl, hw⟩ dX0_parts_20

def wb_X0_part_25 (a2 : Int32) (n : Int32) (near : Nat → Int32) (v_many : Int32) (v_q_5 : Nat → Int32) (Q : Int32 → Prop) : Nat → Int32 → Prop
  | 0, _ => False
  | fu + 1, x4 => (wp_X1_at_S x4 v_many v_q_5 10 (fun r_12 => (wp_X0_has (r_12.toInt32) a2 (fun r_13 => ((¬ r_13 = 0 → (wp_X1_at_S x4 v_many v_q_5 10 (fun r_15 => (Q (r_15.toInt32))))) ∧ (r_13 = 0 → (wb_X0_part_25 a2 n near v_many v_q_5 Q fu) (x4 + 1)))))))
def wp_X0_part (a1 : Int32) (a2 : Int32) (n : Int32) (near : Nat → Int32) (Q : Int32 → Prop) : Prop := (wp_X0_areVertices a1 a2 n (fun r_16 => ((r_16 = 0 → (Q (-1))) ∧ (¬ r_16 = 0 → ((¬ a1 = a2 → (wp_X0_partsWithout a1 n near (fun n_21 n_22 => (∃ f25, wb_X0_part_25 a2 n near n_21 n_22 Q f25 0)))) ∧ (a1 = a2 → (Q (-1))))))))
set_option maxHeartbeats 4000000 in
set_option maxRecDepth 100000 in
theorem met_X0_part (l : Launch) (hl0 : l.stackTraces = false) (d : g_D) (ob : Nat) (a1 : Int32) (a2 : Int32) (hA : Nat) (tA : Nat) (lA : Nat) (gA : Nat) (fa : Option Nat) (oa : Option Nat) (n : Int32) (gB : Nat) (near : Nat → Int32) (Q : Int32 → Prop) (hw : wp_X0_part a1 a2 n near Q) : g_Met l d yX0_part cX0_part 5 (Option.some FieldType.int) ({ frames := 12, cells := 2, slots := 12, locals := 10398 } : Room) [.ref ob, .int a1, .int a2] [[(ob, .inr (0, [.ref hA, .ref tA, .ref lA, .ref gA, va_rf fa, va_rf oa]))], [(gA, .inr (2, [.int n, .ref gB]))], [(gB, .inl (d.2.1 0, 10, .inl near))]] 2 12 (fun v w1 => ∃ (r : Int32), v = some (.int r) ∧ w1 = [[(ob, .inr (0, [.ref hA, .ref tA, .ref lA, .ref gA, va_rf fa, va_rf oa]))], [(gA, .inr (2, [.int n, .ref gB]))], [(gB, .inl (d.2.1 0, 10, .inl near))]] ∧ Q r) := by
  refine g_enter (by decide) (Nat.le_of_ble_eq_true rfl) ?_
  intro p e s m args below meth c A ls hF hH hl hin
  have hF : g_F p m c cX0_part 5 s args RX0 meth (Option.some FieldType.int) := hF
  have hl : lv_has ls 5 [(0, .ref ob), (1, .int a1), (2, .int a2)] := hl
  have bk_25 : ∀ (v_many : Int32) (v_q_5 : Nat → Int32) (fu : Nat) (q_4 : Nat) (q_5 : Nat) (x4 : Int32) (H : Heap) (locs : List Loc) (ls : Array Slot), g_HS d A s [[(ob, .inr (0, [.ref hA, .ref tA, .ref lA, .ref gA, va_rf fa, va_rf oa]))], [(gA, .inr (2, [.int n, .ref gB]))], [(gB, .inl (d.2.1 0, 10, .inl near))], [(q_4, .inr (1, [.ref q_5, .int v_many]))], [(q_5, .inl (d.2.1 3, 10, .inl v_q_5))]] H locs → lv_has ls 5 [(2, .int a2), (3, .ref q_4), (4, .int x4)] → wb_X0_part_25 a2 n near v_many v_q_5 Q fu x4 → W p l e ({ frames := 12, cells := 2, slots := 12, locals := 10398 } : Room) s m args below meth c H locs 2 12 (g_E d (fun v w1 => ∃ (r : Int32), v = some (.int r) ∧ w1 = [[(ob, .inr (0, [.ref hA, .ref tA, .ref lA, .ref gA, va_rf fa, va_rf oa]))], [(gA, .inr (2, [.int n, .ref gB]))], [(gB, .inl (d.2.1 0, 10, .inl near))]] ∧ Q r) A below args s 2 12) (F0 m 25 ls []) := by
    intro v_many v_q_5 fu
    induction fu with
    | zero => intro q_4 q_5 x4 H locs ls hH hl hw; rw [wb_X0_part_25] at hw; exact hw.elim
    | succ fu ih =>
      intro q_4 q_5 x4 H locs ls hH hl hw
      rw [wb_X0_part_25] at hw
      refine lv_aload_n hF.1.1 hF.1.2.1 dX0_part_25 rfl (lv_at hl 1 rfl) ?_
      refine lv_iload hF.1.1 hF.1.2.1 dX0_part_26 (lv_at hl 2 rfl) ?_
      refine g_cV [.int x4] 1 rfl hF (met_X1_at_S l hl0 d q_4 x4 q_5 v_many v_q_5 10 _ hw) q930 q225 q226 q93 q227 rfl rfl (by decide +kernel) ⟨Nat.le_of_ble_eq_true rfl, Nat.le_of_ble_eq_true rfl⟩ hH [3, 4] rfl rfl rfl 0 0 rfl rfl rfl hl.1 (Nat.le_of_ble_eq_true rfl) dX0_part_28 ⟨(by first | exact Nat.le_of_ble_eq_true rfl | omega | (dsimp only; omega)), (by first | exact Nat.le_of_ble_eq_true rfl | omega | (dsimp only; omega))⟩ (fun v w1 H locs hq hH => ?_)
      obtain ⟨r_12, rfl, rfl, hw⟩ := hq
      have hH : g_HS d A s [[(ob, .inr (0, [.ref hA, .ref tA, .ref lA, .ref gA, va_rf fa, va_rf oa]))], [(gA, .inr (2, [.int n, .ref gB]))], [(gB, .inl (d.2.1 0, 10, .inl near))], [(q_4, .inr (1, [.ref q_5, .int v_many]))], [(q_5, .inl (d.2.1 3, 10, .inl v_q_5))]] H locs := hH
      refine W.eq (g2 := (F0 m 31 ls [.long r_12])) rfl ?_
      refine lv_l2i (v := (r_12.toInt32)) hF.1.1 hF.1.2.1 dX0_part_31 rfl ?_
      refine lv_iload_n hF.1.1 hF.1.2.1 dX0_part_32 rfl (lv_at hl 0 rfl) ?_
      refine g_cS [.int (r_12.toInt32), .int a2] 2 rfl hF (met_X0_has l hl0 d (r_12.toInt32) a2 _ hw) q516 q241 q92 q242 rfl rfl (by decide +kernel) ⟨Nat.le_of_ble_eq_true rfl, Nat.le_of_ble_eq_true rfl⟩ hH [] rfl rfl rfl hl.1 (Nat.le_of_ble_eq_true rfl) dX0_part_33 ⟨(by first | exact Nat.le_of_ble_eq_true rfl | omega | (dsimp only; omega)), (by first | exact Nat.le_of_ble_eq_true rfl | omega | (dsimp only; omega))⟩ (fun v w1 H locs hq hH => ?_)
      obtain ⟨r_13, rfl, rfl, hw⟩ := hq
      have hH : g_HS d A s [[(ob, .inr (0, [.ref hA, .ref tA, .ref lA, .ref gA, va_rf fa, va_rf oa]))], [(gA, .inr (2, [.int n, .ref gB]))], [(gB, .inl (d.2.1 0, 10, .inl near))], [(q_4, .inr (1, [.ref q_5, .int v_many]))], [(q_5, .inl (d.2.1 3, 10, .inl v_q_5))]] H locs := hH
      refine W.eq (g2 := (F0 m 36 ls [.int r_13])) rfl ?_
      refine lv_if_ne (tgt := 45) hF.1.1 hF.1.2.1 dX0_part_36 (by decide) (fun c_14 => ?_) (fun c_14 => ?_)
      · have hw := hw.1 c_14
        refine lv_aload_n hF.1.1 hF.1.2.1 dX0_part_45 rfl (lv_at hl 1 rfl) ?_
        refine lv_iload hF.1.1 hF.1.2.1 dX0_part_46 (lv_at hl 2 rfl) ?_
        refine g_cV [.int x4] 1 rfl hF (met_X1_at_S l hl0 d q_4 x4 q_5 v_many v_q_5 10 _ hw) q930 q225 q226 q93 q227 rfl rfl (by decide +kernel) ⟨Nat.le_of_ble_eq_true rfl, Nat.le_of_ble_eq_true rfl⟩ hH [3, 4] rfl rfl rfl 0 0 rfl rfl rfl hl.1 (Nat.le_of_ble_eq_true rfl) dX0_part_48 ⟨(by first | exact Nat.le_of_ble_eq_true rfl | omega | (dsimp only; omega)), (by first | exact Nat.le_of_ble_eq_true rfl | omega | (dsimp only; omega))⟩ (fun v w1 H locs hq hH => ?_)
        obtain ⟨r_15, rfl, rfl, hw⟩ := hq
        have hH : g_HS d A s [[(ob, .inr (0, [.ref hA, .ref tA, .ref lA, .ref gA, va_rf fa, va_rf oa]))], [(gA, .inr (2, [.int n, .ref gB]))], [(gB, .inl (d.2.1 0, 10, .inl near))], [(q_4, .inr (1, [.ref q_5, .int v_many]))], [(q_5, .inl (d.2.1 3, 10, .inl v_q_5))]] H locs := hH
        refine W.eq (g2 := (F0 m 51 ls [.long r_15])) rfl ?_
        refine lv_l2i (v := (r_15.toInt32)) hF.1.1 hF.1.2.1 dX0_part_51 rfl ?_
        have hH := hH.sub (cs' := [[(ob, .inr (0, [.ref hA, .ref tA, .ref lA, .ref gA, va_rf fa, va_rf oa]))], [(gA, .inr (2, [.int n, .ref gB]))], [(gB, .inl (d.2.1 0, 10, .inl near))]]) [0, 1, 2] rfl rfl
        exact g_iret hF hH ⟨(r_15.toInt32), rfl, rfl, hw⟩ dX0_part_52
      · have hw := hw.2 c_14
        refine lv_iinc (v := (x4 + 1)) (lv' := [(4, .int (x4 + 1)), (2, .int a2), (3, .ref q_4)]) hF.1.1 hF.1.2.1 dX0_part_39 hl (k := 2) rfl rfl (by decide) rfl (fun ls hl => ?_)
        refine lv_goto (tgt := 25) hF.1.1 hF.1.2.1 dX0_part_42 (by decide) ?_
        have hl := lv_sub hl (l' := [(2, .int a2), (3, .ref q_4), (4, .int (x4 + 1))]) [1, 2, 0] rfl
        exact ih q_4 q_5 (x4 + 1) _ _ _ hH hl hw
  unfold wp_X0_part at hw
  refine lv_aload_n hF.1.1 hF.1.2.1 dX0_part_0 rfl (lv_at hl 0 rfl) ?_
  refine lv_iload_n hF.1.1 hF.1.2.1 dX0_part_1 rfl (lv_at hl 1 rfl) ?_
  refine lv_iload_n hF.1.1 hF.1.2.1 dX0_part_2 rfl (lv_at hl 2 rfl) ?_
  refine g_cV [.int a1, .int a2] 2 rfl hF (met_X0_areVertices l hl0 d ob a1 a2 hA tA lA gA fa oa n gB _ hw) q348 q350 qs5 q92 q351 rfl rfl (by decide +kernel) ⟨Nat.le_of_ble_eq_true rfl, Nat.le_of_ble_eq_true rfl⟩ hH [0, 1] rfl rfl rfl 0 0 rfl rfl rfl hl.1 (Nat.le_of_ble_eq_true rfl) dX0_part_3 ⟨(by first | exact Nat.le_of_ble_eq_true rfl | omega | (dsimp only; omega)), (by first | exact Nat.le_of_ble_eq_true rfl | omega | (dsimp only; omega))⟩ (fun v w1 H locs hq hH => ?_)
  obtain ⟨r_16, rfl, rfl, hw⟩ := hq
  have hH : g_HS d A s [[(gB, .inl (d.2.1 0, 10, .inl near))], [(ob, .inr (0, [.ref hA, .ref tA, .ref lA, .ref gA, va_rf fa, va_rf oa]))], [(gA, .inr (2, [.int n, .ref gB]))]] H locs := hH
  refine W.eq (g2 := (F0 m 6 ls [.int r_16])) rfl ?_
  refine lv_if_eq (tgt := 14) hF.1.1 hF.1.2.1 dX0_part_6 (by decide) (fun c_17 => ?_) (fun c_17 => ?_)
  · have hw := hw.1 c_17
    refine lv_iconst (v := (-1)) hF.1.1 hF.1.2.1 dX0_part_14 (by decide) ?_
    refine W.widen (k := 2) (n := 12) (by first | exact Nat.le_of_ble_eq_true rfl | omega | (dsimp only; omega)) (by first | exact Nat.le_of_ble_eq_true rfl | omega | (dsimp only; omega)) ?_
    have hH := hH.sub (cs' := [[(ob, .inr (0, [.ref hA, .ref tA, .ref lA, .ref gA, va_rf fa, va_rf oa]))], [(gA, .inr (2, [.int n, .ref gB]))], [(gB, .inl (d.2.1 0, 10, .inl near))]]) [1, 2, 0] rfl rfl
    exact g_iret hF hH ⟨(-1), rfl, rfl, hw⟩ dX0_part_15
  · have hw := hw.2 c_17
    refine lv_iload_n hF.1.1 hF.1.2.1 dX0_part_9 rfl (lv_at hl 1 rfl) ?_
    refine lv_iload_n hF.1.1 hF.1.2.1 dX0_part_10 rfl (lv_at hl 2 rfl) ?_
    refine lv_icmp_ne (tgt := 16) hF.1.1 hF.1.2.1 dX0_part_11 (by decide) (fun c_18 => ?_) (fun c_18 => ?_)
    · have hw := hw.1 c_18
      refine lv_aload_n hF.1.1 hF.1.2.1 dX0_part_16 rfl (lv_at hl 0 rfl) ?_
      refine lv_iload_n hF.1.1 hF.1.2.1 dX0_part_17 rfl (lv_at hl 1 rfl) ?_
      refine g_cV [.int a1] 1 rfl hF (met_X0_partsWithout l hl0 d ob a1 hA tA lA gA fa oa n gB near _ hw) q922 q924 qs23 q92 q925 rfl rfl (by decide +kernel) ⟨Nat.le_of_ble_eq_true rfl, Nat.le_of_ble_eq_true rfl⟩ hH [1, 2, 0] rfl rfl rfl 0 0 rfl rfl rfl hl.1 (Nat.le_of_ble_eq_true rfl) dX0_part_18 ⟨(by first | exact Nat.le_of_ble_eq_true rfl | omega | (dsimp only; omega)), (by first | exact Nat.le_of_ble_eq_true rfl | omega | (dsimp only; omega))⟩ (fun v w1 H locs hq hH => ?_)
      obtain ⟨q_19, q_20, n_21, n_22, rfl, rfl, hw⟩ := hq
      have hH : g_HS d A s [[(ob, .inr (0, [.ref hA, .ref tA, .ref lA, .ref gA, va_rf fa, va_rf oa]))], [(gA, .inr (2, [.int n, .ref gB]))], [(gB, .inl (d.2.1 0, 10, .inl near))], [(q_19, .inr (1, [.ref q_20, .int n_21]))], [(q_20, .inl (d.2.1 3, 10, .inl n_22))]] H locs := hH
      refine W.eq (g2 := (F0 m 21 ls [.ref q_19])) rfl ?_
      refine W.widen (k := 2) (n := 12) (by first | exact Nat.le_of_ble_eq_true rfl | omega | (dsimp only; omega)) (by first | exact Nat.le_of_ble_eq_true rfl | omega | (dsimp only; omega)) ?_
      refine lv_astore_n (lv' := [(3, .ref q_19), (0, .ref ob), (1, .int a1), (2, .int a2)]) hF.1.1 hF.1.2.1 dX0_part_21 rfl hl (by decide) rfl (fun ls hl => ?_)
      refine lv_iconst (v := 0) hF.1.1 hF.1.2.1 dX0_part_22 (by decide) ?_
      refine lv_istore (lv' := [(4, .int 0), (3, .ref q_19), (0, .ref ob), (1, .int a1), (2, .int a2)]) hF.1.1 hF.1.2.1 dX0_part_23 hl (by decide) rfl (fun ls hl => ?_)
      obtain ⟨f_23, hw⟩ := hw
      have hl := lv_sub hl (l' := [(2, .int a2), (3, .ref q_19), (4, .int 0)]) [4, 1, 0] rfl
      exact bk_25 n_21 n_22 f_23 q_19 q_20 0 _ _ _ hH hl hw
    · have hw := hw.2 c_18
      refine lv_iconst (v := (-1)) hF.1.1 hF.1.2.1 dX0_part_14 (by decide) ?_
      refine W.widen (k := 2) (n := 12) (by first | exact Nat.le_of_ble_eq_true rfl | omega | (dsimp only; omega)) (by first | exact Nat.le_of_ble_eq_true rfl | omega | (dsimp only; omega)) ?_
      have hH := hH.sub (cs' := [[(ob, .inr (0, [.ref hA, .ref tA, .ref lA, .ref gA, va_rf fa, va_rf oa]))], [(gA, .inr (2, [.int n, .ref gB]))], [(gB, .inl (d.2.1 0, 10, .inl near))]]) [1, 2, 0] rfl rfl
      exact g_iret hF hH ⟨(-1), rfl, rfl, hw⟩ dX0_part_15

def wp_X0_place (a1 : Int32) (n : Int32) (lm : Int32) (lf : Nat → Int32) (Q : Int32 → Int32 → (Nat → Int32) → Prop) : Prop := (wp_X0_isVertex a1 n (fun r_8 => ((¬ r_8 = 0 → (wp_X1_place_B (a1.toInt64) lm lf (fun r_10 => ((r_10 = (-1) → (wp_X1_add_B (a1.toInt64) lm lf (fun r_12 n_13 n_14 => (Q n_13 n_13 n_14)))) ∧ (¬ r_10 = (-1) → (Q (-2) lm lf)))))) ∧ (r_8 = 0 → (Q (-1) lm lf)))))
set_option maxHeartbeats 4000000 in
set_option maxRecDepth 100000 in
theorem met_X0_place (l : Launch) (hl0 : l.stackTraces = false) (d : g_D) (ob : Nat) (a1 : Int32) (hA : Nat) (tA : Nat) (lA : Nat) (gA : Nat) (fa : Option Nat) (oa : Option Nat) (n : Int32) (gB : Nat) (lB : Nat) (lm : Int32) (lf : Nat → Int32) (Q : Int32 → Int32 → (Nat → Int32) → Prop) (hw : wp_X0_place a1 n lm lf Q) : g_Met l d yX0_place cX0_place 2 (Option.some FieldType.int) ({ frames := 10, cells := 0, slots := 0, locals := 10346 } : Room) [.ref ob, .int a1] [[(ob, .inr (0, [.ref hA, .ref tA, .ref lA, .ref gA, va_rf fa, va_rf oa]))], [(gA, .inr (2, [.int n, .ref gB]))], [(lA, .inr (1, [.ref lB, .int lm]))], [(lB, .inl (d.2.1 2, 10, .inl lf))]] 0 0 (fun v w1 => ∃ (r : Int32) (lm2 : Int32) (lf2 : Nat → Int32), v = some (.int r) ∧ w1 = [[(ob, .inr (0, [.ref hA, .ref tA, .ref lA, .ref gA, va_rf fa, va_rf oa]))], [(gA, .inr (2, [.int n, .ref gB]))], [(lA, .inr (1, [.ref lB, .int lm2]))], [(lB, .inl (d.2.1 2, 10, .inl lf2))]] ∧ Q r lm2 lf2) := by
  refine g_enter (by decide) (Nat.le_of_ble_eq_true rfl) ?_
  intro p e s m args below meth c A ls hF hH hl hin
  have hF : g_F p m c cX0_place 2 s args RX0 meth (Option.some FieldType.int) := hF
  have hl : lv_has ls 2 [(0, .ref ob), (1, .int a1)] := hl
  unfold wp_X0_place at hw
  refine lv_aload_n hF.1.1 hF.1.2.1 dX0_place_0 rfl (lv_at hl 0 rfl) ?_
  refine lv_iload_n hF.1.1 hF.1.2.1 dX0_place_1 rfl (lv_at hl 1 rfl) ?_
  refine g_cV [.int a1] 1 rfl hF (met_X0_isVertex l hl0 d ob a1 hA tA lA gA fa oa n gB _ hw) q352 q354 qs6 q92 q355 rfl rfl (by decide +kernel) ⟨Nat.le_of_ble_eq_true rfl, Nat.le_of_ble_eq_true rfl⟩ hH [0, 1] rfl rfl rfl 0 0 rfl rfl rfl hl.1 (Nat.le_of_ble_eq_true rfl) dX0_place_2 ⟨(by first | exact Nat.le_of_ble_eq_true rfl | omega | (dsimp only; omega)), (by first | exact Nat.le_of_ble_eq_true rfl | omega | (dsimp only; omega))⟩ (fun v w1 H locs hq hH => ?_)
  obtain ⟨r_8, rfl, rfl, hw⟩ := hq
  have hH : g_HS d A s [[(lA, .inr (1, [.ref lB, .int lm]))], [(lB, .inl (d.2.1 2, 10, .inl lf))], [(ob, .inr (0, [.ref hA, .ref tA, .ref lA, .ref gA, va_rf fa, va_rf oa]))], [(gA, .inr (2, [.int n, .ref gB]))]] H locs := hH
  refine W.eq (g2 := (F0 m 5 ls [.int r_8])) rfl ?_
  refine lv_if_ne (tgt := 10) hF.1.1 hF.1.2.1 dX0_place_5 (by decide) (fun c_9 => ?_) (fun c_9 => ?_)
  · have hw := hw.1 c_9
    refine lv_aload_n hF.1.1 hF.1.2.1 dX0_place_10 rfl (lv_at hl 0 rfl) ?_
    refine g_get (v := .ref lA) hF hH in_X0 rfl 2 0 rfl rfl 2 (by decide) q185 (fun _ h9 => h9) rfl dX0_place_11 ?_
    refine lv_iload_n hF.1.1 hF.1.2.1 dX0_place_14 rfl (lv_at hl 1 rfl) ?_
    refine lv_i2l (v := (a1.toInt64)) hF.1.1 hF.1.2.1 dX0_place_15 rfl ?_
    refine g_cV [.long (a1.toInt64)] 1 rfl hF (met_X1_place_B l hl0 d lA (a1.toInt64) lB lm lf _ hw) q943 q944 q945 q93 q946 rfl rfl (by decide +kernel) ⟨Nat.le_of_ble_eq_true rfl, Nat.le_of_ble_eq_true rfl⟩ hH [0, 1] rfl rfl rfl 0 0 rfl rfl rfl hl.1 (Nat.le_of_ble_eq_true rfl) dX0_place_16 ⟨(by first | exact Nat.le_of_ble_eq_true rfl | omega | (dsimp only; omega)), (by first | exact Nat.le_of_ble_eq_true rfl | omega | (dsimp only; omega))⟩ (fun v w1 H locs hq hH => ?_)
    obtain ⟨r_10, rfl, rfl, hw⟩ := hq
    have hH : g_HS d A s [[(ob, .inr (0, [.ref hA, .ref tA, .ref lA, .ref gA, va_rf fa, va_rf oa]))], [(gA, .inr (2, [.int n, .ref gB]))], [(lA, .inr (1, [.ref lB, .int lm]))], [(lB, .inl (d.2.1 2, 10, .inl lf))]] H locs := hH
    refine W.eq (g2 := (F0 m 19 ls [.int r_10])) rfl ?_
    refine lv_iconst (v := (-1)) hF.1.1 hF.1.2.1 dX0_place_19 (by decide) ?_
    refine lv_icmp_eq (tgt := 26) hF.1.1 hF.1.2.1 dX0_place_20 (by decide) (fun c_11 => ?_) (fun c_11 => ?_)
    · have hw := hw.1 c_11
      refine lv_aload_n hF.1.1 hF.1.2.1 dX0_place_26 rfl (lv_at hl 0 rfl) ?_
      refine g_get (v := .ref lA) hF hH in_X0 rfl 0 0 rfl rfl 2 (by decide) q185 (fun _ h9 => h9) rfl dX0_place_27 ?_
      refine lv_iload_n hF.1.1 hF.1.2.1 dX0_place_30 rfl (lv_at hl 1 rfl) ?_
      refine lv_i2l (v := (a1.toInt64)) hF.1.1 hF.1.2.1 dX0_place_31 rfl ?_
      refine g_cVW [.long (a1.toInt64)] 1 rfl hF (met_X1_add_B l hl0 d lA (a1.toInt64) lB lm lf _ hw) q243 q244 q245 q93 q246 rfl rfl (by decide +kernel) ⟨Nat.le_of_ble_eq_true rfl, Nat.le_of_ble_eq_true rfl⟩ hH [2, 3] rfl rfl rfl 0 0 rfl rfl rfl hl.1 (Nat.le_of_ble_eq_true rfl) dX0_place_32 ⟨(by first | exact Nat.le_of_ble_eq_true rfl | omega | (dsimp only; omega)), (by first | exact Nat.le_of_ble_eq_true rfl | omega | (dsimp only; omega))⟩ (fun v w1 H locs hq hH => ?_)
      obtain ⟨r_12, n_13, n_14, rfl, rfl, hw⟩ := hq
      have hH : g_HS d A s [[(ob, .inr (0, [.ref hA, .ref tA, .ref lA, .ref gA, va_rf fa, va_rf oa]))], [(gA, .inr (2, [.int n, .ref gB]))], [(lA, .inr (1, [.ref lB, .int n_13]))], [(lB, .inl (d.2.1 2, 10, .inl n_14))]] H locs := hH
      refine W.eq (g2 := (F0 m 35 ls [.int r_12])) rfl ?_
      refine lv_pop hF.1.1 hF.1.2.1 dX0_place_35 rfl ?_
      refine lv_aload_n hF.1.1 hF.1.2.1 dX0_place_36 rfl (lv_at hl 0 rfl) ?_
      refine g_get (v := .ref lA) hF hH in_X0 rfl 0 0 rfl rfl 2 (by decide) q185 (fun _ h9 => h9) rfl dX0_place_37 ?_
      refine g_getN (v := .int n_13) hF hH in_X1 rfl 2 0 rfl rfl 1 (by decide) q149 (fun _ h9 => h9) rfl dX0_place_40 ?_
      exact g_iret hF hH ⟨n_13, n_13, n_14, rfl, rfl, hw⟩ dX0_place_43
    · have hw := hw.2 c_11
      refine lv_bipush (v := (-2)) hF.1.1 hF.1.2.1 dX0_place_23 (by decide) ?_
      exact g_iret hF hH ⟨(-2), lm, lf, rfl, rfl, hw⟩ dX0_place_25
  · have hw := hw.2 c_9
    refine lv_iconst (v := (-1)) hF.1.1 hF.1.2.1 dX0_place_8 (by decide) ?_
    have hH := hH.sub (cs' := [[(ob, .inr (0, [.ref hA, .ref tA, .ref lA, .ref gA, va_rf fa, va_rf oa]))], [(gA, .inr (2, [.int n, .ref gB]))], [(lA, .inr (1, [.ref lB, .int lm]))], [(lB, .inl (d.2.1 2, 10, .inl lf))]]) [2, 3, 0, 1] rfl rfl
    exact g_iret hF hH ⟨(-1), lm, lf, rfl, rfl, hw⟩ dX0_place_9

def wp_X0_clearRow (lm : Int32) (Q : Int32 → Int32 → Prop) : Prop := (wp_X1_clear lm (fun r_3 n_4 => (Q r_3 n_4)))
set_option maxHeartbeats 4000000 in
set_option maxRecDepth 100000 in
theorem met_X0_clearRow (l : Launch) (hl0 : l.stackTraces = false) (d : g_D) (ob : Nat) (hA : Nat) (tA : Nat) (lA : Nat) (gA : Nat) (fa : Option Nat) (oa : Option Nat) (lB : Nat) (lm : Int32) (Q : Int32 → Int32 → Prop) (hw : wp_X0_clearRow lm Q) : g_Met l d yX0_clearRow cX0_clearRow 1 (Option.some FieldType.int) ({ frames := 1, cells := 0, slots := 0, locals := 21 } : Room) [.ref ob] [[(ob, .inr (0, [.ref hA, .ref tA, .ref lA, .ref gA, va_rf fa, va_rf oa]))], [(lA, .inr (1, [.ref lB, .int lm]))]] 0 0 (fun v w1 => ∃ (r : Int32) (lm2 : Int32), v = some (.int r) ∧ w1 = [[(ob, .inr (0, [.ref hA, .ref tA, .ref lA, .ref gA, va_rf fa, va_rf oa]))], [(lA, .inr (1, [.ref lB, .int lm2]))]] ∧ Q r lm2) := by
  refine g_enter (by decide) (Nat.le_of_ble_eq_true rfl) ?_
  intro p e s m args below meth c A ls hF hH hl hin
  have hF : g_F p m c cX0_clearRow 1 s args RX0 meth (Option.some FieldType.int) := hF
  have hl : lv_has ls 1 [(0, .ref ob)] := hl
  unfold wp_X0_clearRow at hw
  refine lv_aload_n hF.1.1 hF.1.2.1 dX0_clearRow_0 rfl (lv_at hl 0 rfl) ?_
  refine g_get (v := .ref lA) hF hH in_X0 rfl 0 0 rfl rfl 2 (by decide) q185 (fun _ h9 => h9) rfl dX0_clearRow_1 ?_
  refine g_cV [] 0 rfl hF (met_X1_clear l hl0 d lA lB lm _ hw) q340 q341 q342 q93 q343 rfl rfl (by decide +kernel) ⟨Nat.le_of_ble_eq_true rfl, Nat.le_of_ble_eq_true rfl⟩ hH [1] rfl rfl rfl 0 0 rfl rfl rfl hl.1 (Nat.le_of_ble_eq_true rfl) dX0_clearRow_4 ⟨(by first | exact Nat.le_of_ble_eq_true rfl | omega | (dsimp only; omega)), (by first | exact Nat.le_of_ble_eq_true rfl | omega | (dsimp only; omega))⟩ (fun v w1 H locs hq hH => ?_)
  obtain ⟨r_3, n_4, rfl, rfl, hw⟩ := hq
  have hH : g_HS d A s [[(ob, .inr (0, [.ref hA, .ref tA, .ref lA, .ref gA, va_rf fa, va_rf oa]))], [(lA, .inr (1, [.ref lB, .int n_4]))]] H locs := hH
  refine W.eq (g2 := (F0 m 7 ls [.int r_3])) rfl ?_
  exact g_iret hF hH ⟨r_3, n_4, rfl, rfl, hw⟩ dX0_clearRow_7

def wb_X0_isTogether_13 (a1 : Int32) (lm : Int32) (lf : Nat → Int32) (Q : Int32 → Prop) : Nat → Int32 → Int32 → Int32 → Prop
  | 0, _, _, _ => False
  | fu + 1, x2, x3, x4 => ((lm ≤ x4 → (wp_J7_bitCount a1 (fun r_8 => ((¬ ((x3 - x2) + 1) = r_8 → (Q 0)) ∧ (((x3 - x2) + 1) = r_8 → (Q 1)))))) ∧ (¬ lm ≤ x4 → (wp_X1_at_B x4 lm lf (fun r_10 => (wp_X0_has a1 (r_10.toInt32) (fun r_11 => ((r_11 = 0 → (wb_X0_isTogether_13 a1 lm lf Q fu) x2 x3 (x4 + 1)) ∧ (¬ r_11 = 0 → (wb_X0_isTogether_13 a1 lm lf Q fu) (if x4 < x2 then x4 else x2) x4 (x4 + 1)))))))))
def wp_X0_isTogether (a1 : Int32) (lm : Int32) (lf : Nat → Int32) (Q : Int32 → Prop) : Prop := (∃ f13, wb_X0_isTogether_13 a1 lm lf Q f13 lm (-1) 0)
set_option maxHeartbeats 4000000 in
set_option maxRecDepth 100000 in
theorem met_X0_isTogether (l : Launch) (hl0 : l.stackTraces = false) (d : g_D) (ob : Nat) (a1 : Int32) (hA : Nat) (tA : Nat) (lA : Nat) (gA : Nat) (fa : Option Nat) (oa : Option Nat) (lB : Nat) (lm : Int32) (lf : Nat → Int32) (Q : Int32 → Prop) (hw : wp_X0_isTogether a1 lm lf Q) : g_Met l d yX0_isTogether cX0_isTogether 5 (Option.some FieldType.boolean) ({ frames := 1, cells := 0, slots := 0, locals := 32 } : Room) [.ref ob, .int a1] [[(ob, .inr (0, [.ref hA, .ref tA, .ref lA, .ref gA, va_rf fa, va_rf oa]))], [(lA, .inr (1, [.ref lB, .int lm]))], [(lB, .inl (d.2.1 2, 10, .inl lf))]] 0 0 (fun v w1 => ∃ (r : Int32), v = some (.int r) ∧ w1 = [[(ob, .inr (0, [.ref hA, .ref tA, .ref lA, .ref gA, va_rf fa, va_rf oa]))], [(lA, .inr (1, [.ref lB, .int lm]))], [(lB, .inl (d.2.1 2, 10, .inl lf))]] ∧ Q r) := by
  refine g_enter (by decide) (Nat.le_of_ble_eq_true rfl) ?_
  intro p e s m args below meth c A ls hF hH hl hin
  have hF : g_F p m c cX0_isTogether 5 s args RX0 meth (Option.some FieldType.boolean) := hF
  have hl : lv_has ls 5 [(0, .ref ob), (1, .int a1)] := hl
  have bk_13 : ∀ (fu : Nat) (x2 : Int32) (x3 : Int32) (x4 : Int32) (H : Heap) (locs : List Loc) (ls : Array Slot), g_HS d A s [[(ob, .inr (0, [.ref hA, .ref tA, .ref lA, .ref gA, va_rf fa, va_rf oa]))], [(lA, .inr (1, [.ref lB, .int lm]))], [(lB, .inl (d.2.1 2, 10, .inl lf))]] H locs → lv_has ls 5 [(0, .ref ob), (1, .int a1), (2, .int x2), (3, .int x3), (4, .int x4)] → wb_X0_isTogether_13 a1 lm lf Q fu x2 x3 x4 → W p l e ({ frames := 1, cells := 0, slots := 0, locals := 32 } : Room) s m args below meth c H locs 0 0 (g_E d (fun v w1 => ∃ (r : Int32), v = some (.int r) ∧ w1 = [[(ob, .inr (0, [.ref hA, .ref tA, .ref lA, .ref gA, va_rf fa, va_rf oa]))], [(lA, .inr (1, [.ref lB, .int lm]))], [(lB, .inl (d.2.1 2, 10, .inl lf))]] ∧ Q r) A below args s 0 0) (F0 m 13 ls []) := by
    intro fu
    induction fu with
    | zero => intro x2 x3 x4 H locs ls hH hl hw; rw [wb_X0_isTogether_13] at hw; exact hw.elim
    | succ fu ih =>
      intro x2 x3 x4 H locs ls hH hl hw
      rw [wb_X0_isTogether_13] at hw
      refine lv_iload hF.1.1 hF.1.2.1 dX0_isTogether_13 (lv_at hl 4 rfl) ?_
      refine lv_aload_n hF.1.1 hF.1.2.1 dX0_isTogether_15 rfl (lv_at hl 0 rfl) ?_
      refine g_get (v := .ref lA) hF hH in_X0 rfl 0 0 rfl rfl 2 (by decide) q185 (fun _ h9 => h9) rfl dX0_isTogether_16 ?_
      refine g_getN (v := .int lm) hF hH in_X1 rfl 1 0 rfl rfl 1 (by decide) q149 (fun _ h9 => h9) rfl dX0_isTogether_19 ?_
      refine lv_icmp_ge (tgt := 58) hF.1.1 hF.1.2.1 dX0_isTogether_22 (by decide) (fun c_7 => ?_) (fun c_7 => ?_)
      · have hw := hw.1 c_7
        refine lv_iload_n hF.1.1 hF.1.2.1 dX0_isTogether_58 rfl (lv_at hl 3 rfl) ?_
        refine lv_iload_n hF.1.1 hF.1.2.1 dX0_isTogether_59 rfl (lv_at hl 2 rfl) ?_
        refine lv_isub hF.1.1 hF.1.2.1 dX0_isTogether_60 ?_
        refine lv_iconst (v := 1) hF.1.1 hF.1.2.1 dX0_isTogether_61 (by decide) ?_
        refine lv_iadd hF.1.1 hF.1.2.1 dX0_isTogether_62 ?_
        refine lv_iload_n hF.1.1 hF.1.2.1 dX0_isTogether_63 rfl (lv_at hl 1 rfl) ?_
        refine g_cS [.int a1] 1 rfl hF (met_J7_bitCount l hl0 d a1 _ hw) q450 q373 q103 q374 rfl rfl (by decide +kernel) ⟨Nat.le_of_ble_eq_true rfl, Nat.le_of_ble_eq_true rfl⟩ hH [] rfl rfl rfl hl.1 (Nat.le_of_ble_eq_true rfl) dX0_isTogether_64 ⟨(by first | exact Nat.le_of_ble_eq_true rfl | omega | (dsimp only; omega)), (by first | exact Nat.le_of_ble_eq_true rfl | omega | (dsimp only; omega))⟩ (fun v w1 H locs hq hH => ?_)
        obtain ⟨r_8, rfl, rfl, hw⟩ := hq
        have hH : g_HS d A s [[(ob, .inr (0, [.ref hA, .ref tA, .ref lA, .ref gA, va_rf fa, va_rf oa]))], [(lA, .inr (1, [.ref lB, .int lm]))], [(lB, .inl (d.2.1 2, 10, .inl lf))]] H locs := hH
        refine W.eq (g2 := (F0 m 67 ls [.int r_8, .int ((x3 - x2) + 1)])) rfl ?_
        refine lv_icmp_ne (tgt := 74) hF.1.1 hF.1.2.1 dX0_isTogether_67 (by decide) (fun c_9 => ?_) (fun c_9 => ?_)
        · have hw := hw.1 c_9
          refine lv_iconst (v := 0) hF.1.1 hF.1.2.1 dX0_isTogether_74 (by decide) ?_
          exact g_zret hF rfl hH ⟨0, rfl, rfl, hw⟩ dX0_isTogether_75
        · have hw := hw.2 c_9
          refine lv_iconst (v := 1) hF.1.1 hF.1.2.1 dX0_isTogether_70 (by decide) ?_
          refine lv_goto (tgt := 75) hF.1.1 hF.1.2.1 dX0_isTogether_71 (by decide) ?_
          exact g_zret hF rfl hH ⟨1, rfl, rfl, hw⟩ dX0_isTogether_75
      · have hw := hw.2 c_7
        refine lv_iload_n hF.1.1 hF.1.2.1 dX0_isTogether_25 rfl (lv_at hl 1 rfl) ?_
        refine lv_aload_n hF.1.1 hF.1.2.1 dX0_isTogether_26 rfl (lv_at hl 0 rfl) ?_
        refine g_get (v := .ref lA) hF hH in_X0 rfl 0 0 rfl rfl 2 (by decide) q185 (fun _ h9 => h9) rfl dX0_isTogether_27 ?_
        refine lv_iload hF.1.1 hF.1.2.1 dX0_isTogether_30 (lv_at hl 4 rfl) ?_
        refine g_cV [.int x4] 1 rfl hF (met_X1_at_B l hl0 d lA x4 lB lm lf _ hw) q930 q225 q226 q93 q227 rfl rfl (by decide +kernel) ⟨Nat.le_of_ble_eq_true rfl, Nat.le_of_ble_eq_true rfl⟩ hH [1, 2] rfl rfl rfl 0 0 rfl rfl rfl hl.1 (Nat.le_of_ble_eq_true rfl) dX0_isTogether_32 ⟨(by first | exact Nat.le_of_ble_eq_true rfl | omega | (dsimp only; omega)), (by first | exact Nat.le_of_ble_eq_true rfl | omega | (dsimp only; omega))⟩ (fun v w1 H locs hq hH => ?_)
        obtain ⟨r_10, rfl, rfl, hw⟩ := hq
        have hH : g_HS d A s [[(ob, .inr (0, [.ref hA, .ref tA, .ref lA, .ref gA, va_rf fa, va_rf oa]))], [(lA, .inr (1, [.ref lB, .int lm]))], [(lB, .inl (d.2.1 2, 10, .inl lf))]] H locs := hH
        refine W.eq (g2 := (F0 m 35 ls [.long r_10, .int a1])) rfl ?_
        refine lv_l2i (v := (r_10.toInt32)) hF.1.1 hF.1.2.1 dX0_isTogether_35 rfl ?_
        refine g_cS [.int a1, .int (r_10.toInt32)] 2 rfl hF (met_X0_has l hl0 d a1 (r_10.toInt32) _ hw) q516 q241 q92 q242 rfl rfl (by decide +kernel) ⟨Nat.le_of_ble_eq_true rfl, Nat.le_of_ble_eq_true rfl⟩ hH [] rfl rfl rfl hl.1 (Nat.le_of_ble_eq_true rfl) dX0_isTogether_36 ⟨(by first | exact Nat.le_of_ble_eq_true rfl | omega | (dsimp only; omega)), (by first | exact Nat.le_of_ble_eq_true rfl | omega | (dsimp only; omega))⟩ (fun v w1 H locs hq hH => ?_)
        obtain ⟨r_11, rfl, rfl, hw⟩ := hq
        have hH : g_HS d A s [[(ob, .inr (0, [.ref hA, .ref tA, .ref lA, .ref gA, va_rf fa, va_rf oa]))], [(lA, .inr (1, [.ref lB, .int lm]))], [(lB, .inl (d.2.1 2, 10, .inl lf))]] H locs := hH
        refine W.eq (g2 := (F0 m 39 ls [.int r_11])) rfl ?_
        refine lv_if_eq (tgt := 52) hF.1.1 hF.1.2.1 dX0_isTogether_39 (by decide) (fun c_12 => ?_) (fun c_12 => ?_)
        · have hw := hw.1 c_12
          refine lv_iinc (v := (x4 + 1)) (lv' := [(4, .int (x4 + 1)), (0, .ref ob), (1, .int a1), (2, .int x2), (3, .int x3)]) hF.1.1 hF.1.2.1 dX0_isTogether_52 hl (k := 4) rfl rfl (by decide) rfl (fun ls hl => ?_)
          refine lv_goto (tgt := 13) hF.1.1 hF.1.2.1 dX0_isTogether_55 (by decide) ?_
          have hl := lv_sub hl (l' := [(0, .ref ob), (1, .int a1), (2, .int x2), (3, .int x3), (4, .int (x4 + 1))]) [1, 2, 3, 4, 0] rfl
          exact ih x2 x3 (x4 + 1) _ _ _ hH hl hw
        · have hw := hw.2 c_12
          refine lv_iload_n hF.1.1 hF.1.2.1 dX0_isTogether_42 rfl (lv_at hl 2 rfl) ?_
          refine lv_iload hF.1.1 hF.1.2.1 dX0_isTogether_43 (lv_at hl 4 rfl) ?_
          refine va_mmin hF.1.1 hF.1.2.1 (hF.1.2.2.1.trans hl.1.symm) hF.1.2.2.2.1 (hF.1.2.2.2.2 _ q361) (hF.1.2.2.2.2 _ q362) (hF.1.2.2.2.2 _ q102) (hF.1.2.2.2.2 _ q363) (Nat.le_of_ble_eq_true rfl) (Nat.le_of_ble_eq_true rfl) (by first | exact Nat.le_of_ble_eq_true rfl | omega | (dsimp only; omega)) (by first | exact Nat.le_of_ble_eq_true rfl | omega | (dsimp only; omega)) dX0_isTogether_45 ?_
          refine lv_istore_n (lv' := [(2, .int (if x4 < x2 then x4 else x2)), (0, .ref ob), (1, .int a1), (3, .int x3), (4, .int x4)]) hF.1.1 hF.1.2.1 dX0_isTogether_48 rfl hl (by decide) rfl (fun ls hl => ?_)
          refine lv_iload hF.1.1 hF.1.2.1 dX0_isTogether_49 (lv_at hl 4 rfl) ?_
          refine lv_istore_n (lv' := [(3, .int x4), (2, .int (if x4 < x2 then x4 else x2)), (0, .ref ob), (1, .int a1), (4, .int x4)]) hF.1.1 hF.1.2.1 dX0_isTogether_51 rfl hl (by decide) rfl (fun ls hl => ?_)
          refine lv_iinc (v := (x4 + 1)) (lv' := [(4, .int (x4 + 1)), (3, .int x4), (2, .int (if x4 < x2 then x4 else x2)), (0, .ref ob), (1, .int a1)]) hF.1.1 hF.1.2.1 dX0_isTogether_52 hl (k := 4) rfl rfl (by decide) rfl (fun ls hl => ?_)
          refine lv_goto (tgt := 13) hF.1.1 hF.1.2.1 dX0_isTogether_55 (by decide) ?_
          have hl := lv_sub hl (l' := [(0, .ref ob), (1, .int a1), (2, .int (if x4 < x2 then x4 else x2)), (3, .int x4), (4, .int (x4 + 1))]) [3, 4, 2, 1, 0] rfl
          exact ih (if x4 < x2 then x4 else x2) x4 (x4 + 1) _ _ _ hH hl hw
  unfold wp_X0_isTogether at hw
  refine lv_aload_n hF.1.1 hF.1.2.1 dX0_isTogether_0 rfl (lv_at hl 0 rfl) ?_
  refine g_get (v := .ref lA) hF hH in_X0 rfl 0 0 rfl rfl 2 (by decide) q185 (fun _ h9 => h9) rfl dX0_isTogether_1 ?_
  refine g_getN (v := .int lm) hF hH in_X1 rfl 1 0 rfl rfl 1 (by decide) q149 (fun _ h9 => h9) rfl dX0_isTogether_4 ?_
  refine lv_istore_n (lv' := [(2, .int lm), (0, .ref ob), (1, .int a1)]) hF.1.1 hF.1.2.1 dX0_isTogether_7 rfl hl (by decide) rfl (fun ls hl => ?_)
  refine lv_iconst (v := (-1)) hF.1.1 hF.1.2.1 dX0_isTogether_8 (by decide) ?_
  refine lv_istore_n (lv' := [(3, .int (-1)), (2, .int lm), (0, .ref ob), (1, .int a1)]) hF.1.1 hF.1.2.1 dX0_isTogether_9 rfl hl (by decide) rfl (fun ls hl => ?_)
  refine lv_iconst (v := 0) hF.1.1 hF.1.2.1 dX0_isTogether_10 (by decide) ?_
  refine lv_istore (lv' := [(4, .int 0), (3, .int (-1)), (2, .int lm), (0, .ref ob), (1, .int a1)]) hF.1.1 hF.1.2.1 dX0_isTogether_11 hl (by decide) rfl (fun ls hl => ?_)
  obtain ⟨f_13, hw⟩ := hw
  have hl := lv_sub hl (l' := [(0, .ref ob), (1, .int a1), (2, .int lm), (3, .int (-1)), (4, .int 0)]) [3, 4, 2, 1, 0] rfl
  exact bk_13 f_13 lm (-1) 0 _ _ _ hH hl hw

def wb_X0_modulesInRow_64 (lm : Int32) (lf : Nat → Int32) (n : Int32) (near : Nat → Int32) (x2 : Int32) (K4 : Int32 → Int32 → Prop) (K20 : Int32 → Int32 → Int32 → Prop) (Q : Int32 → Prop) (x3 : Int32) (x4 : Int32) (y0 : Int32) (y1 : Int32) : Prop := K20 (y0 + y1) x3 (x4 + 1)
def wb_X0_modulesInRow_20 (lm : Int32) (lf : Nat → Int32) (n : Int32) (near : Nat → Int32) (x2 : Int32) (K4 : Int32 → Int32 → Prop) (Q : Int32 → Prop) : Nat → Int32 → Int32 → Int32 → Prop
  | 0, _, _, _ => False
  | fu + 1, x1, x3, x4 => ((lm ≤ x4 → K4 x1 (x2 + 1)) ∧ (¬ lm ≤ x4 → (wp_X1_at_B x4 lm lf (fun r_7 => (wp_X2_splitters (x3 ||| ((1 : Int32) <<< ((r_7.toInt32) &&& 31))) n near (fun r_8 => ((¬ r_8 = 0 → (wb_X0_modulesInRow_64 lm lf n near x2 K4 (wb_X0_modulesInRow_20 lm lf n near x2 K4 Q fu) Q (x3 ||| ((1 : Int32) <<< ((r_7.toInt32) &&& 31))) x4 x1 0)) ∧ (r_8 = 0 → (wb_X0_modulesInRow_64 lm lf n near x2 K4 (wb_X0_modulesInRow_20 lm lf n near x2 K4 Q fu) Q (x3 ||| ((1 : Int32) <<< ((r_7.toInt32) &&& 31))) x4 x1 1)))))))))
def wb_X0_modulesInRow_4 (lm : Int32) (lf : Nat → Int32) (n : Int32) (near : Nat → Int32) (Q : Int32 → Prop) : Nat → Int32 → Int32 → Prop
  | 0, _, _ => False
  | fu + 1, x1, x2 => ((lm ≤ x2 → (Q x1)) ∧ (¬ lm ≤ x2 → (∃ f20, wb_X0_modulesInRow_20 lm lf n near x2 (wb_X0_modulesInRow_4 lm lf n near Q fu) Q f20 x1 0 x2)))
def wp_X0_modulesInRow (lm : Int32) (lf : Nat → Int32) (n : Int32) (near : Nat → Int32) (Q : Int32 → Prop) : Prop := (∃ f4, wb_X0_modulesInRow_4 lm lf n near Q f4 0 0)
set_option maxHeartbeats 4000000 in
set_option maxRecDepth 100000 in
theorem met_X0_modulesInRow (l : Launch) (hl0 : l.stackTraces = false) (d : g_D) (ob : Nat) (hA : Nat) (tA : Nat) (lA : Nat) (gA : Nat) (fa : Option Nat) (oa : Option Nat) (lB : Nat) (lm : Int32) (lf : Nat → Int32) (n : Int32) (gB : Nat) (near : Nat → Int32) (Q : Int32 → Prop) (hw : wp_X0_modulesInRow lm lf n near Q) : g_Met l d yX0_modulesInRow cX0_modulesInRow 5 (Option.some FieldType.int) ({ frames := 2, cells := 0, slots := 0, locals := 45 } : Room) [.ref ob] [[(ob, .inr (0, [.ref hA, .ref tA, .ref lA, .ref gA, va_rf fa, va_rf oa]))], [(lA, .inr (1, [.ref lB, .int lm]))], [(lB, .inl (d.2.1 2, 10, .inl lf))], [(gA, .inr (2, [.int n, .ref gB]))], [(gB, .inl (d.2.1 0, 10, .inl near))]] 0 0 (fun v w1 => ∃ (r : Int32), v = some (.int r) ∧ w1 = [[(ob, .inr (0, [.ref hA, .ref tA, .ref lA, .ref gA, va_rf fa, va_rf oa]))], [(lA, .inr (1, [.ref lB, .int lm]))], [(lB, .inl (d.2.1 2, 10, .inl lf))], [(gA, .inr (2, [.int n, .ref gB]))], [(gB, .inl (d.2.1 0, 10, .inl near))]] ∧ Q r) := by
  refine g_enter (by decide) (Nat.le_of_ble_eq_true rfl) ?_
  intro p e s m args below meth c A ls hF hH hl hin
  have hF : g_F p m c cX0_modulesInRow 5 s args RX0 meth (Option.some FieldType.int) := hF
  have hl : lv_has ls 5 [(0, .ref ob)] := hl
  have bk_64 : ∀ (x2 : Int32) (K4 : Int32 → Int32 → Prop) (hK4 : ∀ (x1 : Int32) (x2 : Int32) (H : Heap) (locs : List Loc) (ls : Array Slot), g_HS d A s [[(ob, .inr (0, [.ref hA, .ref tA, .ref lA, .ref gA, va_rf fa, va_rf oa]))], [(lA, .inr (1, [.ref lB, .int lm]))], [(lB, .inl (d.2.1 2, 10, .inl lf))], [(gA, .inr (2, [.int n, .ref gB]))], [(gB, .inl (d.2.1 0, 10, .inl near))]] H locs → lv_has ls 5 [(0, .ref ob), (1, .int x1), (2, .int x2)] → K4 x1 x2 → W p l e ({ frames := 2, cells := 0, slots := 0, locals := 45 } : Room) s m args below meth c H locs 0 0 (g_E d (fun v w1 => ∃ (r : Int32), v = some (.int r) ∧ w1 = [[(ob, .inr (0, [.ref hA, .ref tA, .ref lA, .ref gA, va_rf fa, va_rf oa]))], [(lA, .inr (1, [.ref lB, .int lm]))], [(lB, .inl (d.2.1 2, 10, .inl lf))], [(gA, .inr (2, [.int n, .ref gB]))], [(gB, .inl (d.2.1 0, 10, .inl near))]] ∧ Q r) A below args s 0 0) (F0 m 4 ls [])) (K20 : Int32 → Int32 → Int32 → Prop) (hK20 : ∀ (x1 : Int32) (x3 : Int32) (x4 : Int32) (H : Heap) (locs : List Loc) (ls : Array Slot), g_HS d A s [[(ob, .inr (0, [.ref hA, .ref tA, .ref lA, .ref gA, va_rf fa, va_rf oa]))], [(lA, .inr (1, [.ref lB, .int lm]))], [(lB, .inl (d.2.1 2, 10, .inl lf))], [(gA, .inr (2, [.int n, .ref gB]))], [(gB, .inl (d.2.1 0, 10, .inl near))]] H locs → lv_has ls 5 [(0, .ref ob), (1, .int x1), (2, .int x2), (3, .int x3), (4, .int x4)] → K20 x1 x3 x4 → W p l e ({ frames := 2, cells := 0, slots := 0, locals := 45 } : Room) s m args below meth c H locs 0 0 (g_E d (fun v w1 => ∃ (r : Int32), v = some (.int r) ∧ w1 = [[(ob, .inr (0, [.ref hA, .ref tA, .ref lA, .ref gA, va_rf fa, va_rf oa]))], [(lA, .inr (1, [.ref lB, .int lm]))], [(lB, .inl (d.2.1 2, 10, .inl lf))], [(gA, .inr (2, [.int n, .ref gB]))], [(gB, .inl (d.2.1 0, 10, .inl near))]] ∧ Q r) A below args s 0 0) (F0 m 20 ls [])) (x3 : Int32) (x4 : Int32) (y0 : Int32) (y1 : Int32) (H : Heap) (locs : List Loc) (ls : Array Slot), g_HS d A s [[(ob, .inr (0, [.ref hA, .ref tA, .ref lA, .ref gA, va_rf fa, va_rf oa]))], [(lA, .inr (1, [.ref lB, .int lm]))], [(lB, .inl (d.2.1 2, 10, .inl lf))], [(gA, .inr (2, [.int n, .ref gB]))], [(gB, .inl (d.2.1 0, 10, .inl near))]] H locs → lv_has ls 5 [(0, .ref ob), (2, .int x2), (3, .int x3), (4, .int x4)] → wb_X0_modulesInRow_64 lm lf n near x2 K4 K20 Q x3 x4 y0 y1 → W p l e ({ frames := 2, cells := 0, slots := 0, locals := 45 } : Room) s m args below meth c H locs 0 0 (g_E d (fun v w1 => ∃ (r : Int32), v = some (.int r) ∧ w1 = [[(ob, .inr (0, [.ref hA, .ref tA, .ref lA, .ref gA, va_rf fa, va_rf oa]))], [(lA, .inr (1, [.ref lB, .int lm]))], [(lB, .inl (d.2.1 2, 10, .inl lf))], [(gA, .inr (2, [.int n, .ref gB]))], [(gB, .inl (d.2.1 0, 10, .inl near))]] ∧ Q r) A below args s 0 0) (F0 m 64 ls [.int y1, .int y0]) := by
    intro x2 K4 hK4 K20 hK20 x3 x4 y0 y1 H locs ls hH hl hw
    unfold wb_X0_modulesInRow_64 at hw
    refine lv_iadd hF.1.1 hF.1.2.1 dX0_modulesInRow_64 ?_
    refine lv_istore_n (lv' := [(1, .int (y0 + y1)), (0, .ref ob), (2, .int x2), (3, .int x3), (4, .int x4)]) hF.1.1 hF.1.2.1 dX0_modulesInRow_65 rfl hl (by decide) rfl (fun ls hl => ?_)
    refine lv_iinc (v := (x4 + 1)) (lv' := [(4, .int (x4 + 1)), (1, .int (y0 + y1)), (0, .ref ob), (2, .int x2), (3, .int x3)]) hF.1.1 hF.1.2.1 dX0_modulesInRow_66 hl (k := 4) rfl rfl (by decide) rfl (fun ls hl => ?_)
    refine lv_goto (tgt := 20) hF.1.1 hF.1.2.1 dX0_modulesInRow_69 (by decide) ?_
    have hl := lv_sub hl (l' := [(0, .ref ob), (1, .int (y0 + y1)), (2, .int x2), (3, .int x3), (4, .int (x4 + 1))]) [2, 1, 3, 4, 0] rfl
    exact hK20 (y0 + y1) x3 (x4 + 1) _ _ _ hH hl hw
  have bk_20 : ∀ (x2 : Int32) (K4 : Int32 → Int32 → Prop) (hK4 : ∀ (x1 : Int32) (x2 : Int32) (H : Heap) (locs : List Loc) (ls : Array Slot), g_HS d A s [[(ob, .inr (0, [.ref hA, .ref tA, .ref lA, .ref gA, va_rf fa, va_rf oa]))], [(lA, .inr (1, [.ref lB, .int lm]))], [(lB, .inl (d.2.1 2, 10, .inl lf))], [(gA, .inr (2, [.int n, .ref gB]))], [(gB, .inl (d.2.1 0, 10, .inl near))]] H locs → lv_has ls 5 [(0, .ref ob), (1, .int x1), (2, .int x2)] → K4 x1 x2 → W p l e ({ frames := 2, cells := 0, slots := 0, locals := 45 } : Room) s m args below meth c H locs 0 0 (g_E d (fun v w1 => ∃ (r : Int32), v = some (.int r) ∧ w1 = [[(ob, .inr (0, [.ref hA, .ref tA, .ref lA, .ref gA, va_rf fa, va_rf oa]))], [(lA, .inr (1, [.ref lB, .int lm]))], [(lB, .inl (d.2.1 2, 10, .inl lf))], [(gA, .inr (2, [.int n, .ref gB]))], [(gB, .inl (d.2.1 0, 10, .inl near))]] ∧ Q r) A below args s 0 0) (F0 m 4 ls [])) (fu : Nat) (x1 : Int32) (x3 : Int32) (x4 : Int32) (H : Heap) (locs : List Loc) (ls : Array Slot), g_HS d A s [[(ob, .inr (0, [.ref hA, .ref tA, .ref lA, .ref gA, va_rf fa, va_rf oa]))], [(lA, .inr (1, [.ref lB, .int lm]))], [(lB, .inl (d.2.1 2, 10, .inl lf))], [(gA, .inr (2, [.int n, .ref gB]))], [(gB, .inl (d.2.1 0, 10, .inl near))]] H locs → lv_has ls 5 [(0, .ref ob), (1, .int x1), (2, .int x2), (3, .int x3), (4, .int x4)] → wb_X0_modulesInRow_20 lm lf n near x2 K4 Q fu x1 x3 x4 → W p l e ({ frames := 2, cells := 0, slots := 0, locals := 45 } : Room) s m args below meth c H locs 0 0 (g_E d (fun v w1 => ∃ (r : Int32), v = some (.int r) ∧ w1 = [[(ob, .inr (0, [.ref hA, .ref tA, .ref lA, .ref gA, va_rf fa, va_rf oa]))], [(lA, .inr (1, [.ref lB, .int lm]))], [(lB, .inl (d.2.1 2, 10, .inl lf))], [(gA, .inr (2, [.int n, .ref gB]))], [(gB, .inl (d.2.1 0, 10, .inl near))]] ∧ Q r) A below args s 0 0) (F0 m 20 ls []) := by
    intro x2 K4 hK4 fu
    induction fu with
    | zero => intro x1 x3 x4 H locs ls hH hl hw; rw [wb_X0_modulesInRow_20] at hw; exact hw.elim
    | succ fu ih =>
      intro x1 x3 x4 H locs ls hH hl hw
      rw [wb_X0_modulesInRow_20] at hw
      refine lv_iload hF.1.1 hF.1.2.1 dX0_modulesInRow_20 (lv_at hl 4 rfl) ?_
      refine lv_aload_n hF.1.1 hF.1.2.1 dX0_modulesInRow_22 rfl (lv_at hl 0 rfl) ?_
      refine g_get (v := .ref lA) hF hH in_X0 rfl 0 0 rfl rfl 2 (by decide) q185 (fun _ h9 => h9) rfl dX0_modulesInRow_23 ?_
      refine g_getN (v := .int lm) hF hH in_X1 rfl 1 0 rfl rfl 1 (by decide) q149 (fun _ h9 => h9) rfl dX0_modulesInRow_26 ?_
      refine lv_icmp_ge (tgt := 72) hF.1.1 hF.1.2.1 dX0_modulesInRow_29 (by decide) (fun c_6 => ?_) (fun c_6 => ?_)
      · have hw := hw.1 c_6
        refine lv_iinc (v := (x2 + 1)) (lv' := [(2, .int (x2 + 1)), (0, .ref ob), (1, .int x1), (3, .int x3), (4, .int x4)]) hF.1.1 hF.1.2.1 dX0_modulesInRow_72 hl (k := 2) rfl rfl (by decide) rfl (fun ls hl => ?_)
        refine lv_goto (tgt := 4) hF.1.1 hF.1.2.1 dX0_modulesInRow_75 (by decide) ?_
        have hl := lv_sub hl (l' := [(0, .ref ob), (1, .int x1), (2, .int (x2 + 1))]) [1, 2, 0] rfl
        exact hK4 x1 (x2 + 1) _ _ _ hH hl hw
      · have hw := hw.2 c_6
        refine lv_iload_n hF.1.1 hF.1.2.1 dX0_modulesInRow_32 rfl (lv_at hl 3 rfl) ?_
        refine lv_iconst (v := 1) hF.1.1 hF.1.2.1 dX0_modulesInRow_33 (by decide) ?_
        refine lv_aload_n hF.1.1 hF.1.2.1 dX0_modulesInRow_34 rfl (lv_at hl 0 rfl) ?_
        refine g_get (v := .ref lA) hF hH in_X0 rfl 0 0 rfl rfl 2 (by decide) q185 (fun _ h9 => h9) rfl dX0_modulesInRow_35 ?_
        refine lv_iload hF.1.1 hF.1.2.1 dX0_modulesInRow_38 (lv_at hl 4 rfl) ?_
        refine g_cV [.int x4] 1 rfl hF (met_X1_at_B l hl0 d lA x4 lB lm lf _ hw) q930 q225 q226 q93 q227 rfl rfl (by decide +kernel) ⟨Nat.le_of_ble_eq_true rfl, Nat.le_of_ble_eq_true rfl⟩ hH [1, 2] rfl rfl rfl 0 0 rfl rfl rfl hl.1 (Nat.le_of_ble_eq_true rfl) dX0_modulesInRow_40 ⟨(by first | exact Nat.le_of_ble_eq_true rfl | omega | (dsimp only; omega)), (by first | exact Nat.le_of_ble_eq_true rfl | omega | (dsimp only; omega))⟩ (fun v w1 H locs hq hH => ?_)
        obtain ⟨r_7, rfl, rfl, hw⟩ := hq
        have hH : g_HS d A s [[(ob, .inr (0, [.ref hA, .ref tA, .ref lA, .ref gA, va_rf fa, va_rf oa]))], [(gA, .inr (2, [.int n, .ref gB]))], [(gB, .inl (d.2.1 0, 10, .inl near))], [(lA, .inr (1, [.ref lB, .int lm]))], [(lB, .inl (d.2.1 2, 10, .inl lf))]] H locs := hH
        refine W.eq (g2 := (F0 m 43 ls [.long r_7, .int 1, .int x3])) rfl ?_
        refine lv_l2i (v := (r_7.toInt32)) hF.1.1 hF.1.2.1 dX0_modulesInRow_43 rfl ?_
        refine lv_ishl hF.1.1 hF.1.2.1 dX0_modulesInRow_44 ?_
        refine lv_ior hF.1.1 hF.1.2.1 dX0_modulesInRow_45 ?_
        refine lv_istore_n (lv' := [(3, .int (x3 ||| ((1 : Int32) <<< ((r_7.toInt32) &&& 31)))), (0, .ref ob), (1, .int x1), (2, .int x2), (4, .int x4)]) hF.1.1 hF.1.2.1 dX0_modulesInRow_46 rfl hl (by decide) rfl (fun ls hl => ?_)
        refine lv_iload_n hF.1.1 hF.1.2.1 dX0_modulesInRow_47 rfl (lv_at hl 2 rfl) ?_
        refine lv_aload_n hF.1.1 hF.1.2.1 dX0_modulesInRow_48 rfl (lv_at hl 1 rfl) ?_
        refine g_get (v := .ref gA) hF hH in_X0 rfl 0 0 rfl rfl 3 (by decide) q186 (fun _ h9 => h9) rfl dX0_modulesInRow_49 ?_
        refine lv_iload_n hF.1.1 hF.1.2.1 dX0_modulesInRow_52 rfl (lv_at hl 0 rfl) ?_
        refine g_cV [.int (x3 ||| ((1 : Int32) <<< ((r_7.toInt32) &&& 31)))] 1 rfl hF (met_X2_splitters l hl0 d gA (x3 ||| ((1 : Int32) <<< ((r_7.toInt32) &&& 31))) n gB near _ hw) q809 q522 q523 q94 q524 rfl rfl (by decide +kernel) ⟨Nat.le_of_ble_eq_true rfl, Nat.le_of_ble_eq_true rfl⟩ hH [1, 2] rfl rfl rfl 0 0 rfl rfl rfl hl.1 (Nat.le_of_ble_eq_true rfl) dX0_modulesInRow_53 ⟨(by first | exact Nat.le_of_ble_eq_true rfl | omega | (dsimp only; omega)), (by first | exact Nat.le_of_ble_eq_true rfl | omega | (dsimp only; omega))⟩ (fun v w1 H locs hq hH => ?_)
        obtain ⟨r_8, rfl, rfl, hw⟩ := hq
        have hH : g_HS d A s [[(ob, .inr (0, [.ref hA, .ref tA, .ref lA, .ref gA, va_rf fa, va_rf oa]))], [(lA, .inr (1, [.ref lB, .int lm]))], [(lB, .inl (d.2.1 2, 10, .inl lf))], [(gA, .inr (2, [.int n, .ref gB]))], [(gB, .inl (d.2.1 0, 10, .inl near))]] H locs := hH
        refine W.eq (g2 := (F0 m 56 ls [.int r_8, .int x1])) rfl ?_
        refine lv_if_ne (tgt := 63) hF.1.1 hF.1.2.1 dX0_modulesInRow_56 (by decide) (fun c_9 => ?_) (fun c_9 => ?_)
        · have hw := hw.1 c_9
          refine lv_iconst (v := 0) hF.1.1 hF.1.2.1 dX0_modulesInRow_63 (by decide) ?_
          have hl := lv_sub hl (l' := [(0, .ref ob), (2, .int x2), (3, .int (x3 ||| ((1 : Int32) <<< ((r_7.toInt32) &&& 31)))), (4, .int x4)]) [1, 3, 0, 4] rfl
          exact bk_64 x2 K4 hK4 (wb_X0_modulesInRow_20 lm lf n near x2 K4 Q fu) ih (x3 ||| ((1 : Int32) <<< ((r_7.toInt32) &&& 31))) x4 x1 0 _ _ _ hH hl hw
        · have hw := hw.2 c_9
          refine lv_iconst (v := 1) hF.1.1 hF.1.2.1 dX0_modulesInRow_59 (by decide) ?_
          refine lv_goto (tgt := 64) hF.1.1 hF.1.2.1 dX0_modulesInRow_60 (by decide) ?_
          have hl := lv_sub hl (l' := [(0, .ref ob), (2, .int x2), (3, .int (x3 ||| ((1 : Int32) <<< ((r_7.toInt32) &&& 31)))), (4, .int x4)]) [1, 3, 0, 4] rfl
          exact bk_64 x2 K4 hK4 (wb_X0_modulesInRow_20 lm lf n near x2 K4 Q fu) ih (x3 ||| ((1 : Int32) <<< ((r_7.toInt32) &&& 31))) x4 x1 1 _ _ _ hH hl hw
  have bk_4 : ∀ (fu : Nat) (x1 : Int32) (x2 : Int32) (H : Heap) (locs : List Loc) (ls : Array Slot), g_HS d A s [[(ob, .inr (0, [.ref hA, .ref tA, .ref lA, .ref gA, va_rf fa, va_rf oa]))], [(lA, .inr (1, [.ref lB, .int lm]))], [(lB, .inl (d.2.1 2, 10, .inl lf))], [(gA, .inr (2, [.int n, .ref gB]))], [(gB, .inl (d.2.1 0, 10, .inl near))]] H locs → lv_has ls 5 [(0, .ref ob), (1, .int x1), (2, .int x2)] → wb_X0_modulesInRow_4 lm lf n near Q fu x1 x2 → W p l e ({ frames := 2, cells := 0, slots := 0, locals := 45 } : Room) s m args below meth c H locs 0 0 (g_E d (fun v w1 => ∃ (r : Int32), v = some (.int r) ∧ w1 = [[(ob, .inr (0, [.ref hA, .ref tA, .ref lA, .ref gA, va_rf fa, va_rf oa]))], [(lA, .inr (1, [.ref lB, .int lm]))], [(lB, .inl (d.2.1 2, 10, .inl lf))], [(gA, .inr (2, [.int n, .ref gB]))], [(gB, .inl (d.2.1 0, 10, .inl near))]] ∧ Q r) A below args s 0 0) (F0 m 4 ls []) := by
    intro fu
    induction fu with
    | zero => intro x1 x2 H locs ls hH hl hw; rw [wb_X0_modulesInRow_4] at hw; exact hw.elim
    | succ fu ih =>
      intro x1 x2 H locs ls hH hl hw
      rw [wb_X0_modulesInRow_4] at hw
      refine lv_iload_n hF.1.1 hF.1.2.1 dX0_modulesInRow_4 rfl (lv_at hl 2 rfl) ?_
      refine lv_aload_n hF.1.1 hF.1.2.1 dX0_modulesInRow_5 rfl (lv_at hl 0 rfl) ?_
      refine g_get (v := .ref lA) hF hH in_X0 rfl 0 0 rfl rfl 2 (by decide) q185 (fun _ h9 => h9) rfl dX0_modulesInRow_6 ?_
      refine g_getN (v := .int lm) hF hH in_X1 rfl 1 0 rfl rfl 1 (by decide) q149 (fun _ h9 => h9) rfl dX0_modulesInRow_9 ?_
      refine lv_icmp_ge (tgt := 78) hF.1.1 hF.1.2.1 dX0_modulesInRow_12 (by decide) (fun c_10 => ?_) (fun c_10 => ?_)
      · have hw := hw.1 c_10
        refine lv_iload_n hF.1.1 hF.1.2.1 dX0_modulesInRow_78 rfl (lv_at hl 1 rfl) ?_
        exact g_iret hF hH ⟨x1, rfl, rfl, hw⟩ dX0_modulesInRow_79
      · have hw := hw.2 c_10
        refine lv_iconst (v := 0) hF.1.1 hF.1.2.1 dX0_modulesInRow_15 (by decide) ?_
        refine lv_istore_n (lv' := [(3, .int 0), (0, .ref ob), (1, .int x1), (2, .int x2)]) hF.1.1 hF.1.2.1 dX0_modulesInRow_16 rfl hl (by decide) rfl (fun ls hl => ?_)
        refine lv_iload_n hF.1.1 hF.1.2.1 dX0_modulesInRow_17 rfl (lv_at hl 3 rfl) ?_
        refine lv_istore (lv' := [(4, .int x2), (3, .int 0), (0, .ref ob), (1, .int x1), (2, .int x2)]) hF.1.1 hF.1.2.1 dX0_modulesInRow_18 hl (by decide) rfl (fun ls hl => ?_)
        obtain ⟨f_11, hw⟩ := hw
        have hl := lv_sub hl (l' := [(0, .ref ob), (1, .int x1), (2, .int x2), (3, .int 0), (4, .int x2)]) [2, 3, 4, 1, 0] rfl
        exact bk_20 x2 (wb_X0_modulesInRow_4 lm lf n near Q fu) ih f_11 x1 0 x2 _ _ _ hH hl hw
  unfold wp_X0_modulesInRow at hw
  refine lv_iconst (v := 0) hF.1.1 hF.1.2.1 dX0_modulesInRow_0 (by decide) ?_
  refine lv_istore_n (lv' := [(1, .int 0), (0, .ref ob)]) hF.1.1 hF.1.2.1 dX0_modulesInRow_1 rfl hl (by decide) rfl (fun ls hl => ?_)
  refine lv_iconst (v := 0) hF.1.1 hF.1.2.1 dX0_modulesInRow_2 (by decide) ?_
  refine lv_istore_n (lv' := [(2, .int 0), (1, .int 0), (0, .ref ob)]) hF.1.1 hF.1.2.1 dX0_modulesInRow_3 rfl hl (by decide) rfl (fun ls hl => ?_)
  obtain ⟨f_12, hw⟩ := hw
  have hl := lv_sub hl (l' := [(0, .ref ob), (1, .int 0), (2, .int 0)]) [2, 1, 0] rfl
  exact bk_4 f_12 0 0 _ _ _ hH hl hw

def wp_X0_forced (a1 : Int32) (a2 : Int32) (n : Int32) (near : Nat → Int32) (Q : Int32 → Prop) : Prop := (wp_X0_areVertices a1 a2 n (fun r_11 => ((¬ r_11 = 0 → (wp_X2_linked a1 a2 n near (fun r_13 => ((r_13 = 0 → (Q (-2))) ∧ (¬ r_13 = 0 → (wp_X11_init (wp_X11_of a1 a2 0 (fun _ => 0) (fun _ => 0) n near (fun n_18 n_19 n_20 => (Q n_20))))))))) ∧ (r_11 = 0 → (Q (-1))))))
set_option maxHeartbeats 4000000 in
set_option maxRecDepth 100000 in
theorem met_X0_forced (l : Launch) (hl0 : l.stackTraces = false) (d : g_D) (ob : Nat) (a1 : Int32) (a2 : Int32) (hA : Nat) (tA : Nat) (lA : Nat) (gA : Nat) (fa : Option Nat) (oa : Option Nat) (n : Int32) (gB : Nat) (near : Nat → Int32) (Q : Int32 → Prop) (hw : wp_X0_forced a1 a2 n near Q) : g_Met l d yX0_forced cX0_forced 3 (Option.some FieldType.int) ({ frames := 3, cells := 3, slots := 203, locals := 70 } : Room) [.ref ob, .int a1, .int a2] [[(ob, .inr (0, [.ref hA, .ref tA, .ref lA, .ref gA, va_rf fa, va_rf oa]))], [(gA, .inr (2, [.int n, .ref gB]))], [(gB, .inl (d.2.1 0, 10, .inl near))]] 3 203 (fun v w1 => ∃ (r : Int32), v = some (.int r) ∧ w1 = [[(ob, .inr (0, [.ref hA, .ref tA, .ref lA, .ref gA, va_rf fa, va_rf oa]))], [(gA, .inr (2, [.int n, .ref gB]))], [(gB, .inl (d.2.1 0, 10, .inl near))]] ∧ Q r) := by
  refine g_enter (by decide) (Nat.le_of_ble_eq_true rfl) ?_
  intro p e s m args below meth c A ls hF hH hl hin
  have hF : g_F p m c cX0_forced 3 s args RX0 meth (Option.some FieldType.int) := hF
  have hl : lv_has ls 3 [(0, .ref ob), (1, .int a1), (2, .int a2)] := hl
  unfold wp_X0_forced at hw
  refine lv_aload_n hF.1.1 hF.1.2.1 dX0_forced_0 rfl (lv_at hl 0 rfl) ?_
  refine lv_iload_n hF.1.1 hF.1.2.1 dX0_forced_1 rfl (lv_at hl 1 rfl) ?_
  refine lv_iload_n hF.1.1 hF.1.2.1 dX0_forced_2 rfl (lv_at hl 2 rfl) ?_
  refine g_cV [.int a1, .int a2] 2 rfl hF (met_X0_areVertices l hl0 d ob a1 a2 hA tA lA gA fa oa n gB _ hw) q348 q350 qs5 q92 q351 rfl rfl (by decide +kernel) ⟨Nat.le_of_ble_eq_true rfl, Nat.le_of_ble_eq_true rfl⟩ hH [0, 1] rfl rfl rfl 0 0 rfl rfl rfl hl.1 (Nat.le_of_ble_eq_true rfl) dX0_forced_3 ⟨(by first | exact Nat.le_of_ble_eq_true rfl | omega | (dsimp only; omega)), (by first | exact Nat.le_of_ble_eq_true rfl | omega | (dsimp only; omega))⟩ (fun v w1 H locs hq hH => ?_)
  obtain ⟨r_11, rfl, rfl, hw⟩ := hq
  have hH : g_HS d A s [[(gB, .inl (d.2.1 0, 10, .inl near))], [(ob, .inr (0, [.ref hA, .ref tA, .ref lA, .ref gA, va_rf fa, va_rf oa]))], [(gA, .inr (2, [.int n, .ref gB]))]] H locs := hH
  refine W.eq (g2 := (F0 m 6 ls [.int r_11])) rfl ?_
  refine lv_if_ne (tgt := 11) hF.1.1 hF.1.2.1 dX0_forced_6 (by decide) (fun c_12 => ?_) (fun c_12 => ?_)
  · have hw := hw.1 c_12
    refine lv_aload_n hF.1.1 hF.1.2.1 dX0_forced_11 rfl (lv_at hl 0 rfl) ?_
    refine g_get (v := .ref gA) hF hH in_X0 rfl 1 0 rfl rfl 3 (by decide) q186 (fun _ h9 => h9) rfl dX0_forced_12 ?_
    refine lv_iload_n hF.1.1 hF.1.2.1 dX0_forced_15 rfl (lv_at hl 1 rfl) ?_
    refine lv_iload_n hF.1.1 hF.1.2.1 dX0_forced_16 rfl (lv_at hl 2 rfl) ?_
    refine g_cV [.int a1, .int a2] 2 rfl hF (met_X2_linked l hl0 d gA a1 a2 n gB near _ hw) q356 q237 q238 q94 q239 rfl rfl (by decide +kernel) ⟨Nat.le_of_ble_eq_true rfl, Nat.le_of_ble_eq_true rfl⟩ hH [2, 0] rfl rfl rfl 0 0 rfl rfl rfl hl.1 (Nat.le_of_ble_eq_true rfl) dX0_forced_17 ⟨(by first | exact Nat.le_of_ble_eq_true rfl | omega | (dsimp only; omega)), (by first | exact Nat.le_of_ble_eq_true rfl | omega | (dsimp only; omega))⟩ (fun v w1 H locs hq hH => ?_)
    obtain ⟨r_13, rfl, rfl, hw⟩ := hq
    have hH : g_HS d A s [[(ob, .inr (0, [.ref hA, .ref tA, .ref lA, .ref gA, va_rf fa, va_rf oa]))], [(gA, .inr (2, [.int n, .ref gB]))], [(gB, .inl (d.2.1 0, 10, .inl near))]] H locs := hH
    refine W.eq (g2 := (F0 m 20 ls [.int r_13])) rfl ?_
    refine lv_if_eq (tgt := 45) hF.1.1 hF.1.2.1 dX0_forced_20 (by decide) (fun c_14 => ?_) (fun c_14 => ?_)
    · have hw := hw.1 c_14
      refine lv_bipush (v := (-2)) hF.1.1 hF.1.2.1 dX0_forced_45 (by decide) ?_
      refine W.widen (k := 3) (n := 203) (by first | exact Nat.le_of_ble_eq_true rfl | omega | (dsimp only; omega)) (by first | exact Nat.le_of_ble_eq_true rfl | omega | (dsimp only; omega)) ?_
      exact g_iret hF hH ⟨(-2), rfl, rfl, hw⟩ dX0_forced_47
    · have hw := hw.2 c_14
      refine g_new (ci := 7) (fs := [.null, .null, .int 0]) (C := RX11) (T := TX11) (N := 3) hF hH in_X11 rfl tyX11 tyX11_ok q755 q756 q121 (fun j hj => by rcases (show j = 0 ∨ j = 1 ∨ j = 2 by omega) with rfl | rfl | rfl <;> rfl) (by first | exact Nat.le_of_ble_eq_true rfl | omega | (dsimp only; omega)) (by first | exact Nat.le_of_ble_eq_true rfl | omega | (dsimp only; omega)) dX0_forced_23 (fun q_15 H hH => ?_)
      have hH : g_HS d A s [[(ob, .inr (0, [.ref hA, .ref tA, .ref lA, .ref gA, va_rf fa, va_rf oa]))], [(gA, .inr (2, [.int n, .ref gB]))], [(gB, .inl (d.2.1 0, 10, .inl near))], [(q_15, .inr (7, [.null, .null, .int 0]))]] H _ := hH
      refine W.widen (k := 1) (n := 3) (by first | exact Nat.le_of_ble_eq_true rfl | omega | (dsimp only; omega)) (by first | exact Nat.le_of_ble_eq_true rfl | omega | (dsimp only; omega)) ?_
      refine lv_dup hF.1.1 hF.1.2.1 dX0_forced_26 rfl ?_
      refine g_cIN [] 0 rfl hF (met_X11_init l hl0 d q_15 _ hw) q757 q758 q121 q759 rfl rfl rfl (by decide +kernel) ⟨Nat.le_of_ble_eq_true rfl, Nat.le_of_ble_eq_true rfl⟩ hH [3] rfl rfl rfl hl.1 (Nat.le_of_ble_eq_true rfl) dX0_forced_27 ⟨(by first | exact Nat.le_of_ble_eq_true rfl | omega | (dsimp only; omega)), (by first | exact Nat.le_of_ble_eq_true rfl | omega | (dsimp only; omega))⟩ (fun v w1 H locs hq hH => ?_)
      obtain ⟨q_16, q_17, rfl, rfl, hw⟩ := hq
      have hH : g_HS d A s [[(ob, .inr (0, [.ref hA, .ref tA, .ref lA, .ref gA, va_rf fa, va_rf oa]))], [(gA, .inr (2, [.int n, .ref gB]))], [(gB, .inl (d.2.1 0, 10, .inl near))], [(q_15, .inr (7, [.ref q_16, .ref q_17, .int 0]))], [(q_16, .inl (d.2.1 1, 100, .inl (fun _ => 0)))], [(q_17, .inl (d.2.1 0, 100, .inl (fun _ => 0)))]] H locs := hH
      refine W.eq (g2 := (F0 m 30 ls [.ref q_15])) rfl ?_
      refine W.widen (k := 3) (n := 203) (by first | exact Nat.le_of_ble_eq_true rfl | omega | (dsimp only; omega)) (by first | exact Nat.le_of_ble_eq_true rfl | omega | (dsimp only; omega)) ?_
      refine lv_aload_n hF.1.1 hF.1.2.1 dX0_forced_30 rfl (lv_at hl 0 rfl) ?_
      refine g_get (v := .ref gA) hF hH in_X0 rfl 0 0 rfl rfl 3 (by decide) q186 (fun _ h9 => h9) rfl dX0_forced_31 ?_
      refine lv_iload_n hF.1.1 hF.1.2.1 dX0_forced_34 rfl (lv_at hl 1 rfl) ?_
      refine lv_iload_n hF.1.1 hF.1.2.1 dX0_forced_35 rfl (lv_at hl 2 rfl) ?_
      refine g_cV [.ref gA, .int a1, .int a2] 3 rfl hF (met_X11_of l hl0 d q_15 gA a1 a2 q_16 q_17 0 (fun _ => 0) (fun _ => 0) n gB near _ hw) q777 q778 q779 q121 q780 rfl rfl (by decide +kernel) ⟨Nat.le_of_ble_eq_true rfl, Nat.le_of_ble_eq_true rfl⟩ hH [3, 4, 5, 1, 2] rfl rfl rfl 0 0 rfl rfl rfl hl.1 (Nat.le_of_ble_eq_true rfl) dX0_forced_36 ⟨(by first | exact Nat.le_of_ble_eq_true rfl | omega | (dsimp only; omega)), (by first | exact Nat.le_of_ble_eq_true rfl | omega | (dsimp only; omega))⟩ (fun v w1 H locs hq hH => ?_)
      obtain ⟨n_18, n_19, n_20, rfl, rfl, hw⟩ := hq
      have hH : g_HS d A s [[(ob, .inr (0, [.ref hA, .ref tA, .ref lA, .ref gA, va_rf fa, va_rf oa]))], [(q_15, .inr (7, [.ref q_16, .ref q_17, .int n_20]))], [(q_16, .inl (d.2.1 1, 100, .inl n_18))], [(q_17, .inl (d.2.1 0, 100, .inl n_19))], [(gA, .inr (2, [.int n, .ref gB]))], [(gB, .inl (d.2.1 0, 10, .inl near))]] H locs := hH
      refine W.eq (g2 := (F0 m 39 ls [.ref q_15])) rfl ?_
      refine g_getN (v := .int n_20) hF hH in_X11 rfl 1 0 rfl rfl 2 (by decide) q768 (fun _ h9 => h9) rfl dX0_forced_39 ?_
      refine lv_goto (tgt := 47) hF.1.1 hF.1.2.1 dX0_forced_42 (by decide) ?_
      have hH := hH.sub (cs' := [[(ob, .inr (0, [.ref hA, .ref tA, .ref lA, .ref gA, va_rf fa, va_rf oa]))], [(gA, .inr (2, [.int n, .ref gB]))], [(gB, .inl (d.2.1 0, 10, .inl near))]]) [0, 4, 5] rfl rfl
      exact g_iret hF hH ⟨n_20, rfl, rfl, hw⟩ dX0_forced_47
  · have hw := hw.2 c_12
    refine lv_iconst (v := (-1)) hF.1.1 hF.1.2.1 dX0_forced_9 (by decide) ?_
    refine W.widen (k := 3) (n := 203) (by first | exact Nat.le_of_ble_eq_true rfl | omega | (dsimp only; omega)) (by first | exact Nat.le_of_ble_eq_true rfl | omega | (dsimp only; omega)) ?_
    have hH := hH.sub (cs' := [[(ob, .inr (0, [.ref hA, .ref tA, .ref lA, .ref gA, va_rf fa, va_rf oa]))], [(gA, .inr (2, [.int n, .ref gB]))], [(gB, .inl (d.2.1 0, 10, .inl near))]]) [1, 2, 0] rfl rfl
    exact g_iret hF hH ⟨(-1), rfl, rfl, hw⟩ dX0_forced_10

def wp_X0_firstForced (a1 : Int32) (a2 : Int32) (n : Int32) (near : Nat → Int32) (Q : Int32 → Prop) : Prop := (wp_X0_areVertices a1 a2 n (fun r_12 => ((¬ r_12 = 0 → (wp_X2_linked a1 a2 n near (fun r_14 => ((r_14 = 0 → (Q (-2))) ∧ (¬ r_14 = 0 → (wp_X11_init (wp_X11_of a1 a2 0 (fun _ => 0) (fun _ => 0) n near (fun n_19 n_20 n_21 => (wp_X11_first n_21 n_19 (fun r_22 => (Q r_22))))))))))) ∧ (r_12 = 0 → (Q (-1))))))
set_option maxHeartbeats 4000000 in
set_option maxRecDepth 100000 in
theorem met_X0_firstForced (l : Launch) (hl0 : l.stackTraces = false) (d : g_D) (ob : Nat) (a1 : Int32) (a2 : Int32) (hA : Nat) (tA : Nat) (lA : Nat) (gA : Nat) (fa : Option Nat) (oa : Option Nat) (n : Int32) (gB : Nat) (near : Nat → Int32) (Q : Int32 → Prop) (hw : wp_X0_firstForced a1 a2 n near Q) : g_Met l d yX0_firstForced cX0_firstForced 3 (Option.some FieldType.int) ({ frames := 3, cells := 3, slots := 203, locals := 70 } : Room) [.ref ob, .int a1, .int a2] [[(ob, .inr (0, [.ref hA, .ref tA, .ref lA, .ref gA, va_rf fa, va_rf oa]))], [(gA, .inr (2, [.int n, .ref gB]))], [(gB, .inl (d.2.1 0, 10, .inl near))]] 3 203 (fun v w1 => ∃ (r : Int32), v = some (.int r) ∧ w1 = [[(ob, .inr (0, [.ref hA, .ref tA, .ref lA, .ref gA, va_rf fa, va_rf oa]))], [(gA, .inr (2, [.int n, .ref gB]))], [(gB, .inl (d.2.1 0, 10, .inl near))]] ∧ Q r) := by
  refine g_enter (by decide) (Nat.le_of_ble_eq_true rfl) ?_
  intro p e s m args below meth c A ls hF hH hl hin
  have hF : g_F p m c cX0_firstForced 3 s args RX0 meth (Option.some FieldType.int) := hF
  have hl : lv_has ls 3 [(0, .ref ob), (1, .int a1), (2, .int a2)] := hl
  unfold wp_X0_firstForced at hw
  refine lv_aload_n hF.1.1 hF.1.2.1 dX0_firstForced_0 rfl (lv_at hl 0 rfl) ?_
  refine lv_iload_n hF.1.1 hF.1.2.1 dX0_firstForced_1 rfl (lv_at hl 1 rfl) ?_
  refine lv_iload_n hF.1.1 hF.1.2.1 dX0_firstForced_2 rfl (lv_at hl 2 rfl) ?_
  refine g_cV [.int a1, .int a2] 2 rfl hF (met_X0_areVertices l hl0 d ob a1 a2 hA tA lA gA fa oa n gB _ hw) q348 q350 qs5 q92 q351 rfl rfl (by decide +kernel) ⟨Nat.le_of_ble_eq_true rfl, Nat.le_of_ble_eq_true rfl⟩ hH [0, 1] rfl rfl rfl 0 0 rfl rfl rfl hl.1 (Nat.le_of_ble_eq_true rfl) dX0_firstForced_3 ⟨(by first | exact Nat.le_of_ble_eq_true rfl | omega | (dsimp only; omega)), (by first | exact Nat.le_of_ble_eq_true rfl | omega | (dsimp only; omega))⟩ (fun v w1 H locs hq hH => ?_)
  obtain ⟨r_12, rfl, rfl, hw⟩ := hq
  have hH : g_HS d A s [[(gB, .inl (d.2.1 0, 10, .inl near))], [(ob, .inr (0, [.ref hA, .ref tA, .ref lA, .ref gA, va_rf fa, va_rf oa]))], [(gA, .inr (2, [.int n, .ref gB]))]] H locs := hH
  refine W.eq (g2 := (F0 m 6 ls [.int r_12])) rfl ?_
  refine lv_if_ne (tgt := 11) hF.1.1 hF.1.2.1 dX0_firstForced_6 (by decide) (fun c_13 => ?_) (fun c_13 => ?_)
  · have hw := hw.1 c_13
    refine lv_aload_n hF.1.1 hF.1.2.1 dX0_firstForced_11 rfl (lv_at hl 0 rfl) ?_
    refine g_get (v := .ref gA) hF hH in_X0 rfl 1 0 rfl rfl 3 (by decide) q186 (fun _ h9 => h9) rfl dX0_firstForced_12 ?_
    refine lv_iload_n hF.1.1 hF.1.2.1 dX0_firstForced_15 rfl (lv_at hl 1 rfl) ?_
    refine lv_iload_n hF.1.1 hF.1.2.1 dX0_firstForced_16 rfl (lv_at hl 2 rfl) ?_
    refine g_cV [.int a1, .int a2] 2 rfl hF (met_X2_linked l hl0 d gA a1 a2 n gB near _ hw) q356 q237 q238 q94 q239 rfl rfl (by decide +kernel) ⟨Nat.le_of_ble_eq_true rfl, Nat.le_of_ble_eq_true rfl⟩ hH [2, 0] rfl rfl rfl 0 0 rfl rfl rfl hl.1 (Nat.le_of_ble_eq_true rfl) dX0_firstForced_17 ⟨(by first | exact Nat.le_of_ble_eq_true rfl | omega | (dsimp only; omega)), (by first | exact Nat.le_of_ble_eq_true rfl | omega | (dsimp only; omega))⟩ (fun v w1 H locs hq hH => ?_)
    obtain ⟨r_14, rfl, rfl, hw⟩ := hq
    have hH : g_HS d A s [[(ob, .inr (0, [.ref hA, .ref tA, .ref lA, .ref gA, va_rf fa, va_rf oa]))], [(gA, .inr (2, [.int n, .ref gB]))], [(gB, .inl (d.2.1 0, 10, .inl near))]] H locs := hH
    refine W.eq (g2 := (F0 m 20 ls [.int r_14])) rfl ?_
    refine lv_if_eq (tgt := 45) hF.1.1 hF.1.2.1 dX0_firstForced_20 (by decide) (fun c_15 => ?_) (fun c_15 => ?_)
    · have hw := hw.1 c_15
      refine lv_bipush (v := (-2)) hF.1.1 hF.1.2.1 dX0_firstForced_45 (by decide) ?_
      refine W.widen (k := 3) (n := 203) (by first | exact Nat.le_of_ble_eq_true rfl | omega | (dsimp only; omega)) (by first | exact Nat.le_of_ble_eq_true rfl | omega | (dsimp only; omega)) ?_
      exact g_iret hF hH ⟨(-2), rfl, rfl, hw⟩ dX0_firstForced_47
    · have hw := hw.2 c_15
      refine g_new (ci := 7) (fs := [.null, .null, .int 0]) (C := RX11) (T := TX11) (N := 3) hF hH in_X11 rfl tyX11 tyX11_ok q755 q756 q121 (fun j hj => by rcases (show j = 0 ∨ j = 1 ∨ j = 2 by omega) with rfl | rfl | rfl <;> rfl) (by first | exact Nat.le_of_ble_eq_true rfl | omega | (dsimp only; omega)) (by first | exact Nat.le_of_ble_eq_true rfl | omega | (dsimp only; omega)) dX0_firstForced_23 (fun q_16 H hH => ?_)
      have hH : g_HS d A s [[(ob, .inr (0, [.ref hA, .ref tA, .ref lA, .ref gA, va_rf fa, va_rf oa]))], [(gA, .inr (2, [.int n, .ref gB]))], [(gB, .inl (d.2.1 0, 10, .inl near))], [(q_16, .inr (7, [.null, .null, .int 0]))]] H _ := hH
      refine W.widen (k := 1) (n := 3) (by first | exact Nat.le_of_ble_eq_true rfl | omega | (dsimp only; omega)) (by first | exact Nat.le_of_ble_eq_true rfl | omega | (dsimp only; omega)) ?_
      refine lv_dup hF.1.1 hF.1.2.1 dX0_firstForced_26 rfl ?_
      refine g_cIN [] 0 rfl hF (met_X11_init l hl0 d q_16 _ hw) q757 q758 q121 q759 rfl rfl rfl (by decide +kernel) ⟨Nat.le_of_ble_eq_true rfl, Nat.le_of_ble_eq_true rfl⟩ hH [3] rfl rfl rfl hl.1 (Nat.le_of_ble_eq_true rfl) dX0_firstForced_27 ⟨(by first | exact Nat.le_of_ble_eq_true rfl | omega | (dsimp only; omega)), (by first | exact Nat.le_of_ble_eq_true rfl | omega | (dsimp only; omega))⟩ (fun v w1 H locs hq hH => ?_)
      obtain ⟨q_17, q_18, rfl, rfl, hw⟩ := hq
      have hH : g_HS d A s [[(ob, .inr (0, [.ref hA, .ref tA, .ref lA, .ref gA, va_rf fa, va_rf oa]))], [(gA, .inr (2, [.int n, .ref gB]))], [(gB, .inl (d.2.1 0, 10, .inl near))], [(q_16, .inr (7, [.ref q_17, .ref q_18, .int 0]))], [(q_17, .inl (d.2.1 1, 100, .inl (fun _ => 0)))], [(q_18, .inl (d.2.1 0, 100, .inl (fun _ => 0)))]] H locs := hH
      refine W.eq (g2 := (F0 m 30 ls [.ref q_16])) rfl ?_
      refine W.widen (k := 3) (n := 203) (by first | exact Nat.le_of_ble_eq_true rfl | omega | (dsimp only; omega)) (by first | exact Nat.le_of_ble_eq_true rfl | omega | (dsimp only; omega)) ?_
      refine lv_aload_n hF.1.1 hF.1.2.1 dX0_firstForced_30 rfl (lv_at hl 0 rfl) ?_
      refine g_get (v := .ref gA) hF hH in_X0 rfl 0 0 rfl rfl 3 (by decide) q186 (fun _ h9 => h9) rfl dX0_firstForced_31 ?_
      refine lv_iload_n hF.1.1 hF.1.2.1 dX0_firstForced_34 rfl (lv_at hl 1 rfl) ?_
      refine lv_iload_n hF.1.1 hF.1.2.1 dX0_firstForced_35 rfl (lv_at hl 2 rfl) ?_
      refine g_cV [.ref gA, .int a1, .int a2] 3 rfl hF (met_X11_of l hl0 d q_16 gA a1 a2 q_17 q_18 0 (fun _ => 0) (fun _ => 0) n gB near _ hw) q777 q778 q779 q121 q780 rfl rfl (by decide +kernel) ⟨Nat.le_of_ble_eq_true rfl, Nat.le_of_ble_eq_true rfl⟩ hH [3, 4, 5, 1, 2] rfl rfl rfl 0 0 rfl rfl rfl hl.1 (Nat.le_of_ble_eq_true rfl) dX0_firstForced_36 ⟨(by first | exact Nat.le_of_ble_eq_true rfl | omega | (dsimp only; omega)), (by first | exact Nat.le_of_ble_eq_true rfl | omega | (dsimp only; omega))⟩ (fun v w1 H locs hq hH => ?_)
      obtain ⟨n_19, n_20, n_21, rfl, rfl, hw⟩ := hq
      have hH : g_HS d A s [[(ob, .inr (0, [.ref hA, .ref tA, .ref lA, .ref gA, va_rf fa, va_rf oa]))], [(q_16, .inr (7, [.ref q_17, .ref q_18, .int n_21]))], [(q_17, .inl (d.2.1 1, 100, .inl n_19))], [(q_18, .inl (d.2.1 0, 100, .inl n_20))], [(gA, .inr (2, [.int n, .ref gB]))], [(gB, .inl (d.2.1 0, 10, .inl near))]] H locs := hH
      refine W.eq (g2 := (F0 m 39 ls [.ref q_16])) rfl ?_
      refine g_cV [] 0 rfl hF (met_X11_first l hl0 d q_16 q_17 q_18 n_21 n_19 _ hw) q989 q990 q991 q121 q992 rfl rfl (by decide +kernel) ⟨Nat.le_of_ble_eq_true rfl, Nat.le_of_ble_eq_true rfl⟩ hH [1, 2] rfl rfl rfl 0 0 rfl rfl rfl hl.1 (Nat.le_of_ble_eq_true rfl) dX0_firstForced_39 ⟨(by first | exact Nat.le_of_ble_eq_true rfl | omega | (dsimp only; omega)), (by first | exact Nat.le_of_ble_eq_true rfl | omega | (dsimp only; omega))⟩ (fun v w1 H locs hq hH => ?_)
      obtain ⟨r_22, rfl, rfl, hw⟩ := hq
      have hH : g_HS d A s [[(ob, .inr (0, [.ref hA, .ref tA, .ref lA, .ref gA, va_rf fa, va_rf oa]))], [(q_18, .inl (d.2.1 0, 100, .inl n_20))], [(gA, .inr (2, [.int n, .ref gB]))], [(gB, .inl (d.2.1 0, 10, .inl near))], [(q_16, .inr (7, [.ref q_17, .ref q_18, .int n_21]))], [(q_17, .inl (d.2.1 1, 100, .inl n_19))]] H locs := hH
      refine W.eq (g2 := (F0 m 42 ls [.int r_22])) rfl ?_
      refine lv_goto (tgt := 47) hF.1.1 hF.1.2.1 dX0_firstForced_42 (by decide) ?_
      have hH := hH.sub (cs' := [[(ob, .inr (0, [.ref hA, .ref tA, .ref lA, .ref gA, va_rf fa, va_rf oa]))], [(gA, .inr (2, [.int n, .ref gB]))], [(gB, .inl (d.2.1 0, 10, .inl near))]]) [0, 2, 3] rfl rfl
      exact g_iret hF hH ⟨r_22, rfl, rfl, hw⟩ dX0_firstForced_47
  · have hw := hw.2 c_13
    refine lv_iconst (v := (-1)) hF.1.1 hF.1.2.1 dX0_firstForced_9 (by decide) ?_
    refine W.widen (k := 3) (n := 203) (by first | exact Nat.le_of_ble_eq_true rfl | omega | (dsimp only; omega)) (by first | exact Nat.le_of_ble_eq_true rfl | omega | (dsimp only; omega)) ?_
    have hH := hH.sub (cs' := [[(ob, .inr (0, [.ref hA, .ref tA, .ref lA, .ref gA, va_rf fa, va_rf oa]))], [(gA, .inr (2, [.int n, .ref gB]))], [(gB, .inl (d.2.1 0, 10, .inl near))]]) [1, 2, 0] rfl rfl
    exact g_iret hF hH ⟨(-1), rfl, rfl, hw⟩ dX0_firstForced_10

def wp_X0_type (a1 : Int32) (tm : Int32) (tf : Nat → Int32) (Q : Int32 → Int32 → (Nat → Int32) → Prop) : Prop := (wp_X0_inRange a1 32 126 (fun r_7 => ((¬ r_7 = 0 → (wp_X1_add_X (a1.toInt64) tm tf (fun r_9 n_10 n_11 => ((r_9 = 0 → (Q (-3) n_10 n_11)) ∧ (¬ r_9 = 0 → (Q n_10 n_10 n_11)))))) ∧ (r_7 = 0 → (Q (-1) tm tf)))))
set_option maxHeartbeats 4000000 in
set_option maxRecDepth 100000 in
theorem met_X0_type (l : Launch) (hl0 : l.stackTraces = false) (d : g_D) (ob : Nat) (a1 : Int32) (hA : Nat) (tA : Nat) (lA : Nat) (gA : Nat) (fa : Option Nat) (oa : Option Nat) (tB : Nat) (tm : Int32) (tf : Nat → Int32) (Q : Int32 → Int32 → (Nat → Int32) → Prop) (hw : wp_X0_type a1 tm tf Q) : g_Met l d yX0_type cX0_type 2 (Option.some FieldType.int) ({ frames := 10, cells := 3, slots := 222, locals := 10346 } : Room) [.ref ob, .int a1] [[(ob, .inr (0, [.ref hA, .ref tA, .ref lA, .ref gA, va_rf fa, va_rf oa]))], [(tA, .inr (1, [.ref tB, .int tm]))], [(tB, .inl (d.2.1 3, 60, .inl tf))]] 3 222 (fun v w1 => ∃ (r : Int32) (tm2 : Int32) (tf2 : Nat → Int32), v = some (.int r) ∧ w1 = [[(ob, .inr (0, [.ref hA, .ref tA, .ref lA, .ref gA, va_rf fa, va_rf oa]))], [(tA, .inr (1, [.ref tB, .int tm2]))], [(tB, .inl (d.2.1 3, 60, .inl tf2))]] ∧ Q r tm2 tf2) := by
  refine g_enter (by decide) (Nat.le_of_ble_eq_true rfl) ?_
  intro p e s m args below meth c A ls hF hH hl hin
  have hF : g_F p m c cX0_type 2 s args RX0 meth (Option.some FieldType.int) := hF
  have hl : lv_has ls 2 [(0, .ref ob), (1, .int a1)] := hl
  unfold wp_X0_type at hw
  refine lv_iload_n hF.1.1 hF.1.2.1 dX0_type_0 rfl (lv_at hl 1 rfl) ?_
  refine lv_bipush (v := 32) hF.1.1 hF.1.2.1 dX0_type_1 (by decide) ?_
  refine lv_bipush (v := 126) hF.1.1 hF.1.2.1 dX0_type_3 (by decide) ?_
  refine g_cS [.int a1, .int 32, .int 126] 3 rfl hF (met_X0_inRange l hl0 d a1 32 126 _ hw) q206 q207 q92 q208 rfl rfl (by decide +kernel) ⟨Nat.le_of_ble_eq_true rfl, Nat.le_of_ble_eq_true rfl⟩ hH [] rfl rfl rfl hl.1 (Nat.le_of_ble_eq_true rfl) dX0_type_5 ⟨(by first | exact Nat.le_of_ble_eq_true rfl | omega | (dsimp only; omega)), (by first | exact Nat.le_of_ble_eq_true rfl | omega | (dsimp only; omega))⟩ (fun v w1 H locs hq hH => ?_)
  obtain ⟨r_7, rfl, rfl, hw⟩ := hq
  have hH : g_HS d A s [[(ob, .inr (0, [.ref hA, .ref tA, .ref lA, .ref gA, va_rf fa, va_rf oa]))], [(tA, .inr (1, [.ref tB, .int tm]))], [(tB, .inl (d.2.1 3, 60, .inl tf))]] H locs := hH
  refine W.eq (g2 := (F0 m 8 ls [.int r_7])) rfl ?_
  refine lv_if_ne (tgt := 13) hF.1.1 hF.1.2.1 dX0_type_8 (by decide) (fun c_8 => ?_) (fun c_8 => ?_)
  · have hw := hw.1 c_8
    refine lv_aload_n hF.1.1 hF.1.2.1 dX0_type_13 rfl (lv_at hl 0 rfl) ?_
    refine g_get (v := .ref tA) hF hH in_X0 rfl 0 0 rfl rfl 1 (by decide) q184 (fun _ h9 => h9) rfl dX0_type_14 ?_
    refine lv_iload_n hF.1.1 hF.1.2.1 dX0_type_17 rfl (lv_at hl 1 rfl) ?_
    refine lv_i2l (v := (a1.toInt64)) hF.1.1 hF.1.2.1 dX0_type_18 rfl ?_
    refine g_cVW [.long (a1.toInt64)] 1 rfl hF (met_X1_add_X l hl0 d tA (a1.toInt64) tB tm tf _ hw) q243 q244 q245 q93 q246 rfl rfl (by decide +kernel) ⟨Nat.le_of_ble_eq_true rfl, Nat.le_of_ble_eq_true rfl⟩ hH [1, 2] rfl rfl rfl 0 0 rfl rfl rfl hl.1 (Nat.le_of_ble_eq_true rfl) dX0_type_19 ⟨(by first | exact Nat.le_of_ble_eq_true rfl | omega | (dsimp only; omega)), (by first | exact Nat.le_of_ble_eq_true rfl | omega | (dsimp only; omega))⟩ (fun v w1 H locs hq hH => ?_)
    obtain ⟨r_9, n_10, n_11, rfl, rfl, hw⟩ := hq
    have hH : g_HS d A s [[(ob, .inr (0, [.ref hA, .ref tA, .ref lA, .ref gA, va_rf fa, va_rf oa]))], [(tA, .inr (1, [.ref tB, .int n_10]))], [(tB, .inl (d.2.1 3, 60, .inl n_11))]] H locs := hH
    refine W.eq (g2 := (F0 m 22 ls [.int r_9])) rfl ?_
    refine W.widen (k := 3) (n := 222) (by first | exact Nat.le_of_ble_eq_true rfl | omega | (dsimp only; omega)) (by first | exact Nat.le_of_ble_eq_true rfl | omega | (dsimp only; omega)) ?_
    refine lv_if_eq (tgt := 35) hF.1.1 hF.1.2.1 dX0_type_22 (by decide) (fun c_12 => ?_) (fun c_12 => ?_)
    · have hw := hw.1 c_12
      refine lv_bipush (v := (-3)) hF.1.1 hF.1.2.1 dX0_type_35 (by decide) ?_
      exact g_iret hF hH ⟨(-3), n_10, n_11, rfl, rfl, hw⟩ dX0_type_37
    · have hw := hw.2 c_12
      refine lv_aload_n hF.1.1 hF.1.2.1 dX0_type_25 rfl (lv_at hl 0 rfl) ?_
      refine g_get (v := .ref tA) hF hH in_X0 rfl 0 0 rfl rfl 1 (by decide) q184 (fun _ h9 => h9) rfl dX0_type_26 ?_
      refine g_getN (v := .int n_10) hF hH in_X1 rfl 1 0 rfl rfl 1 (by decide) q149 (fun _ h9 => h9) rfl dX0_type_29 ?_
      refine lv_goto (tgt := 37) hF.1.1 hF.1.2.1 dX0_type_32 (by decide) ?_
      exact g_iret hF hH ⟨n_10, n_10, n_11, rfl, rfl, hw⟩ dX0_type_37
  · have hw := hw.2 c_8
    refine lv_iconst (v := (-1)) hF.1.1 hF.1.2.1 dX0_type_11 (by decide) ?_
    refine W.widen (k := 3) (n := 222) (by first | exact Nat.le_of_ble_eq_true rfl | omega | (dsimp only; omega)) (by first | exact Nat.le_of_ble_eq_true rfl | omega | (dsimp only; omega)) ?_
    exact g_iret hF hH ⟨(-1), tm, tf, rfl, rfl, hw⟩ dX0_type_12

def wp_X0_clearText (tm : Int32) (Q : Int32 → Int32 → Prop) : Prop := (wp_X1_clear tm (fun r_3 n_4 => (Q r_3 n_4)))
set_option maxHeartbeats 4000000 in
set_option maxRecDepth 100000 in
theorem met_X0_clearText (l : Launch) (hl0 : l.stackTraces = false) (d : g_D) (ob : Nat) (hA : Nat) (tA : Nat) (lA : Nat) (gA : Nat) (fa : Option Nat) (oa : Option Nat) (tB : Nat) (tm : Int32) (Q : Int32 → Int32 → Prop) (hw : wp_X0_clearText tm Q) : g_Met l d yX0_clearText cX0_clearText 1 (Option.some FieldType.int) ({ frames := 1, cells := 0, slots := 0, locals := 21 } : Room) [.ref ob] [[(ob, .inr (0, [.ref hA, .ref tA, .ref lA, .ref gA, va_rf fa, va_rf oa]))], [(tA, .inr (1, [.ref tB, .int tm]))]] 0 0 (fun v w1 => ∃ (r : Int32) (tm2 : Int32), v = some (.int r) ∧ w1 = [[(ob, .inr (0, [.ref hA, .ref tA, .ref lA, .ref gA, va_rf fa, va_rf oa]))], [(tA, .inr (1, [.ref tB, .int tm2]))]] ∧ Q r tm2) := by
  refine g_enter (by decide) (Nat.le_of_ble_eq_true rfl) ?_
  intro p e s m args below meth c A ls hF hH hl hin
  have hF : g_F p m c cX0_clearText 1 s args RX0 meth (Option.some FieldType.int) := hF
  have hl : lv_has ls 1 [(0, .ref ob)] := hl
  unfold wp_X0_clearText at hw
  refine lv_aload_n hF.1.1 hF.1.2.1 dX0_clearText_0 rfl (lv_at hl 0 rfl) ?_
  refine g_get (v := .ref tA) hF hH in_X0 rfl 0 0 rfl rfl 1 (by decide) q184 (fun _ h9 => h9) rfl dX0_clearText_1 ?_
  refine g_cV [] 0 rfl hF (met_X1_clear l hl0 d tA tB tm _ hw) q340 q341 q342 q93 q343 rfl rfl (by decide +kernel) ⟨Nat.le_of_ble_eq_true rfl, Nat.le_of_ble_eq_true rfl⟩ hH [1] rfl rfl rfl 0 0 rfl rfl rfl hl.1 (Nat.le_of_ble_eq_true rfl) dX0_clearText_4 ⟨(by first | exact Nat.le_of_ble_eq_true rfl | omega | (dsimp only; omega)), (by first | exact Nat.le_of_ble_eq_true rfl | omega | (dsimp only; omega))⟩ (fun v w1 H locs hq hH => ?_)
  obtain ⟨r_3, n_4, rfl, rfl, hw⟩ := hq
  have hH : g_HS d A s [[(ob, .inr (0, [.ref hA, .ref tA, .ref lA, .ref gA, va_rf fa, va_rf oa]))], [(tA, .inr (1, [.ref tB, .int n_4]))]] H locs := hH
  refine W.eq (g2 := (F0 m 7 ls [.int r_3])) rfl ?_
  exact g_iret hF hH ⟨r_3, n_4, rfl, rfl, hw⟩ dX0_clearText_7

def wp_X0_vertexOf (a1 : Int32) (a2 : Int32) (n : Int32) (Q : Int32 → Prop) : Prop := ((¬ a2 = 0 → (Q ((n + a2) - 1))) ∧ (a2 = 0 → (Q a1)))
set_option maxHeartbeats 4000000 in
set_option maxRecDepth 100000 in
theorem met_X0_vertexOf (l : Launch) (hl0 : l.stackTraces = false) (d : g_D) (ob : Nat) (a1 : Int32) (a2 : Int32) (hA : Nat) (tA : Nat) (lA : Nat) (gA : Nat) (fa : Option Nat) (oa : Option Nat) (n : Int32) (gB : Nat) (Q : Int32 → Prop) (hw : wp_X0_vertexOf a1 a2 n Q) : g_Met l d yX0_vertexOf cX0_vertexOf 3 (Option.some FieldType.int) ({ frames := 0, cells := 0, slots := 0, locals := 0 } : Room) [.ref ob, .int a1, .int a2] [[(ob, .inr (0, [.ref hA, .ref tA, .ref lA, .ref gA, va_rf fa, va_rf oa]))], [(gA, .inr (2, [.int n, .ref gB]))]] 0 0 (fun v w1 => ∃ (r : Int32), v = some (.int r) ∧ w1 = [[(ob, .inr (0, [.ref hA, .ref tA, .ref lA, .ref gA, va_rf fa, va_rf oa]))], [(gA, .inr (2, [.int n, .ref gB]))]] ∧ Q r) := by
  refine g_enter (by decide) (Nat.le_of_ble_eq_true rfl) ?_
  intro p e s m args below meth c A ls hF hH hl hin
  have hF : g_F p m c cX0_vertexOf 3 s args RX0 meth (Option.some FieldType.int) := hF
  have hl : lv_has ls 3 [(0, .ref ob), (1, .int a1), (2, .int a2)] := hl
  unfold wp_X0_vertexOf at hw
  refine lv_iload_n hF.1.1 hF.1.2.1 dX0_vertexOf_0 rfl (lv_at hl 2 rfl) ?_
  refine lv_if_ne (tgt := 8) hF.1.1 hF.1.2.1 dX0_vertexOf_1 (by decide) (fun c_2 => ?_) (fun c_2 => ?_)
  · have hw := hw.1 c_2
    refine lv_aload_n hF.1.1 hF.1.2.1 dX0_vertexOf_8 rfl (lv_at hl 0 rfl) ?_
    refine g_get (v := .ref gA) hF hH in_X0 rfl 0 0 rfl rfl 3 (by decide) q186 (fun _ h9 => h9) rfl dX0_vertexOf_9 ?_
    refine g_getN (v := .int n) hF hH in_X2 rfl 1 0 rfl rfl 0 (by decide) q169 (fun _ h9 => h9) rfl dX0_vertexOf_12 ?_
    refine lv_iload_n hF.1.1 hF.1.2.1 dX0_vertexOf_15 rfl (lv_at hl 2 rfl) ?_
    refine lv_iadd hF.1.1 hF.1.2.1 dX0_vertexOf_16 ?_
    refine lv_iconst (v := 1) hF.1.1 hF.1.2.1 dX0_vertexOf_17 (by decide) ?_
    refine lv_isub hF.1.1 hF.1.2.1 dX0_vertexOf_18 ?_
    exact g_iret hF hH ⟨((n + a2) - 1), rfl, rfl, hw⟩ dX0_vertexOf_19
  · have hw := hw.2 c_2
    refine lv_iload_n hF.1.1 hF.1.2.1 dX0_vertexOf_4 rfl (lv_at hl 1 rfl) ?_
    refine lv_goto (tgt := 19) hF.1.1 hF.1.2.1 dX0_vertexOf_5 (by decide) ?_
    exact g_iret hF hH ⟨a1, rfl, rfl, hw⟩ dX0_vertexOf_19

def wb_X0_substituted_56 (a1 : Int32) (wn : Int32) (wnear : Nat → Int32) (near : Nat → Int32) (n : Int32) (x4 : Int32) (v_vertices : Int32) (K22 : Int32 → (Nat → Int32) → Prop) (Q : Int32 → (Nat → Int32) → Prop) : Nat → Int32 → (Nat → Int32) → Prop
  | 0, _, _ => False
  | fu + 1, x5, v_q_2 => ((x4 ≤ x5 → K22 (x4 + 1) v_q_2) ∧ (¬ x4 ≤ x5 → (wp_X0_vertexOf a1 x4 n (fun r_14 => (wp_X0_vertexOf a1 x5 n (fun r_15 => (wp_X2_linked x4 x5 wn wnear (fun r_16 => (wp_X2_set r_14 r_15 r_16 v_vertices v_q_2 (fun n_17 => (wb_X0_substituted_56 a1 wn wnear near n x4 v_vertices K22 Q fu) (x5 + 1) n_17))))))))))
def wb_X0_substituted_22 (a1 : Int32) (wn : Int32) (wnear : Nat → Int32) (n : Int32) (near : Nat → Int32) (v_vertices : Int32) (Q : Int32 → (Nat → Int32) → Prop) : Nat → Int32 → (Nat → Int32) → Prop
  | 0, _, _ => False
  | fu + 1, x4, v_q_2 => ((wn ≤ x4 → (Q v_vertices v_q_2)) ∧ (¬ wn ≤ x4 → (wp_X0_vertexOf a1 x4 n (fun r_19 => (vp_in a1 10 ∧ (wp_X2_join ((1 : Int32) <<< (r_19 &&& 31)) (near a1.toNatClampNeg) v_vertices v_q_2 (fun n_21 => (∃ f56, wb_X0_substituted_56 a1 wn wnear near n x4 v_vertices (wb_X0_substituted_22 a1 wn wnear n near v_vertices Q fu) Q f56 0 n_21))))))))
def wp_X0_substituted (a1 : Int32) (n : Int32) (near : Nat → Int32) (wn : Int32) (wnear : Nat → Int32) (Q : Int32 → (Nat → Int32) → Prop) : Prop := (wp_X0_copy ((n + wn) - 1) n near (fun n_25 => (∃ f22, wb_X0_substituted_22 a1 wn wnear n near ((n + wn) - 1) Q f22 0 n_25)))
set_option maxHeartbeats 4000000 in
set_option maxRecDepth 100000 in
theorem met_X0_substituted (l : Launch) (hl0 : l.stackTraces = false) (d : g_D) (ob : Nat) (a1 : Int32) (wA : Nat) (hA : Nat) (tA : Nat) (lA : Nat) (gA : Nat) (fa : Option Nat) (oa : Option Nat) (n : Int32) (gB : Nat) (near : Nat → Int32) (wn : Int32) (wB : Nat) (wnear : Nat → Int32) (Q : Int32 → (Nat → Int32) → Prop) (hw : wp_X0_substituted a1 n near wn wnear Q) : g_Met l d yX0_substituted cX0_substituted 6 (Option.some (FieldType.object "GraphModules$Graph")) ({ frames := 3, cells := 2, slots := 12, locals := 67 } : Room) [.ref ob, .int a1, .ref wA] [[(ob, .inr (0, [.ref hA, .ref tA, .ref lA, .ref gA, va_rf fa, va_rf oa]))], [(gA, .inr (2, [.int n, .ref gB]))], [(gB, .inl (d.2.1 0, 10, .inl near))], [(wA, .inr (2, [.int wn, .ref wB]))], [(wB, .inl (d.2.1 0, 10, .inl wnear))]] 2 12 (fun v w1 => ∃ (cA : Nat) (cB : Nat) (n2 : Int32) (near2 : Nat → Int32), v = some (.ref cA) ∧ w1 = [[(ob, .inr (0, [.ref hA, .ref tA, .ref lA, .ref gA, va_rf fa, va_rf oa]))], [(gA, .inr (2, [.int n, .ref gB]))], [(gB, .inl (d.2.1 0, 10, .inl near))], [(wA, .inr (2, [.int wn, .ref wB]))], [(wB, .inl (d.2.1 0, 10, .inl wnear))], [(cA, .inr (2, [.int n2, .ref cB]))], [(cB, .inl (d.2.1 0, 10, .inl near2))]] ∧ Q n2 near2) := by
  refine g_enter (by decide) (Nat.le_of_ble_eq_true rfl) ?_
  intro p e s m args below meth c A ls hF hH hl hin
  have hF : g_F p m c cX0_substituted 6 s args RX0 meth (Option.some (FieldType.object "GraphModules$Graph")) := hF
  have hl : lv_has ls 6 [(0, .ref ob), (1, .int a1), (2, .ref wA)] := hl
  have bk_56 : ∀ (x4 : Int32) (v_vertices : Int32) (K22 : Int32 → (Nat → Int32) → Prop) (hK22 : ∀ (q_1 : Nat) (q_2 : Nat) (x4 : Int32) (v_q_2 : Nat → Int32) (H : Heap) (locs : List Loc) (ls : Array Slot), g_HS d A s [[(wA, .inr (2, [.int wn, .ref wB]))], [(wB, .inl (d.2.1 0, 10, .inl wnear))], [(ob, .inr (0, [.ref hA, .ref tA, .ref lA, .ref gA, va_rf fa, va_rf oa]))], [(gA, .inr (2, [.int n, .ref gB]))], [(gB, .inl (d.2.1 0, 10, .inl near))], [(q_1, .inr (2, [.int v_vertices, .ref q_2]))], [(q_2, .inl (d.2.1 0, 10, .inl v_q_2))]] H locs → lv_has ls 6 [(0, .ref ob), (1, .int a1), (2, .ref wA), (3, .ref q_1), (4, .int x4)] → K22 x4 v_q_2 → W p l e ({ frames := 3, cells := 2, slots := 12, locals := 67 } : Room) s m args below meth c H locs 2 12 (g_E d (fun v w1 => ∃ (cA : Nat) (cB : Nat) (n2 : Int32) (near2 : Nat → Int32), v = some (.ref cA) ∧ w1 = [[(ob, .inr (0, [.ref hA, .ref tA, .ref lA, .ref gA, va_rf fa, va_rf oa]))], [(gA, .inr (2, [.int n, .ref gB]))], [(gB, .inl (d.2.1 0, 10, .inl near))], [(wA, .inr (2, [.int wn, .ref wB]))], [(wB, .inl (d.2.1 0, 10, .inl wnear))], [(cA, .inr (2, [.int n2, .ref cB]))], [(cB, .inl (d.2.1 0, 10, .inl near2))]] ∧ Q n2 near2) A below args s 2 12) (F0 m 22 ls [])) (fu : Nat) (q_1 : Nat) (q_2 : Nat) (x5 : Int32) (v_q_2 : Nat → Int32) (H : Heap) (locs : List Loc) (ls : Array Slot), g_HS d A s [[(wA, .inr (2, [.int wn, .ref wB]))], [(wB, .inl (d.2.1 0, 10, .inl wnear))], [(gB, .inl (d.2.1 0, 10, .inl near))], [(ob, .inr (0, [.ref hA, .ref tA, .ref lA, .ref gA, va_rf fa, va_rf oa]))], [(gA, .inr (2, [.int n, .ref gB]))], [(q_1, .inr (2, [.int v_vertices, .ref q_2]))], [(q_2, .inl (d.2.1 0, 10, .inl v_q_2))]] H locs → lv_has ls 6 [(0, .ref ob), (1, .int a1), (2, .ref wA), (3, .ref q_1), (4, .int x4), (5, .int x5)] → wb_X0_substituted_56 a1 wn wnear near n x4 v_vertices K22 Q fu x5 v_q_2 → W p l e ({ frames := 3, cells := 2, slots := 12, locals := 67 } : Room) s m args below meth c H locs 2 12 (g_E d (fun v w1 => ∃ (cA : Nat) (cB : Nat) (n2 : Int32) (near2 : Nat → Int32), v = some (.ref cA) ∧ w1 = [[(ob, .inr (0, [.ref hA, .ref tA, .ref lA, .ref gA, va_rf fa, va_rf oa]))], [(gA, .inr (2, [.int n, .ref gB]))], [(gB, .inl (d.2.1 0, 10, .inl near))], [(wA, .inr (2, [.int wn, .ref wB]))], [(wB, .inl (d.2.1 0, 10, .inl wnear))], [(cA, .inr (2, [.int n2, .ref cB]))], [(cB, .inl (d.2.1 0, 10, .inl near2))]] ∧ Q n2 near2) A below args s 2 12) (F0 m 56 ls []) := by
    intro x4 v_vertices K22 hK22 fu
    induction fu with
    | zero => intro q_1 q_2 x5 v_q_2 H locs ls hH hl hw; rw [wb_X0_substituted_56] at hw; exact hw.elim
    | succ fu ih =>
      intro q_1 q_2 x5 v_q_2 H locs ls hH hl hw
      rw [wb_X0_substituted_56] at hw
      refine lv_iload hF.1.1 hF.1.2.1 dX0_substituted_56 (lv_at hl 5 rfl) ?_
      refine lv_iload hF.1.1 hF.1.2.1 dX0_substituted_58 (lv_at hl 4 rfl) ?_
      refine lv_icmp_ge (tgt := 95) hF.1.1 hF.1.2.1 dX0_substituted_60 (by decide) (fun c_13 => ?_) (fun c_13 => ?_)
      · have hw := hw.1 c_13
        refine lv_iinc (v := (x4 + 1)) (lv' := [(4, .int (x4 + 1)), (0, .ref ob), (1, .int a1), (2, .ref wA), (3, .ref q_1), (5, .int x5)]) hF.1.1 hF.1.2.1 dX0_substituted_95 hl (k := 4) rfl rfl (by decide) rfl (fun ls hl => ?_)
        refine lv_goto (tgt := 22) hF.1.1 hF.1.2.1 dX0_substituted_98 (by decide) ?_
        have hH := hH.sub (cs' := [[(wA, .inr (2, [.int wn, .ref wB]))], [(wB, .inl (d.2.1 0, 10, .inl wnear))], [(ob, .inr (0, [.ref hA, .ref tA, .ref lA, .ref gA, va_rf fa, va_rf oa]))], [(gA, .inr (2, [.int n, .ref gB]))], [(gB, .inl (d.2.1 0, 10, .inl near))], [(q_1, .inr (2, [.int v_vertices, .ref q_2]))], [(q_2, .inl (d.2.1 0, 10, .inl v_q_2))]]) [0, 1, 3, 4, 2, 5, 6] rfl rfl
        have hl := lv_sub hl (l' := [(0, .ref ob), (1, .int a1), (2, .ref wA), (3, .ref q_1), (4, .int (x4 + 1))]) [1, 2, 3, 4, 0] rfl
        exact hK22 q_1 q_2 (x4 + 1) v_q_2 _ _ _ hH hl hw
      · have hw := hw.2 c_13
        refine lv_aload_n hF.1.1 hF.1.2.1 dX0_substituted_63 rfl (lv_at hl 3 rfl) ?_
        refine lv_aload_n hF.1.1 hF.1.2.1 dX0_substituted_64 rfl (lv_at hl 0 rfl) ?_
        refine lv_iload_n hF.1.1 hF.1.2.1 dX0_substituted_65 rfl (lv_at hl 1 rfl) ?_
        refine lv_iload hF.1.1 hF.1.2.1 dX0_substituted_66 (lv_at hl 4 rfl) ?_
        refine g_cV [.int a1, .int x4] 2 rfl hF (met_X0_vertexOf l hl0 d ob a1 x4 hA tA lA gA fa oa n gB _ hw) q1202 q1204 qs39 q92 q1205 rfl rfl (by decide +kernel) ⟨Nat.le_of_ble_eq_true rfl, Nat.le_of_ble_eq_true rfl⟩ hH [3, 4] rfl rfl rfl 0 0 rfl rfl rfl hl.1 (Nat.le_of_ble_eq_true rfl) dX0_substituted_68 ⟨(by first | exact Nat.le_of_ble_eq_true rfl | omega | (dsimp only; omega)), (by first | exact Nat.le_of_ble_eq_true rfl | omega | (dsimp only; omega))⟩ (fun v w1 H locs hq hH => ?_)
        obtain ⟨r_14, rfl, rfl, hw⟩ := hq
        have hH : g_HS d A s [[(wA, .inr (2, [.int wn, .ref wB]))], [(wB, .inl (d.2.1 0, 10, .inl wnear))], [(gB, .inl (d.2.1 0, 10, .inl near))], [(q_1, .inr (2, [.int v_vertices, .ref q_2]))], [(q_2, .inl (d.2.1 0, 10, .inl v_q_2))], [(ob, .inr (0, [.ref hA, .ref tA, .ref lA, .ref gA, va_rf fa, va_rf oa]))], [(gA, .inr (2, [.int n, .ref gB]))]] H locs := hH
        refine W.eq (g2 := (F0 m 71 ls [.int r_14, .ref q_1])) rfl ?_
        refine lv_aload_n hF.1.1 hF.1.2.1 dX0_substituted_71 rfl (lv_at hl 0 rfl) ?_
        refine lv_iload_n hF.1.1 hF.1.2.1 dX0_substituted_72 rfl (lv_at hl 1 rfl) ?_
        refine lv_iload hF.1.1 hF.1.2.1 dX0_substituted_73 (lv_at hl 5 rfl) ?_
        refine g_cV [.int a1, .int x5] 2 rfl hF (met_X0_vertexOf l hl0 d ob a1 x5 hA tA lA gA fa oa n gB _ hw) q1202 q1204 qs39 q92 q1205 rfl rfl (by decide +kernel) ⟨Nat.le_of_ble_eq_true rfl, Nat.le_of_ble_eq_true rfl⟩ hH [5, 6] rfl rfl rfl 0 0 rfl rfl rfl hl.1 (Nat.le_of_ble_eq_true rfl) dX0_substituted_75 ⟨(by first | exact Nat.le_of_ble_eq_true rfl | omega | (dsimp only; omega)), (by first | exact Nat.le_of_ble_eq_true rfl | omega | (dsimp only; omega))⟩ (fun v w1 H locs hq hH => ?_)
        obtain ⟨r_15, rfl, rfl, hw⟩ := hq
        have hH : g_HS d A s [[(wA, .inr (2, [.int wn, .ref wB]))], [(wB, .inl (d.2.1 0, 10, .inl wnear))], [(gB, .inl (d.2.1 0, 10, .inl near))], [(q_1, .inr (2, [.int v_vertices, .ref q_2]))], [(q_2, .inl (d.2.1 0, 10, .inl v_q_2))], [(ob, .inr (0, [.ref hA, .ref tA, .ref lA, .ref gA, va_rf fa, va_rf oa]))], [(gA, .inr (2, [.int n, .ref gB]))]] H locs := hH
        refine W.eq (g2 := (F0 m 78 ls [.int r_15, .int r_14, .ref q_1])) rfl ?_
        refine lv_aload_n hF.1.1 hF.1.2.1 dX0_substituted_78 rfl (lv_at hl 2 rfl) ?_
        refine lv_iload hF.1.1 hF.1.2.1 dX0_substituted_79 (lv_at hl 4 rfl) ?_
        refine lv_iload hF.1.1 hF.1.2.1 dX0_substituted_81 (lv_at hl 5 rfl) ?_
        refine g_cV [.int x4, .int x5] 2 rfl hF (met_X2_linked l hl0 d wA x4 x5 wn wB wnear _ hw) q356 q237 q238 q94 q239 rfl rfl (by decide +kernel) ⟨Nat.le_of_ble_eq_true rfl, Nat.le_of_ble_eq_true rfl⟩ hH [0, 1] rfl rfl rfl 0 0 rfl rfl rfl hl.1 (Nat.le_of_ble_eq_true rfl) dX0_substituted_83 ⟨(by first | exact Nat.le_of_ble_eq_true rfl | omega | (dsimp only; omega)), (by first | exact Nat.le_of_ble_eq_true rfl | omega | (dsimp only; omega))⟩ (fun v w1 H locs hq hH => ?_)
        obtain ⟨r_16, rfl, rfl, hw⟩ := hq
        have hH : g_HS d A s [[(gB, .inl (d.2.1 0, 10, .inl near))], [(q_1, .inr (2, [.int v_vertices, .ref q_2]))], [(q_2, .inl (d.2.1 0, 10, .inl v_q_2))], [(ob, .inr (0, [.ref hA, .ref tA, .ref lA, .ref gA, va_rf fa, va_rf oa]))], [(gA, .inr (2, [.int n, .ref gB]))], [(wA, .inr (2, [.int wn, .ref wB]))], [(wB, .inl (d.2.1 0, 10, .inl wnear))]] H locs := hH
        refine W.eq (g2 := (F0 m 86 ls [.int r_16, .int r_15, .int r_14, .ref q_1])) rfl ?_
        refine g_cV [.int r_14, .int r_15, .int r_16] 3 rfl hF (met_X2_set l hl0 d q_1 r_14 r_15 r_16 v_vertices q_2 v_q_2 _ hw) q364 q365 q366 q94 q367 rfl rfl (by decide +kernel) ⟨Nat.le_of_ble_eq_true rfl, Nat.le_of_ble_eq_true rfl⟩ hH [1, 2] rfl rfl rfl 0 0 rfl rfl rfl hl.1 (Nat.le_of_ble_eq_true rfl) dX0_substituted_86 ⟨(by first | exact Nat.le_of_ble_eq_true rfl | omega | (dsimp only; omega)), (by first | exact Nat.le_of_ble_eq_true rfl | omega | (dsimp only; omega))⟩ (fun v w1 H locs hq hH => ?_)
        obtain ⟨n_17, rfl, rfl, hw⟩ := hq
        have hH : g_HS d A s [[(gB, .inl (d.2.1 0, 10, .inl near))], [(ob, .inr (0, [.ref hA, .ref tA, .ref lA, .ref gA, va_rf fa, va_rf oa]))], [(gA, .inr (2, [.int n, .ref gB]))], [(wA, .inr (2, [.int wn, .ref wB]))], [(wB, .inl (d.2.1 0, 10, .inl wnear))], [(q_1, .inr (2, [.int v_vertices, .ref q_2]))], [(q_2, .inl (d.2.1 0, 10, .inl n_17))]] H locs := hH
        refine W.eq (g2 := (F0 m 89 ls [])) rfl ?_
        refine lv_iinc (v := (x5 + 1)) (lv' := [(5, .int (x5 + 1)), (0, .ref ob), (1, .int a1), (2, .ref wA), (3, .ref q_1), (4, .int x4)]) hF.1.1 hF.1.2.1 dX0_substituted_89 hl (k := 5) rfl rfl (by decide) rfl (fun ls hl => ?_)
        refine lv_goto (tgt := 56) hF.1.1 hF.1.2.1 dX0_substituted_92 (by decide) ?_
        have hH := hH.sub (cs' := [[(wA, .inr (2, [.int wn, .ref wB]))], [(wB, .inl (d.2.1 0, 10, .inl wnear))], [(gB, .inl (d.2.1 0, 10, .inl near))], [(ob, .inr (0, [.ref hA, .ref tA, .ref lA, .ref gA, va_rf fa, va_rf oa]))], [(gA, .inr (2, [.int n, .ref gB]))], [(q_1, .inr (2, [.int v_vertices, .ref q_2]))], [(q_2, .inl (d.2.1 0, 10, .inl n_17))]]) [3, 4, 0, 1, 2, 5, 6] rfl rfl
        have hl := lv_sub hl (l' := [(0, .ref ob), (1, .int a1), (2, .ref wA), (3, .ref q_1), (4, .int x4), (5, .int (x5 + 1))]) [1, 2, 3, 4, 5, 0] rfl
        exact ih q_1 q_2 (x5 + 1) n_17 _ _ _ hH hl hw
  have bk_22 : ∀ (v_vertices : Int32) (fu : Nat) (q_1 : Nat) (q_2 : Nat) (x4 : Int32) (v_q_2 : Nat → Int32) (H : Heap) (locs : List Loc) (ls : Array Slot), g_HS d A s [[(wA, .inr (2, [.int wn, .ref wB]))], [(wB, .inl (d.2.1 0, 10, .inl wnear))], [(ob, .inr (0, [.ref hA, .ref tA, .ref lA, .ref gA, va_rf fa, va_rf oa]))], [(gA, .inr (2, [.int n, .ref gB]))], [(gB, .inl (d.2.1 0, 10, .inl near))], [(q_1, .inr (2, [.int v_vertices, .ref q_2]))], [(q_2, .inl (d.2.1 0, 10, .inl v_q_2))]] H locs → lv_has ls 6 [(0, .ref ob), (1, .int a1), (2, .ref wA), (3, .ref q_1), (4, .int x4)] → wb_X0_substituted_22 a1 wn wnear n near v_vertices Q fu x4 v_q_2 → W p l e ({ frames := 3, cells := 2, slots := 12, locals := 67 } : Room) s m args below meth c H locs 2 12 (g_E d (fun v w1 => ∃ (cA : Nat) (cB : Nat) (n2 : Int32) (near2 : Nat → Int32), v = some (.ref cA) ∧ w1 = [[(ob, .inr (0, [.ref hA, .ref tA, .ref lA, .ref gA, va_rf fa, va_rf oa]))], [(gA, .inr (2, [.int n, .ref gB]))], [(gB, .inl (d.2.1 0, 10, .inl near))], [(wA, .inr (2, [.int wn, .ref wB]))], [(wB, .inl (d.2.1 0, 10, .inl wnear))], [(cA, .inr (2, [.int n2, .ref cB]))], [(cB, .inl (d.2.1 0, 10, .inl near2))]] ∧ Q n2 near2) A below args s 2 12) (F0 m 22 ls []) := by
    intro v_vertices fu
    induction fu with
    | zero => intro q_1 q_2 x4 v_q_2 H locs ls hH hl hw; rw [wb_X0_substituted_22] at hw; exact hw.elim
    | succ fu ih =>
      intro q_1 q_2 x4 v_q_2 H locs ls hH hl hw
      rw [wb_X0_substituted_22] at hw
      refine lv_iload hF.1.1 hF.1.2.1 dX0_substituted_22 (lv_at hl 4 rfl) ?_
      refine lv_aload_n hF.1.1 hF.1.2.1 dX0_substituted_24 rfl (lv_at hl 2 rfl) ?_
      refine g_getN (v := .int wn) hF hH in_X2 rfl 0 0 rfl rfl 0 (by decide) q169 (fun _ h9 => h9) rfl dX0_substituted_25 ?_
      refine lv_icmp_ge (tgt := 101) hF.1.1 hF.1.2.1 dX0_substituted_28 (by decide) (fun c_18 => ?_) (fun c_18 => ?_)
      · have hw := hw.1 c_18
        refine lv_aload_n hF.1.1 hF.1.2.1 dX0_substituted_101 rfl (lv_at hl 3 rfl) ?_
        have hH := hH.sub (cs' := [[(ob, .inr (0, [.ref hA, .ref tA, .ref lA, .ref gA, va_rf fa, va_rf oa]))], [(gA, .inr (2, [.int n, .ref gB]))], [(gB, .inl (d.2.1 0, 10, .inl near))], [(wA, .inr (2, [.int wn, .ref wB]))], [(wB, .inl (d.2.1 0, 10, .inl wnear))], [(q_1, .inr (2, [.int v_vertices, .ref q_2]))], [(q_2, .inl (d.2.1 0, 10, .inl v_q_2))]]) [2, 3, 4, 0, 1, 5, 6] rfl rfl
        exact g_aret hF (Or.inl ⟨_, rfl⟩) (Or.inr ⟨_, rfl⟩) hH ⟨q_1, q_2, v_vertices, v_q_2, rfl, rfl, hw⟩ dX0_substituted_102
      · have hw := hw.2 c_18
        refine lv_aload_n hF.1.1 hF.1.2.1 dX0_substituted_31 rfl (lv_at hl 3 rfl) ?_
        refine lv_iconst (v := 1) hF.1.1 hF.1.2.1 dX0_substituted_32 (by decide) ?_
        refine lv_aload_n hF.1.1 hF.1.2.1 dX0_substituted_33 rfl (lv_at hl 0 rfl) ?_
        refine lv_iload_n hF.1.1 hF.1.2.1 dX0_substituted_34 rfl (lv_at hl 1 rfl) ?_
        refine lv_iload hF.1.1 hF.1.2.1 dX0_substituted_35 (lv_at hl 4 rfl) ?_
        refine g_cV [.int a1, .int x4] 2 rfl hF (met_X0_vertexOf l hl0 d ob a1 x4 hA tA lA gA fa oa n gB _ hw) q1202 q1204 qs39 q92 q1205 rfl rfl (by decide +kernel) ⟨Nat.le_of_ble_eq_true rfl, Nat.le_of_ble_eq_true rfl⟩ hH [2, 3] rfl rfl rfl 0 0 rfl rfl rfl hl.1 (Nat.le_of_ble_eq_true rfl) dX0_substituted_37 ⟨(by first | exact Nat.le_of_ble_eq_true rfl | omega | (dsimp only; omega)), (by first | exact Nat.le_of_ble_eq_true rfl | omega | (dsimp only; omega))⟩ (fun v w1 H locs hq hH => ?_)
        obtain ⟨r_19, rfl, rfl, hw⟩ := hq
        have hH : g_HS d A s [[(wA, .inr (2, [.int wn, .ref wB]))], [(wB, .inl (d.2.1 0, 10, .inl wnear))], [(gB, .inl (d.2.1 0, 10, .inl near))], [(q_1, .inr (2, [.int v_vertices, .ref q_2]))], [(q_2, .inl (d.2.1 0, 10, .inl v_q_2))], [(ob, .inr (0, [.ref hA, .ref tA, .ref lA, .ref gA, va_rf fa, va_rf oa]))], [(gA, .inr (2, [.int n, .ref gB]))]] H locs := hH
        refine W.eq (g2 := (F0 m 40 ls [.int r_19, .int 1, .ref q_1])) rfl ?_
        refine lv_ishl hF.1.1 hF.1.2.1 dX0_substituted_40 ?_
        refine lv_aload_n hF.1.1 hF.1.2.1 dX0_substituted_41 rfl (lv_at hl 0 rfl) ?_
        refine g_get (v := .ref gA) hF hH in_X0 rfl 5 0 rfl rfl 3 (by decide) q186 (fun _ h9 => h9) rfl dX0_substituted_42 ?_
        refine g_getN (v := .ref gB) hF hH in_X2 rfl 6 0 rfl rfl 1 (by decide) q173 (fun _ h9 => h9) rfl dX0_substituted_45 ?_
        refine lv_iload_n hF.1.1 hF.1.2.1 dX0_substituted_48 rfl (lv_at hl 1 rfl) ?_
        obtain ⟨hi_20, hw⟩ := hw
        refine g_iald hF hH 2 0 rfl rfl hi_20 dX0_substituted_49 ?_
        refine g_cV [.int ((1 : Int32) <<< (r_19 &&& 31)), .int (near a1.toNatClampNeg)] 2 rfl hF (met_X2_join l hl0 d q_1 ((1 : Int32) <<< (r_19 &&& 31)) (near a1.toNatClampNeg) v_vertices q_2 v_q_2 _ hw) q386 q387 q388 q94 q389 rfl rfl (by decide +kernel) ⟨Nat.le_of_ble_eq_true rfl, Nat.le_of_ble_eq_true rfl⟩ hH [3, 4] rfl rfl rfl 0 0 rfl rfl rfl hl.1 (Nat.le_of_ble_eq_true rfl) dX0_substituted_50 ⟨(by first | exact Nat.le_of_ble_eq_true rfl | omega | (dsimp only; omega)), (by first | exact Nat.le_of_ble_eq_true rfl | omega | (dsimp only; omega))⟩ (fun v w1 H locs hq hH => ?_)
        obtain ⟨n_21, rfl, rfl, hw⟩ := hq
        have hH : g_HS d A s [[(wA, .inr (2, [.int wn, .ref wB]))], [(wB, .inl (d.2.1 0, 10, .inl wnear))], [(gB, .inl (d.2.1 0, 10, .inl near))], [(ob, .inr (0, [.ref hA, .ref tA, .ref lA, .ref gA, va_rf fa, va_rf oa]))], [(gA, .inr (2, [.int n, .ref gB]))], [(q_1, .inr (2, [.int v_vertices, .ref q_2]))], [(q_2, .inl (d.2.1 0, 10, .inl n_21))]] H locs := hH
        refine W.eq (g2 := (F0 m 53 ls [])) rfl ?_
        refine lv_iconst (v := 0) hF.1.1 hF.1.2.1 dX0_substituted_53 (by decide) ?_
        refine lv_istore (lv' := [(5, .int 0), (0, .ref ob), (1, .int a1), (2, .ref wA), (3, .ref q_1), (4, .int x4)]) hF.1.1 hF.1.2.1 dX0_substituted_54 hl (by decide) rfl (fun ls hl => ?_)
        obtain ⟨f_22, hw⟩ := hw
        have hl := lv_sub hl (l' := [(0, .ref ob), (1, .int a1), (2, .ref wA), (3, .ref q_1), (4, .int x4), (5, .int 0)]) [1, 2, 3, 4, 5, 0] rfl
        exact bk_56 x4 v_vertices (wb_X0_substituted_22 a1 wn wnear n near v_vertices Q fu) ih f_22 q_1 q_2 0 n_21 _ _ _ hH hl hw
  unfold wp_X0_substituted at hw
  refine lv_aload_n hF.1.1 hF.1.2.1 dX0_substituted_0 rfl (lv_at hl 0 rfl) ?_
  refine lv_aload_n hF.1.1 hF.1.2.1 dX0_substituted_1 rfl (lv_at hl 0 rfl) ?_
  refine g_get (v := .ref gA) hF hH in_X0 rfl 0 0 rfl rfl 3 (by decide) q186 (fun _ h9 => h9) rfl dX0_substituted_2 ?_
  refine g_getN (v := .int n) hF hH in_X2 rfl 1 0 rfl rfl 0 (by decide) q169 (fun _ h9 => h9) rfl dX0_substituted_5 ?_
  refine lv_aload_n hF.1.1 hF.1.2.1 dX0_substituted_8 rfl (lv_at hl 2 rfl) ?_
  refine g_getN (v := .int wn) hF hH in_X2 rfl 3 0 rfl rfl 0 (by decide) q169 (fun _ h9 => h9) rfl dX0_substituted_9 ?_
  refine lv_iadd hF.1.1 hF.1.2.1 dX0_substituted_12 ?_
  refine lv_iconst (v := 1) hF.1.1 hF.1.2.1 dX0_substituted_13 (by decide) ?_
  refine lv_isub hF.1.1 hF.1.2.1 dX0_substituted_14 ?_
  refine g_cV [.int ((n + wn) - 1)] 1 rfl hF (met_X0_copy l hl0 d ob ((n + wn) - 1) hA tA lA gA fa oa n gB near _ hw) q357 q359 qs7 q92 q360 rfl rfl (by decide +kernel) ⟨Nat.le_of_ble_eq_true rfl, Nat.le_of_ble_eq_true rfl⟩ hH [0, 1, 2] rfl rfl rfl 0 0 rfl rfl rfl hl.1 (Nat.le_of_ble_eq_true rfl) dX0_substituted_15 ⟨(by first | exact Nat.le_of_ble_eq_true rfl | omega | (dsimp only; omega)), (by first | exact Nat.le_of_ble_eq_true rfl | omega | (dsimp only; omega))⟩ (fun v w1 H locs hq hH => ?_)
  obtain ⟨q_23, q_24, n_25, rfl, rfl, hw⟩ := hq
  have hH : g_HS d A s [[(wA, .inr (2, [.int wn, .ref wB]))], [(wB, .inl (d.2.1 0, 10, .inl wnear))], [(ob, .inr (0, [.ref hA, .ref tA, .ref lA, .ref gA, va_rf fa, va_rf oa]))], [(gA, .inr (2, [.int n, .ref gB]))], [(gB, .inl (d.2.1 0, 10, .inl near))], [(q_23, .inr (2, [.int ((n + wn) - 1), .ref q_24]))], [(q_24, .inl (d.2.1 0, 10, .inl n_25))]] H locs := hH
  refine W.eq (g2 := (F0 m 18 ls [.ref q_23])) rfl ?_
  refine W.widen (k := 2) (n := 12) (by first | exact Nat.le_of_ble_eq_true rfl | omega | (dsimp only; omega)) (by first | exact Nat.le_of_ble_eq_true rfl | omega | (dsimp only; omega)) ?_
  refine lv_astore_n (lv' := [(3, .ref q_23), (0, .ref ob), (1, .int a1), (2, .ref wA)]) hF.1.1 hF.1.2.1 dX0_substituted_18 rfl hl (by decide) rfl (fun ls hl => ?_)
  refine lv_iconst (v := 0) hF.1.1 hF.1.2.1 dX0_substituted_19 (by decide) ?_
  refine lv_istore (lv' := [(4, .int 0), (3, .ref q_23), (0, .ref ob), (1, .int a1), (2, .ref wA)]) hF.1.1 hF.1.2.1 dX0_substituted_20 hl (by decide) rfl (fun ls hl => ?_)
  obtain ⟨f_26, hw⟩ := hw
  have hl := lv_sub hl (l' := [(0, .ref ob), (1, .int a1), (2, .ref wA), (3, .ref q_23), (4, .int 0)]) [2, 3, 4, 1, 0] rfl
  exact bk_22 ((n + wn) - 1) f_26 q_23 q_24 0 n_25 _ _ _ hH hl hw
