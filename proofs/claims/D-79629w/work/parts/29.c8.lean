def g_in (tw : va_W) (x : Nat) : Prop := ∃ (ci : Nat) (fs : List Value), (x, (Sum.inr (ci, fs) : va_E)) ∈ tw ∧ (ci = 5 ∨ ci = 6)
def wp_J10_add_3_OT (a1 : Int32) (x : Nat) (mc_ : Int32) (sz : Int32) (ef : Nat → Option Nat) (cap : Nat) (tw : va_W) (Q : Nat → (Nat → Option Nat) → Int32 → Int32 → Prop) : Prop := (wp_J10_rangeCheckForAdd a1 mc_ sz ((¬ sz = (nI cap) → (¬ a1 < 0 ∧ ¬ (a1 + 1) < 0 ∧ ¬ (sz - a1) < 0 ∧ a1.toNatClampNeg + (sz - a1).toNatClampNeg ≤ cap ∧ (a1 + 1).toNatClampNeg + (sz - a1).toNatClampNeg ≤ cap ∧ g_el tw ef ∧ (vp_in a1 cap ∧ (Q cap (va_up (va_cpy ef ef a1.toNatClampNeg (a1 + 1).toNatClampNeg (sz - a1).toNatClampNeg) a1.toNatClampNeg (some x)) (sz + 1) (mc_ + 1))))) ∧ (sz = (nI cap) → (wp_J10_grow_O (mc_ + 1) sz ef cap tw (fun q_28 n_29 => (¬ a1 < 0 ∧ ¬ (a1 + 1) < 0 ∧ ¬ (sz - a1) < 0 ∧ a1.toNatClampNeg + (sz - a1).toNatClampNeg ≤ q_28 ∧ (a1 + 1).toNatClampNeg + (sz - a1).toNatClampNeg ≤ q_28 ∧ g_el tw n_29 ∧ (vp_in a1 q_28 ∧ (Q q_28 (va_up (va_cpy n_29 n_29 a1.toNatClampNeg (a1 + 1).toNatClampNeg (sz - a1).toNatClampNeg) a1.toNatClampNeg (some x)) (sz + 1) (mc_ + 1)))))))))
set_option maxHeartbeats 4000000 in
set_option maxRecDepth 100000 in
theorem met_J10_add_3_OT (l : Launch) (hl0 : l.stackTraces = false) (d : g_D) (ob : Nat) (a1 : Int32) (x : Nat) (mc_ : Int32) (ed : Nat) (sz : Int32) (ef : Nat → Option Nat) (cap : Nat) (tw : va_W) (hx : g_in tw x) (Q : Nat → (Nat → Option Nat) → Int32 → Int32 → Prop) (hw : wp_J10_add_3_OT a1 x mc_ sz ef cap tw Q) : g_Met l d yJ10_add_3 cJ10_add_3 5 none ({ frames := 5, cells := 1, slots := 22, locals := 119 } : Room) [.ref ob, .int a1, .ref x] [[(ob, .inr (11, [.int mc_, .ref ed, .int sz]))], [(ed, .inl (d.2.1 6, cap, .inr (.inr (.inr (.inr ef)))))], tw] 1 22 (fun v w1 => ∃ (ed2 : Nat) (cap2 : Nat) (ef2 : Nat → Option Nat) (sz2 : Int32) (mc2 : Int32), v = none ∧ w1 = [[(ob, .inr (11, [.int mc2, .ref ed2, .int sz2]))], [(ed2, .inl (d.2.1 6, cap2, .inr (.inr (.inr (.inr ef2)))))], tw] ∧ Q cap2 ef2 sz2 mc2) := by
  refine g_enter (by decide) (Nat.le_of_ble_eq_true rfl) ?_
  intro p e s m args below meth c A ls hF hH hl hin
  have hF : g_F p m c cJ10_add_3 5 s args RJ10 meth none := hF
  have hl : lv_has ls 5 [(0, .ref ob), (1, .int a1), (2, .ref x)] := hl
  unfold wp_J10_add_3_OT at hw
  refine lv_aload_n hF.1.1 hF.1.2.1 dJ10_add_3_0 rfl (lv_at hl 0 rfl) ?_
  refine lv_iload_n hF.1.1 hF.1.2.1 dJ10_add_3_1 rfl (lv_at hl 1 rfl) ?_
  refine g_cV [.int a1] 1 rfl hF (met_J10_rangeCheckForAdd l hl0 d ob a1 mc_ ed sz _ hw) q623 q625 qs13 q107 q626 rfl rfl (by decide +kernel) ⟨Nat.le_of_ble_eq_true rfl, Nat.le_of_ble_eq_true rfl⟩ hH [0] rfl rfl rfl 0 0 rfl rfl rfl hl.1 (Nat.le_of_ble_eq_true rfl) dJ10_add_3_2 ⟨(by first | exact Nat.le_of_ble_eq_true rfl | omega | (dsimp only; omega)), (by first | exact Nat.le_of_ble_eq_true rfl | omega | (dsimp only; omega))⟩ (fun v w1 H locs hq hH => ?_)
  obtain ⟨rfl, rfl, hw⟩ := hq
  have hH : g_HS d A s [[(ed, .inl (d.2.1 6, cap, .inr (.inr (.inr (.inr ef)))))], tw, [(ob, .inr (11, [.int mc_, .ref ed, .int sz]))]] H locs := hH
  refine W.eq (g2 := (F0 m 5 ls [])) rfl ?_
  refine lv_aload_n hF.1.1 hF.1.2.1 dJ10_add_3_5 rfl (lv_at hl 0 rfl) ?_
  refine lv_dup hF.1.1 hF.1.2.1 dJ10_add_3_6 rfl ?_
  refine g_get (v := .int mc_) hF hH in_J10 rfl 2 0 rfl rfl 0 (by decide) q433 (u_same (hF.1.2.2.2.2 _ q432)) rfl dJ10_add_3_7 ?_
  refine lv_iconst (v := 1) hF.1.1 hF.1.2.1 dJ10_add_3_10 (by decide) ?_
  refine lv_iadd hF.1.1 hF.1.2.1 dJ10_add_3_11 ?_
  refine g_put (cs' := [[(ed, .inl (d.2.1 6, cap, .inr (.inr (.inr (.inr ef)))))], tw, [(ob, .inr (11, [.int (mc_ + 1), .ref ed, .int sz]))]]) (ch' := [(ob, .inr (11, [.int (mc_ + 1), .ref ed, .int sz]))]) (ty := .int) hF hH in_J10 rfl tyJ10 tyJ10_ok nmJ10 2 0 rfl rfl 0 (by decide) q433 (u_same (hF.1.2.2.2.2 _ q432)) rfl (by decide +kernel) rfl rfl (Nat.le_of_ble_eq_true rfl) dJ10_add_3_12 rfl rfl (fun H locs hH => ?_)
  refine lv_aload_n hF.1.1 hF.1.2.1 dJ10_add_3_15 rfl (lv_at hl 0 rfl) ?_
  refine g_get (v := .int sz) hF hH in_J10 rfl 2 0 rfl rfl 2 (by decide) q429 (fun _ h9 => h9) rfl dJ10_add_3_16 ?_
  refine lv_dup hF.1.1 hF.1.2.1 dJ10_add_3_19 rfl ?_
  refine lv_istore_n (lv' := [(3, .int sz), (0, .ref ob), (1, .int a1), (2, .ref x)]) hF.1.1 hF.1.2.1 dJ10_add_3_20 rfl hl (by decide) rfl (fun ls hl => ?_)
  refine lv_aload_n hF.1.1 hF.1.2.1 dJ10_add_3_21 rfl (lv_at hl 1 rfl) ?_
  refine g_get (v := .ref ed) hF hH in_J10 rfl 2 0 rfl rfl 1 (by decide) q426 (fun _ h9 => h9) rfl dJ10_add_3_22 ?_
  refine lv_dup hF.1.1 hF.1.2.1 dJ10_add_3_25 rfl ?_
  refine lv_astore (lv' := [(4, .ref ed), (3, .int sz), (0, .ref ob), (1, .int a1), (2, .ref x)]) hF.1.1 hF.1.2.1 dJ10_add_3_26 hl (by decide) rfl (fun ls hl => ?_)
  refine g_alen (v := (nI cap)) (ty := .object "java/lang/Object") hF hH 0 0 6 rfl rfl rfl rfl dJ10_add_3_28 ?_
  refine lv_icmp_ne (tgt := 38) hF.1.1 hF.1.2.1 dJ10_add_3_29 (by decide) (fun c_19 => ?_) (fun c_19 => ?_)
  · have hw := hw.1 c_19
    refine lv_aload hF.1.1 hF.1.2.1 dJ10_add_3_38 (lv_at hl 0 rfl) ?_
    refine lv_iload_n hF.1.1 hF.1.2.1 dJ10_add_3_40 rfl (lv_at hl 3 rfl) ?_
    refine lv_aload hF.1.1 hF.1.2.1 dJ10_add_3_41 (lv_at hl 0 rfl) ?_
    refine lv_iload_n hF.1.1 hF.1.2.1 dJ10_add_3_43 rfl (lv_at hl 3 rfl) ?_
    refine lv_iconst (v := 1) hF.1.1 hF.1.2.1 dJ10_add_3_44 (by decide) ?_
    refine lv_iadd hF.1.1 hF.1.2.1 dJ10_add_3_45 ?_
    refine lv_iload_n hF.1.1 hF.1.2.1 dJ10_add_3_46 rfl (lv_at hl 1 rfl) ?_
    refine lv_iload_n hF.1.1 hF.1.2.1 dJ10_add_3_47 rfl (lv_at hl 3 rfl) ?_
    refine lv_isub hF.1.1 hF.1.2.1 dJ10_add_3_48 ?_
    obtain ⟨ha_20, ha_21, ha_22, ha_23, ha_24, he_25, hw⟩ := hw
    refine g_copyQ1 hF hH q627 hl.1 ha_20 ha_21 ha_22 ha_23 ha_24 (fun i9 hi9 y9 hy9 => g_anytw hH 1 rfl (he_25 _ _ hy9)) (Nat.le_of_ble_eq_true rfl) (Nat.le_of_ble_eq_true rfl) dJ10_add_3_49 (fun H locs hH => ?_)
    have hH : g_HS d A s [[(ed, .inl (d.2.1 6, cap, .inr (.inr (.inr (.inr (va_cpy ef ef a1.toNatClampNeg (a1 + 1).toNatClampNeg (sz - a1).toNatClampNeg))))))], tw, [(ob, .inr (11, [.int (mc_ + 1), .ref ed, .int sz]))]] H _ := hH
    refine lv_aload hF.1.1 hF.1.2.1 dJ10_add_3_52 (lv_at hl 0 rfl) ?_
    refine lv_iload_n hF.1.1 hF.1.2.1 dJ10_add_3_54 rfl (lv_at hl 3 rfl) ?_
    refine lv_aload_n hF.1.1 hF.1.2.1 dJ10_add_3_55 rfl (lv_at hl 4 rfl) ?_
    obtain ⟨hi_26, hw⟩ := hw
    refine g_aast (cs' := [[(ed, .inl (d.2.1 6, cap, .inr (.inr (.inr (.inr (va_up (va_cpy ef ef a1.toNatClampNeg (a1 + 1).toNatClampNeg (sz - a1).toNatClampNeg) a1.toNatClampNeg (some x)))))))], tw, [(ob, .inr (11, [.int (mc_ + 1), .ref ed, .int sz]))]]) (ch' := [(ed, .inl (d.2.1 6, cap, .inr (.inr (.inr (.inr (va_up (va_cpy ef ef a1.toNatClampNeg (a1 + 1).toNatClampNeg (sz - a1).toNatClampNeg) a1.toNatClampNeg (some x)))))))]) hF hH 0 0 rfl rfl (g_anytw hH 1 rfl hx) hi_26 dJ10_add_3_56 rfl rfl (fun H locs hH => ?_)
    refine lv_aload_n hF.1.1 hF.1.2.1 dJ10_add_3_57 rfl (lv_at hl 2 rfl) ?_
    refine lv_iload_n hF.1.1 hF.1.2.1 dJ10_add_3_58 rfl (lv_at hl 1 rfl) ?_
    refine lv_iconst (v := 1) hF.1.1 hF.1.2.1 dJ10_add_3_59 (by decide) ?_
    refine lv_iadd hF.1.1 hF.1.2.1 dJ10_add_3_60 ?_
    refine g_put (cs' := [[(ed, .inl (d.2.1 6, cap, .inr (.inr (.inr (.inr (va_up (va_cpy ef ef a1.toNatClampNeg (a1 + 1).toNatClampNeg (sz - a1).toNatClampNeg) a1.toNatClampNeg (some x)))))))], tw, [(ob, .inr (11, [.int (mc_ + 1), .ref ed, .int (sz + 1)]))]]) (ch' := [(ob, .inr (11, [.int (mc_ + 1), .ref ed, .int (sz + 1)]))]) (ty := .int) hF hH in_J10 rfl tyJ10 tyJ10_ok nmJ10 2 0 rfl rfl 2 (by decide) q429 (fun _ h9 => h9) rfl (by decide +kernel) rfl rfl (Nat.le_of_ble_eq_true rfl) dJ10_add_3_61 rfl rfl (fun H locs hH => ?_)
    refine W.widen (k := 1) (n := 22) (by first | exact Nat.le_of_ble_eq_true rfl | omega | (dsimp only; omega)) (by first | exact Nat.le_of_ble_eq_true rfl | omega | (dsimp only; omega)) ?_
    have hH := hH.sub (cs' := [[(ob, .inr (11, [.int (mc_ + 1), .ref ed, .int (sz + 1)]))], [(ed, .inl (d.2.1 6, cap, .inr (.inr (.inr (.inr (va_up (va_cpy ef ef a1.toNatClampNeg (a1 + 1).toNatClampNeg (sz - a1).toNatClampNeg) a1.toNatClampNeg (some x)))))))], tw]) [2, 0, 1] rfl rfl
    exact g_vret hF hH ⟨ed, cap, (va_up (va_cpy ef ef a1.toNatClampNeg (a1 + 1).toNatClampNeg (sz - a1).toNatClampNeg) a1.toNatClampNeg (some x)), (sz + 1), (mc_ + 1), rfl, rfl, hw⟩ dJ10_add_3_64
  · have hw := hw.2 c_19
    refine lv_aload_n hF.1.1 hF.1.2.1 dJ10_add_3_32 rfl (lv_at hl 2 rfl) ?_
    refine g_cV [] 0 rfl hF (met_J10_grow_O l hl0 d ob (mc_ + 1) ed sz ef cap tw _ hw) q538 q540 qs10 q107 q541 rfl rfl (by decide +kernel) ⟨Nat.le_of_ble_eq_true rfl, Nat.le_of_ble_eq_true rfl⟩ hH [2, 0, 1] rfl rfl rfl 0 0 rfl rfl rfl hl.1 (Nat.le_of_ble_eq_true rfl) dJ10_add_3_33 ⟨(by first | exact Nat.le_of_ble_eq_true rfl | omega | (dsimp only; omega)), (by first | exact Nat.le_of_ble_eq_true rfl | omega | (dsimp only; omega))⟩ (fun v w1 H locs hq hH => ?_)
    obtain ⟨q_27, q_28, n_29, rfl, rfl, hw⟩ := hq
    have hH : g_HS d A s [[(ob, .inr (11, [.int (mc_ + 1), .ref q_27, .int sz]))], tw, [(q_27, .inl (d.2.1 6, q_28, .inr (.inr (.inr (.inr n_29)))))]] H locs := hH
    refine W.eq (g2 := (F0 m 36 ls [.ref q_27])) rfl ?_
    refine W.widen (k := 1) (n := 22) (by first | exact Nat.le_of_ble_eq_true rfl | omega | (dsimp only; omega)) (by first | exact Nat.le_of_ble_eq_true rfl | omega | (dsimp only; omega)) ?_
    refine lv_astore (lv' := [(4, .ref q_27), (3, .int sz), (0, .ref ob), (1, .int a1), (2, .ref x)]) hF.1.1 hF.1.2.1 dJ10_add_3_36 hl (by decide) rfl (fun ls hl => ?_)
    refine lv_aload hF.1.1 hF.1.2.1 dJ10_add_3_38 (lv_at hl 0 rfl) ?_
    refine lv_iload_n hF.1.1 hF.1.2.1 dJ10_add_3_40 rfl (lv_at hl 3 rfl) ?_
    refine lv_aload hF.1.1 hF.1.2.1 dJ10_add_3_41 (lv_at hl 0 rfl) ?_
    refine lv_iload_n hF.1.1 hF.1.2.1 dJ10_add_3_43 rfl (lv_at hl 3 rfl) ?_
    refine lv_iconst (v := 1) hF.1.1 hF.1.2.1 dJ10_add_3_44 (by decide) ?_
    refine lv_iadd hF.1.1 hF.1.2.1 dJ10_add_3_45 ?_
    refine lv_iload_n hF.1.1 hF.1.2.1 dJ10_add_3_46 rfl (lv_at hl 1 rfl) ?_
    refine lv_iload_n hF.1.1 hF.1.2.1 dJ10_add_3_47 rfl (lv_at hl 3 rfl) ?_
    refine lv_isub hF.1.1 hF.1.2.1 dJ10_add_3_48 ?_
    have hH := hH.sub (cs' := [[(q_27, .inl (d.2.1 6, q_28, .inr (.inr (.inr (.inr n_29)))))], [(ob, .inr (11, [.int (mc_ + 1), .ref q_27, .int sz]))], tw]) [2, 0, 1] rfl rfl
    obtain ⟨ha_30, ha_31, ha_32, ha_33, ha_34, he_35, hw⟩ := hw
    refine g_copyQ1 hF hH q627 hl.1 ha_30 ha_31 ha_32 ha_33 ha_34 (fun i9 hi9 y9 hy9 => g_anytw hH 2 rfl (he_35 _ _ hy9)) (Nat.le_of_ble_eq_true rfl) (Nat.le_of_ble_eq_true rfl) dJ10_add_3_49 (fun H locs hH => ?_)
    have hH : g_HS d A s [[(q_27, .inl (d.2.1 6, q_28, .inr (.inr (.inr (.inr (va_cpy n_29 n_29 a1.toNatClampNeg (a1 + 1).toNatClampNeg (sz - a1).toNatClampNeg))))))], [(ob, .inr (11, [.int (mc_ + 1), .ref q_27, .int sz]))], tw] H _ := hH
    refine lv_aload hF.1.1 hF.1.2.1 dJ10_add_3_52 (lv_at hl 0 rfl) ?_
    refine lv_iload_n hF.1.1 hF.1.2.1 dJ10_add_3_54 rfl (lv_at hl 3 rfl) ?_
    refine lv_aload_n hF.1.1 hF.1.2.1 dJ10_add_3_55 rfl (lv_at hl 4 rfl) ?_
    obtain ⟨hi_36, hw⟩ := hw
    refine g_aast (cs' := [[(q_27, .inl (d.2.1 6, q_28, .inr (.inr (.inr (.inr (va_up (va_cpy n_29 n_29 a1.toNatClampNeg (a1 + 1).toNatClampNeg (sz - a1).toNatClampNeg) a1.toNatClampNeg (some x)))))))], [(ob, .inr (11, [.int (mc_ + 1), .ref q_27, .int sz]))], tw]) (ch' := [(q_27, .inl (d.2.1 6, q_28, .inr (.inr (.inr (.inr (va_up (va_cpy n_29 n_29 a1.toNatClampNeg (a1 + 1).toNatClampNeg (sz - a1).toNatClampNeg) a1.toNatClampNeg (some x)))))))]) hF hH 0 0 rfl rfl (g_anytw hH 2 rfl hx) hi_36 dJ10_add_3_56 rfl rfl (fun H locs hH => ?_)
    refine lv_aload_n hF.1.1 hF.1.2.1 dJ10_add_3_57 rfl (lv_at hl 2 rfl) ?_
    refine lv_iload_n hF.1.1 hF.1.2.1 dJ10_add_3_58 rfl (lv_at hl 1 rfl) ?_
    refine lv_iconst (v := 1) hF.1.1 hF.1.2.1 dJ10_add_3_59 (by decide) ?_
    refine lv_iadd hF.1.1 hF.1.2.1 dJ10_add_3_60 ?_
    refine g_put (cs' := [[(q_27, .inl (d.2.1 6, q_28, .inr (.inr (.inr (.inr (va_up (va_cpy n_29 n_29 a1.toNatClampNeg (a1 + 1).toNatClampNeg (sz - a1).toNatClampNeg) a1.toNatClampNeg (some x)))))))], [(ob, .inr (11, [.int (mc_ + 1), .ref q_27, .int (sz + 1)]))], tw]) (ch' := [(ob, .inr (11, [.int (mc_ + 1), .ref q_27, .int (sz + 1)]))]) (ty := .int) hF hH in_J10 rfl tyJ10 tyJ10_ok nmJ10 1 0 rfl rfl 2 (by decide) q429 (fun _ h9 => h9) rfl (by decide +kernel) rfl rfl (Nat.le_of_ble_eq_true rfl) dJ10_add_3_61 rfl rfl (fun H locs hH => ?_)
    have hH := hH.sub (cs' := [[(ob, .inr (11, [.int (mc_ + 1), .ref q_27, .int (sz + 1)]))], [(q_27, .inl (d.2.1 6, q_28, .inr (.inr (.inr (.inr (va_up (va_cpy n_29 n_29 a1.toNatClampNeg (a1 + 1).toNatClampNeg (sz - a1).toNatClampNeg) a1.toNatClampNeg (some x)))))))], tw]) [1, 0, 2] rfl rfl
    exact g_vret hF hH ⟨q_27, q_28, (va_up (va_cpy n_29 n_29 a1.toNatClampNeg (a1 + 1).toNatClampNeg (sz - a1).toNatClampNeg) a1.toNatClampNeg (some x)), (sz + 1), (mc_ + 1), rfl, rfl, hw⟩ dJ10_add_3_64

def wp_J10_add_3_ET (a1 : Int32) (x : Nat) (mc_ : Int32) (tw : va_W) (Q : Nat → (Nat → Option Nat) → Int32 → Int32 → Prop) : Prop := (wp_J10_rangeCheckForAdd a1 mc_ 0 (wp_J10_grow_E (mc_ + 1) (fun q_12 n_13 => (¬ a1 < 0 ∧ ¬ (a1 + 1) < 0 ∧ ¬ (0 - a1) < 0 ∧ a1.toNatClampNeg + (0 - a1).toNatClampNeg ≤ q_12 ∧ (a1 + 1).toNatClampNeg + (0 - a1).toNatClampNeg ≤ q_12 ∧ g_el tw n_13 ∧ (vp_in a1 q_12 ∧ (Q q_12 (va_up (va_cpy n_13 n_13 a1.toNatClampNeg (a1 + 1).toNatClampNeg (0 - a1).toNatClampNeg) a1.toNatClampNeg (some x)) ((0 : Int32) + 1) (mc_ + 1)))))))
set_option maxHeartbeats 4000000 in
set_option maxRecDepth 100000 in
theorem met_J10_add_3_ET (l : Launch) (hl0 : l.stackTraces = false) (d : g_D) (ob : Nat) (a1 : Int32) (x : Nat) (mc_ : Int32) (tw : va_W) (hx : g_in tw x) (Q : Nat → (Nat → Option Nat) → Int32 → Int32 → Prop) (hw : wp_J10_add_3_ET a1 x mc_ tw Q) : g_Met l d yJ10_add_3 cJ10_add_3 5 none ({ frames := 5, cells := 1, slots := 22, locals := 119 } : Room) [.ref ob, .int a1, .ref x] [[(ob, .inr (11, [.int mc_, .ref (d.2.2 4), .int 0]))], tw] 1 22 (fun v w1 => ∃ (ed2 : Nat) (cap2 : Nat) (ef2 : Nat → Option Nat) (sz2 : Int32) (mc2 : Int32), v = none ∧ w1 = [[(ob, .inr (11, [.int mc2, .ref ed2, .int sz2]))], [(ed2, .inl (d.2.1 6, cap2, .inr (.inr (.inr (.inr ef2)))))], tw] ∧ Q cap2 ef2 sz2 mc2) := by
  refine g_enter (by decide) (Nat.le_of_ble_eq_true rfl) ?_
  intro p e s m args below meth c A ls hF hH hl hin
  have hF : g_F p m c cJ10_add_3 5 s args RJ10 meth none := hF
  have hl : lv_has ls 5 [(0, .ref ob), (1, .int a1), (2, .ref x)] := hl
  unfold wp_J10_add_3_ET at hw
  refine lv_aload_n hF.1.1 hF.1.2.1 dJ10_add_3_0 rfl (lv_at hl 0 rfl) ?_
  refine lv_iload_n hF.1.1 hF.1.2.1 dJ10_add_3_1 rfl (lv_at hl 1 rfl) ?_
  refine g_cV [.int a1] 1 rfl hF (met_J10_rangeCheckForAdd l hl0 d ob a1 mc_ (d.2.2 4) 0 _ hw) q623 q625 qs13 q107 q626 rfl rfl (by decide +kernel) ⟨Nat.le_of_ble_eq_true rfl, Nat.le_of_ble_eq_true rfl⟩ hH [0] rfl rfl rfl 0 0 rfl rfl rfl hl.1 (Nat.le_of_ble_eq_true rfl) dJ10_add_3_2 ⟨(by first | exact Nat.le_of_ble_eq_true rfl | omega | (dsimp only; omega)), (by first | exact Nat.le_of_ble_eq_true rfl | omega | (dsimp only; omega))⟩ (fun v w1 H locs hq hH => ?_)
  obtain ⟨rfl, rfl, hw⟩ := hq
  have hH : g_HS d A s [tw, [(ob, .inr (11, [.int mc_, .ref (d.2.2 4), .int 0]))]] H locs := hH
  refine W.eq (g2 := (F0 m 5 ls [])) rfl ?_
  refine lv_aload_n hF.1.1 hF.1.2.1 dJ10_add_3_5 rfl (lv_at hl 0 rfl) ?_
  refine lv_dup hF.1.1 hF.1.2.1 dJ10_add_3_6 rfl ?_
  refine g_get (v := .int mc_) hF hH in_J10 rfl 1 0 rfl rfl 0 (by decide) q433 (u_same (hF.1.2.2.2.2 _ q432)) rfl dJ10_add_3_7 ?_
  refine lv_iconst (v := 1) hF.1.1 hF.1.2.1 dJ10_add_3_10 (by decide) ?_
  refine lv_iadd hF.1.1 hF.1.2.1 dJ10_add_3_11 ?_
  refine g_put (cs' := [tw, [(ob, .inr (11, [.int (mc_ + 1), .ref (d.2.2 4), .int 0]))]]) (ch' := [(ob, .inr (11, [.int (mc_ + 1), .ref (d.2.2 4), .int 0]))]) (ty := .int) hF hH in_J10 rfl tyJ10 tyJ10_ok nmJ10 1 0 rfl rfl 0 (by decide) q433 (u_same (hF.1.2.2.2.2 _ q432)) rfl (by decide +kernel) rfl rfl (Nat.le_of_ble_eq_true rfl) dJ10_add_3_12 rfl rfl (fun H locs hH => ?_)
  refine lv_aload_n hF.1.1 hF.1.2.1 dJ10_add_3_15 rfl (lv_at hl 0 rfl) ?_
  refine g_get (v := .int 0) hF hH in_J10 rfl 1 0 rfl rfl 2 (by decide) q429 (fun _ h9 => h9) rfl dJ10_add_3_16 ?_
  refine lv_dup hF.1.1 hF.1.2.1 dJ10_add_3_19 rfl ?_
  refine lv_istore_n (lv' := [(3, .int 0), (0, .ref ob), (1, .int a1), (2, .ref x)]) hF.1.1 hF.1.2.1 dJ10_add_3_20 rfl hl (by decide) rfl (fun ls hl => ?_)
  refine lv_aload_n hF.1.1 hF.1.2.1 dJ10_add_3_21 rfl (lv_at hl 1 rfl) ?_
  refine g_get (v := .ref (d.2.2 4)) hF hH in_J10 rfl 1 0 rfl rfl 1 (by decide) q426 (fun _ h9 => h9) rfl dJ10_add_3_22 ?_
  refine lv_dup hF.1.1 hF.1.2.1 dJ10_add_3_25 rfl ?_
  refine lv_astore (lv' := [(4, .ref (d.2.2 4)), (3, .int 0), (0, .ref ob), (1, .int a1), (2, .ref x)]) hF.1.1 hF.1.2.1 dJ10_add_3_26 hl (by decide) rfl (fun ls hl => ?_)
  refine g_tlen hF hH dJ10_add_3_28 ?_
  refine lv_icmp_ne (tgt := 38) hF.1.1 hF.1.2.1 dJ10_add_3_29 (by decide) (fun z => absurd z (by decide)) (fun _ => ?_)
  refine lv_aload_n hF.1.1 hF.1.2.1 dJ10_add_3_32 rfl (lv_at hl 2 rfl) ?_
  refine g_cV [] 0 rfl hF (met_J10_grow_E l hl0 d ob (mc_ + 1) _ hw) q538 q540 qs10 q107 q541 rfl rfl (by decide +kernel) ⟨Nat.le_of_ble_eq_true rfl, Nat.le_of_ble_eq_true rfl⟩ hH [1] rfl rfl rfl 0 0 rfl rfl rfl hl.1 (Nat.le_of_ble_eq_true rfl) dJ10_add_3_33 ⟨(by first | exact Nat.le_of_ble_eq_true rfl | omega | (dsimp only; omega)), (by first | exact Nat.le_of_ble_eq_true rfl | omega | (dsimp only; omega))⟩ (fun v w1 H locs hq hH => ?_)
  obtain ⟨q_11, q_12, n_13, rfl, rfl, hw⟩ := hq
  have hH : g_HS d A s [tw, [(ob, .inr (11, [.int (mc_ + 1), .ref q_11, .int 0]))], [(q_11, .inl (d.2.1 6, q_12, .inr (.inr (.inr (.inr n_13)))))]] H locs := hH
  refine W.eq (g2 := (F0 m 36 ls [.ref q_11])) rfl ?_
  refine W.widen (k := 1) (n := 22) (by first | exact Nat.le_of_ble_eq_true rfl | omega | (dsimp only; omega)) (by first | exact Nat.le_of_ble_eq_true rfl | omega | (dsimp only; omega)) ?_
  refine lv_astore (lv' := [(4, .ref q_11), (3, .int 0), (0, .ref ob), (1, .int a1), (2, .ref x)]) hF.1.1 hF.1.2.1 dJ10_add_3_36 hl (by decide) rfl (fun ls hl => ?_)
  refine lv_aload hF.1.1 hF.1.2.1 dJ10_add_3_38 (lv_at hl 0 rfl) ?_
  refine lv_iload_n hF.1.1 hF.1.2.1 dJ10_add_3_40 rfl (lv_at hl 3 rfl) ?_
  refine lv_aload hF.1.1 hF.1.2.1 dJ10_add_3_41 (lv_at hl 0 rfl) ?_
  refine lv_iload_n hF.1.1 hF.1.2.1 dJ10_add_3_43 rfl (lv_at hl 3 rfl) ?_
  refine lv_iconst (v := 1) hF.1.1 hF.1.2.1 dJ10_add_3_44 (by decide) ?_
  refine lv_iadd hF.1.1 hF.1.2.1 dJ10_add_3_45 ?_
  refine lv_iload_n hF.1.1 hF.1.2.1 dJ10_add_3_46 rfl (lv_at hl 1 rfl) ?_
  refine lv_iload_n hF.1.1 hF.1.2.1 dJ10_add_3_47 rfl (lv_at hl 3 rfl) ?_
  refine lv_isub hF.1.1 hF.1.2.1 dJ10_add_3_48 ?_
  have hH := hH.sub (cs' := [[(q_11, .inl (d.2.1 6, q_12, .inr (.inr (.inr (.inr n_13)))))], tw, [(ob, .inr (11, [.int (mc_ + 1), .ref q_11, .int 0]))]]) [2, 0, 1] rfl rfl
  obtain ⟨ha_14, ha_15, ha_16, ha_17, ha_18, he_19, hw⟩ := hw
  refine g_copyQ1 hF hH q627 hl.1 ha_14 ha_15 ha_16 ha_17 ha_18 (fun i9 hi9 y9 hy9 => g_anytw hH 1 rfl (he_19 _ _ hy9)) (Nat.le_of_ble_eq_true rfl) (Nat.le_of_ble_eq_true rfl) dJ10_add_3_49 (fun H locs hH => ?_)
  have hH : g_HS d A s [[(q_11, .inl (d.2.1 6, q_12, .inr (.inr (.inr (.inr (va_cpy n_13 n_13 a1.toNatClampNeg (a1 + 1).toNatClampNeg (0 - a1).toNatClampNeg))))))], tw, [(ob, .inr (11, [.int (mc_ + 1), .ref q_11, .int 0]))]] H _ := hH
  refine lv_aload hF.1.1 hF.1.2.1 dJ10_add_3_52 (lv_at hl 0 rfl) ?_
  refine lv_iload_n hF.1.1 hF.1.2.1 dJ10_add_3_54 rfl (lv_at hl 3 rfl) ?_
  refine lv_aload_n hF.1.1 hF.1.2.1 dJ10_add_3_55 rfl (lv_at hl 4 rfl) ?_
  obtain ⟨hi_20, hw⟩ := hw
  refine g_aast (cs' := [[(q_11, .inl (d.2.1 6, q_12, .inr (.inr (.inr (.inr (va_up (va_cpy n_13 n_13 a1.toNatClampNeg (a1 + 1).toNatClampNeg (0 - a1).toNatClampNeg) a1.toNatClampNeg (some x)))))))], tw, [(ob, .inr (11, [.int (mc_ + 1), .ref q_11, .int 0]))]]) (ch' := [(q_11, .inl (d.2.1 6, q_12, .inr (.inr (.inr (.inr (va_up (va_cpy n_13 n_13 a1.toNatClampNeg (a1 + 1).toNatClampNeg (0 - a1).toNatClampNeg) a1.toNatClampNeg (some x)))))))]) hF hH 0 0 rfl rfl (g_anytw hH 1 rfl hx) hi_20 dJ10_add_3_56 rfl rfl (fun H locs hH => ?_)
  refine lv_aload_n hF.1.1 hF.1.2.1 dJ10_add_3_57 rfl (lv_at hl 2 rfl) ?_
  refine lv_iload_n hF.1.1 hF.1.2.1 dJ10_add_3_58 rfl (lv_at hl 1 rfl) ?_
  refine lv_iconst (v := 1) hF.1.1 hF.1.2.1 dJ10_add_3_59 (by decide) ?_
  refine lv_iadd hF.1.1 hF.1.2.1 dJ10_add_3_60 ?_
  refine g_put (cs' := [[(q_11, .inl (d.2.1 6, q_12, .inr (.inr (.inr (.inr (va_up (va_cpy n_13 n_13 a1.toNatClampNeg (a1 + 1).toNatClampNeg (0 - a1).toNatClampNeg) a1.toNatClampNeg (some x)))))))], tw, [(ob, .inr (11, [.int (mc_ + 1), .ref q_11, .int ((0 : Int32) + 1)]))]]) (ch' := [(ob, .inr (11, [.int (mc_ + 1), .ref q_11, .int ((0 : Int32) + 1)]))]) (ty := .int) hF hH in_J10 rfl tyJ10 tyJ10_ok nmJ10 2 0 rfl rfl 2 (by decide) q429 (fun _ h9 => h9) rfl (by decide +kernel) rfl rfl (Nat.le_of_ble_eq_true rfl) dJ10_add_3_61 rfl rfl (fun H locs hH => ?_)
  have hH := hH.sub (cs' := [[(ob, .inr (11, [.int (mc_ + 1), .ref q_11, .int ((0 : Int32) + 1)]))], [(q_11, .inl (d.2.1 6, q_12, .inr (.inr (.inr (.inr (va_up (va_cpy n_13 n_13 a1.toNatClampNeg (a1 + 1).toNatClampNeg (0 - a1).toNatClampNeg) a1.toNatClampNeg (some x)))))))], tw]) [2, 0, 1] rfl rfl
  exact g_vret hF hH ⟨q_11, q_12, (va_up (va_cpy n_13 n_13 a1.toNatClampNeg (a1 + 1).toNatClampNeg (0 - a1).toNatClampNeg) a1.toNatClampNeg (some x)), ((0 : Int32) + 1), (mc_ + 1), rfl, rfl, hw⟩ dJ10_add_3_64
