def wb_X0_grow_B_33 (PR : Nat → Int32 → Int32 → (Nat → Int32) → (g_TC → Prop) → Prop) (a1 : Int32) (n : Int32) (near : Nat → Int32) (Q : g_TC → Prop) : Nat → Int32 → g_TC → Nat → Prop
  | 0, _, _, _ => False
  | fu + 1, x3, v_n_5, kl => ((x3 = 0 → (Q v_n_5)) ∧ (¬ x3 = 0 → (a1.toNatClampNeg ∈ v_n_5.1 ∧ v_n_5.2.2.1 a1.toNatClampNeg ≠ 0 ∧ (wp_X0_lowest x3 (fun r_35 => (wp_X0_childOf a1 (v_n_5.2.2.1 a1.toNatClampNeg) r_35 n near (fun r_36 => (∃ k_37, k_37 + 2 ≤ kl ∧ (PR k_37 r_36 n near (fun n_42 => (a1.toNatClampNeg ∈ v_n_5.1 ∧ v_n_5.2.2.1 a1.toNatClampNeg ≠ 0 ∧ (wp_X7_add_T a1.toNatClampNeg r_36.toNatClampNeg v_n_5 n_42 (fun n_46 => (wb_X0_grow_B_33 PR a1 n near Q fu) (x3 &&& (r_36 ^^^ (-1))) n_46 (kl - (k_37 + 1)))))))))))))))
def wp_X0_grow_B (PR : Nat → Int32 → Int32 → (Nat → Int32) → (g_TC → Prop) → Prop) (kb : Nat) (a1 : Int32) (n : Int32) (near : Nat → Int32) (Q : g_TC → Prop) : Prop := (1 ≤ kb ∧ (wp_J7_bitCount a1 (fun r_48 => ((¬ r_48 = 1 → (wp_X0_kindOf a1 n near (fun q_51 => (wp_X7_init_T a1 q_51 (fun n_55 => (∃ f33, wb_X0_grow_B_33 PR a1 n near Q f33 a1 n_55 kb)))))) ∧ (r_48 = 1 → (wp_X6_init_T a1 (fun n_62 => (Q n_62))))))))
set_option maxHeartbeats 4000000 in
set_option maxRecDepth 100000 in
theorem met_X0_grow_B (l : Launch) (hl0 : l.stackTraces = false) (d : g_D) (D : Nat) (PR : Nat → Int32 → Int32 → (Nat → Int32) → (g_TC → Prop) → Prop) (kb : Nat) (gA : Nat) (a1 : Int32) (n : Int32) (gB : Nat) (near : Nat → Int32) (hPR : ∀ (kb : Nat) (gA : Nat) (a1 : Int32) (n : Int32) (gB : Nat) (near : Nat → Int32) (Q : g_TC → Prop), PR kb a1 n near Q → g_Met l d yX0_grow cX0_grow 5 (Option.some (FieldType.object "GraphModules$Tree")) ({ frames := 2 * D + 30, cells := 3 * kb, slots := 40 * kb, locals := 300 * D + 800 } : Room) [.ref gA, .int a1] [[(gA, .inr (2, [.int n, .ref gB]))], [(gB, .inl (d.2.1 0, 10, .inl near))]] (3 * kb) (40 * kb) (fun v w1 => ∃ (vn : Nat → Nat) (vl : Nat → Nat) (vr : Nat → Nat) (vc : g_TC), v = some (.ref (vn a1.toNatClampNeg)) ∧ w1 = [[(gA, .inr (2, [.int n, .ref gB]))], [(gB, .inl (d.2.1 0, 10, .inl near))], (g_T d vn vl vr vc)] ∧ Q vc)) (Q : g_TC → Prop) (hw : wp_X0_grow_B PR kb a1 n near Q) : g_Met l d yX0_grow cX0_grow 5 (Option.some (FieldType.object "GraphModules$Tree")) ({ frames := 2 * (D + 1) + 30, cells := 3 * kb, slots := 40 * kb, locals := 300 * (D + 1) + 800 } : Room) [.ref gA, .int a1] [[(gA, .inr (2, [.int n, .ref gB]))], [(gB, .inl (d.2.1 0, 10, .inl near))]] (3 * kb) (40 * kb) (fun v w1 => ∃ (vn : Nat → Nat) (vl : Nat → Nat) (vr : Nat → Nat) (vc : g_TC), v = some (.ref (vn a1.toNatClampNeg)) ∧ w1 = [[(gA, .inr (2, [.int n, .ref gB]))], [(gB, .inl (d.2.1 0, 10, .inl near))], (g_T d vn vl vr vc)] ∧ Q vc) := by
  refine g_enter (by decide) (Nat.le_of_ble_eq_true rfl) ?_
  intro p e s m args below meth c A ls hF hH hl hin
  have hF : g_F p m c cX0_grow 5 s args RX0 meth (Option.some (FieldType.object "GraphModules$Tree")) := hF
  have hl : lv_has ls 5 [(0, .ref gA), (1, .int a1)] := hl
  have bk_33 : ∀ (fu : Nat) (n_5 : Nat → Nat) (n_6 : Nat → Nat) (n_7 : Nat → Nat) (x3 : Int32) (v_n_5 : g_TC) (kl : Nat) (hkl : 1 ≤ kl ∧ kl ≤ kb) (H : Heap) (locs : List Loc) (ls : Array Slot), g_HS d A s [[(gA, .inr (2, [.int n, .ref gB]))], [(gB, .inl (d.2.1 0, 10, .inl near))], (g_T d n_5 n_6 n_7 v_n_5)] H locs → lv_has ls 5 [(0, .ref gA), (1, .int a1), (2, .ref (n_5 a1.toNatClampNeg)), (3, .int x3)] → wb_X0_grow_B_33 PR a1 n near Q fu x3 v_n_5 kl → W p l e ({ frames := 2 * (D + 1) + 30, cells := 3 * kb, slots := 40 * kb, locals := 300 * (D + 1) + 800 } : Room) s m args below meth c H locs ((3 * (kb - kl)) + 2) ((40 * (kb - kl)) + 22) (g_E d (fun v w1 => ∃ (vn : Nat → Nat) (vl : Nat → Nat) (vr : Nat → Nat) (vc : g_TC), v = some (.ref (vn a1.toNatClampNeg)) ∧ w1 = [[(gA, .inr (2, [.int n, .ref gB]))], [(gB, .inl (d.2.1 0, 10, .inl near))], (g_T d vn vl vr vc)] ∧ Q vc) A below args s (3 * kb) (40 * kb)) (F0 m 33 ls []) := by
    intro fu
    induction fu with
    | zero => intro n_5 n_6 n_7 x3 v_n_5 kl hkl H locs ls hH hl hw; rw [wb_X0_grow_B_33] at hw; exact hw.elim
    | succ fu ih =>
      intro n_5 n_6 n_7 x3 v_n_5 kl hkl H locs ls hH hl hw
      rw [wb_X0_grow_B_33] at hw
      refine lv_iload_n hF.1.1 hF.1.2.1 dX0_grow_33 rfl (lv_at hl 3 rfl) ?_
      refine lv_if_eq (tgt := 72) hF.1.1 hF.1.2.1 dX0_grow_34 (by decide) (fun c_32 => ?_) (fun c_32 => ?_)
      · have hw := hw.1 c_32
        refine lv_aload_n hF.1.1 hF.1.2.1 dX0_grow_72 rfl (lv_at hl 2 rfl) ?_
        refine W.widen (k := (3 * kb)) (n := (40 * kb)) (by first | exact Nat.le_of_ble_eq_true rfl | omega | (dsimp only; omega)) (by first | exact Nat.le_of_ble_eq_true rfl | omega | (dsimp only; omega)) ?_
        exact g_aret hF (Or.inl ⟨_, rfl⟩) (Or.inr ⟨_, rfl⟩) hH ⟨n_5, n_6, n_7, v_n_5, rfl, rfl, hw⟩ dX0_grow_73
      · have hw := hw.2 c_32
        refine lv_aload_n hF.1.1 hF.1.2.1 dX0_grow_37 rfl (lv_at hl 0 rfl) ?_
        refine lv_iload_n hF.1.1 hF.1.2.1 dX0_grow_38 rfl (lv_at hl 1 rfl) ?_
        refine lv_aload_n hF.1.1 hF.1.2.1 dX0_grow_39 rfl (lv_at hl 2 rfl) ?_
        obtain ⟨hk_33, hk_34, hw⟩ := hw
        refine g_tkdN hF hH 2 rfl hk_33 hk_34 q502 dX0_grow_40 ?_
        refine lv_iload_n hF.1.1 hF.1.2.1 dX0_grow_43 rfl (lv_at hl 3 rfl) ?_
        refine g_cS [.int x3] 1 rfl hF (met_X0_lowest l hl0 d x3 _ hw) q477 q478 q92 q479 rfl rfl (by decide +kernel) ⟨(by first | exact Nat.le_of_ble_eq_true rfl | (dsimp only; omega)), (by first | exact Nat.le_of_ble_eq_true rfl | (dsimp only; omega))⟩ hH [] rfl rfl rfl hl.1 (by first | exact Nat.le_of_ble_eq_true rfl | (dsimp only; omega)) dX0_grow_44 ⟨(by first | exact Nat.le_of_ble_eq_true rfl | omega | (dsimp only; omega)), (by first | exact Nat.le_of_ble_eq_true rfl | omega | (dsimp only; omega))⟩ (fun v w1 H locs hq hH => ?_)
        obtain ⟨r_35, rfl, rfl, hw⟩ := hq
        have hH : g_HS d A s [[(gA, .inr (2, [.int n, .ref gB]))], [(gB, .inl (d.2.1 0, 10, .inl near))], (g_T d n_5 n_6 n_7 v_n_5)] H locs := hH
        refine W.eq (g2 := (F0 m 47 ls [.int r_35, .ref (d.2.2 (v_n_5.2.2.1 a1.toNatClampNeg)), .int a1, .ref gA])) rfl ?_
        refine g_cS [.ref gA, .int a1, .ref (d.2.2 (v_n_5.2.2.1 a1.toNatClampNeg)), .int r_35] 4 rfl hF (met_X0_childOf l hl0 d gA a1 (v_n_5.2.2.1 a1.toNatClampNeg) r_35 n gB near _ hw) q513 q514 q92 q515 rfl rfl (by decide +kernel) ⟨(by first | exact Nat.le_of_ble_eq_true rfl | (dsimp only; omega)), (by first | exact Nat.le_of_ble_eq_true rfl | (dsimp only; omega))⟩ hH [0, 1] rfl rfl rfl hl.1 (by first | exact Nat.le_of_ble_eq_true rfl | (dsimp only; omega)) dX0_grow_47 ⟨(by first | exact Nat.le_of_ble_eq_true rfl | omega | (dsimp only; omega)), (by first | exact Nat.le_of_ble_eq_true rfl | omega | (dsimp only; omega))⟩ (fun v w1 H locs hq hH => ?_)
        obtain ⟨r_36, rfl, rfl, hw⟩ := hq
        have hH : g_HS d A s [(g_T d n_5 n_6 n_7 v_n_5), [(gA, .inr (2, [.int n, .ref gB]))], [(gB, .inl (d.2.1 0, 10, .inl near))]] H locs := hH
        refine W.eq (g2 := (F0 m 50 ls [.int r_36])) rfl ?_
        refine lv_istore (lv' := [(4, .int r_36), (0, .ref gA), (1, .int a1), (2, .ref (n_5 a1.toNatClampNeg)), (3, .int x3)]) hF.1.1 hF.1.2.1 dX0_grow_50 hl (by decide) rfl (fun ls hl => ?_)
        refine lv_aload_n hF.1.1 hF.1.2.1 dX0_grow_52 rfl (lv_at hl 3 rfl) ?_
        refine lv_aload_n hF.1.1 hF.1.2.1 dX0_grow_53 rfl (lv_at hl 1 rfl) ?_
        refine lv_iload hF.1.1 hF.1.2.1 dX0_grow_54 (lv_at hl 0 rfl) ?_
        obtain ⟨k_37, hk_38, hw⟩ := hw
        refine g_cS [.ref gA, .int r_36] 2 rfl hF (hPR k_37 gA r_36 n gB near _ hw) q525 q448 q92 q449 rfl rfl (by decide +kernel) ⟨(by first | exact Nat.le_of_ble_eq_true rfl | (dsimp only; omega)), (by first | exact Nat.le_of_ble_eq_true rfl | (dsimp only; omega))⟩ hH [1, 2] rfl rfl rfl hl.1 (by first | exact Nat.le_of_ble_eq_true rfl | (dsimp only; omega)) dX0_grow_56 ⟨(by first | exact Nat.le_of_ble_eq_true rfl | omega | (dsimp only; omega)), (by first | exact Nat.le_of_ble_eq_true rfl | omega | (dsimp only; omega))⟩ (fun v w1 H locs hq hH => ?_)
        obtain ⟨n_39, n_40, n_41, n_42, rfl, rfl, hw⟩ := hq
        have hH : g_HS d A s [(g_T d n_5 n_6 n_7 v_n_5), [(gA, .inr (2, [.int n, .ref gB]))], [(gB, .inl (d.2.1 0, 10, .inl near))], (g_T d n_39 n_40 n_41 n_42)] H locs := hH
        refine W.eq (g2 := (F0 m 59 ls [.ref (n_39 r_36.toNatClampNeg), .ref (n_5 a1.toNatClampNeg)])) rfl ?_
        refine W.widen (k := (3 * (kb - (kl - (k_37 + 1))))) (n := (40 * (kb - (kl - (k_37 + 1))))) (by first | exact Nat.le_of_ble_eq_true rfl | omega | (dsimp only; omega)) (by first | exact Nat.le_of_ble_eq_true rfl | omega | (dsimp only; omega)) ?_
        obtain ⟨hk_C, hk_D, hw⟩ := hw
        refine g_cVr [.ref (n_39 r_36.toNatClampNeg)] 1 rfl hF (met_X7_add_T l hl0 d a1.toNatClampNeg r_36.toNatClampNeg n_5 n_6 n_7 v_n_5 n_39 n_40 n_41 n_42 _ hw) q526 q527 q528 q110 q529 rfl rfl (by decide +kernel) ⟨(by first | exact Nat.le_of_ble_eq_true rfl | (dsimp only; omega)), (by first | exact Nat.le_of_ble_eq_true rfl | (dsimp only; omega))⟩ hH [0, 3] rfl rfl rfl (g_trecI hH 0 rfl hk_C hk_D) hl.1 (by first | exact Nat.le_of_ble_eq_true rfl | (dsimp only; omega)) dX0_grow_59 ⟨(by first | exact Nat.le_of_ble_eq_true rfl | omega | (dsimp only; omega)), (by first | exact Nat.le_of_ble_eq_true rfl | omega | (dsimp only; omega))⟩ (fun v w1 H locs hq hH => ?_)
        obtain ⟨n_43, n_44, n_45, n_46, hf_47, rfl, rfl, hw⟩ := hq
        have hH : g_HS d A s [[(gA, .inr (2, [.int n, .ref gB]))], [(gB, .inl (d.2.1 0, 10, .inl near))], (g_T d n_43 n_44 n_45 n_46)] H locs := hH
        refine W.eq (g2 := (F0 m 62 ls [])) (by first | rfl | (rw [hf_47]; rfl) | (rw [hf_47])) ?_
        have hl : lv_has ls 5 [(4, .int r_36), (0, .ref gA), (1, .int a1), (2, .ref (n_43 a1.toNatClampNeg)), (3, .int x3)] := by rw [hf_47] at hl; exact hl
        refine W.widen (k := ((3 * (kb - (kl - (k_37 + 1)))) + 1)) (n := ((40 * (kb - (kl - (k_37 + 1)))) + 22)) (by first | exact Nat.le_of_ble_eq_true rfl | omega | (dsimp only; omega)) (by first | exact Nat.le_of_ble_eq_true rfl | omega | (dsimp only; omega)) ?_
        refine lv_iload_n hF.1.1 hF.1.2.1 dX0_grow_62 rfl (lv_at hl 4 rfl) ?_
        refine lv_iload hF.1.1 hF.1.2.1 dX0_grow_63 (lv_at hl 0 rfl) ?_
        refine lv_iconst (v := (-1)) hF.1.1 hF.1.2.1 dX0_grow_65 (by decide) ?_
        refine lv_ixor hF.1.1 hF.1.2.1 dX0_grow_66 ?_
        refine lv_iand hF.1.1 hF.1.2.1 dX0_grow_67 ?_
        refine lv_istore_n (lv' := [(3, .int (x3 &&& (r_36 ^^^ (-1)))), (4, .int r_36), (0, .ref gA), (1, .int a1), (2, .ref (n_43 a1.toNatClampNeg))]) hF.1.1 hF.1.2.1 dX0_grow_68 rfl hl (by decide) rfl (fun ls hl => ?_)
        refine lv_goto (tgt := 33) hF.1.1 hF.1.2.1 dX0_grow_69 (by decide) ?_
        have hl := lv_sub hl (l' := [(0, .ref gA), (1, .int a1), (2, .ref (n_43 a1.toNatClampNeg)), (3, .int (x3 &&& (r_36 ^^^ (-1))))]) [2, 3, 4, 0] rfl
        refine W.widen (k := ((3 * (kb - (kl - (k_37 + 1)))) + 2)) (n := ((40 * (kb - (kl - (k_37 + 1)))) + 22)) (by first | exact Nat.le_of_ble_eq_true rfl | omega | (dsimp only; omega)) (by first | exact Nat.le_of_ble_eq_true rfl | omega | (dsimp only; omega)) ?_
        exact ih n_43 n_44 n_45 (x3 &&& (r_36 ^^^ (-1))) n_46 (kl - (k_37 + 1)) ⟨by omega, by omega⟩ _ _ _ hH hl hw
  unfold wp_X0_grow_B at hw
  obtain ⟨hkb, hw⟩ := hw
  refine W.widen (k := (3 * (kb - kb))) (n := (40 * (kb - kb))) (by first | exact Nat.le_of_ble_eq_true rfl | omega | (dsimp only; omega)) (by first | exact Nat.le_of_ble_eq_true rfl | omega | (dsimp only; omega)) ?_
  refine lv_iload_n hF.1.1 hF.1.2.1 dX0_grow_0 rfl (lv_at hl 1 rfl) ?_
  refine g_cS [.int a1] 1 rfl hF (met_J7_bitCount l hl0 d a1 _ hw) q450 q373 q103 q374 rfl rfl (by decide +kernel) ⟨(by first | exact Nat.le_of_ble_eq_true rfl | (dsimp only; omega)), (by first | exact Nat.le_of_ble_eq_true rfl | (dsimp only; omega))⟩ hH [] rfl rfl rfl hl.1 (by first | exact Nat.le_of_ble_eq_true rfl | (dsimp only; omega)) dX0_grow_1 ⟨(by first | exact Nat.le_of_ble_eq_true rfl | omega | (dsimp only; omega)), (by first | exact Nat.le_of_ble_eq_true rfl | omega | (dsimp only; omega))⟩ (fun v w1 H locs hq hH => ?_)
  obtain ⟨r_48, rfl, rfl, hw⟩ := hq
  have hH : g_HS d A s [[(gA, .inr (2, [.int n, .ref gB]))], [(gB, .inl (d.2.1 0, 10, .inl near))]] H locs := hH
  refine W.eq (g2 := (F0 m 4 ls [.int r_48])) rfl ?_
  refine lv_iconst (v := 1) hF.1.1 hF.1.2.1 dX0_grow_4 (by decide) ?_
  refine lv_icmp_ne (tgt := 17) hF.1.1 hF.1.2.1 dX0_grow_5 (by decide) (fun c_49 => ?_) (fun c_49 => ?_)
  · have hw := hw.1 c_49
    refine g_new (ci := 6) (fs := [.int 0, .null, .null, .null]) (C := RX7) (T := TX7) (N := 4) hF hH in_X7 rfl tyX7 tyX7_ok q472 q473 q110 (fun j hj => by rcases (show j = 0 ∨ j = 1 ∨ j = 2 ∨ j = 3 by omega) with rfl | rfl | rfl | rfl <;> rfl) (by first | exact Nat.le_of_ble_eq_true rfl | omega | (dsimp only; omega)) (by first | exact Nat.le_of_ble_eq_true rfl | omega | (dsimp only; omega)) dX0_grow_17 (fun q_50 H hH => ?_)
    have hH : g_HS d A s [[(gA, .inr (2, [.int n, .ref gB]))], [(gB, .inl (d.2.1 0, 10, .inl near))], [(q_50, .inr (6, [.int 0, .null, .null, .null]))]] H _ := hH
    refine W.widen (k := ((3 * (kb - kb)) + 1)) (n := ((40 * (kb - kb)) + 4)) (by first | exact Nat.le_of_ble_eq_true rfl | omega | (dsimp only; omega)) (by first | exact Nat.le_of_ble_eq_true rfl | omega | (dsimp only; omega)) ?_
    refine lv_dup hF.1.1 hF.1.2.1 dX0_grow_20 rfl ?_
    refine lv_iload_n hF.1.1 hF.1.2.1 dX0_grow_21 rfl (lv_at hl 1 rfl) ?_
    refine lv_aload_n hF.1.1 hF.1.2.1 dX0_grow_22 rfl (lv_at hl 0 rfl) ?_
    refine lv_iload_n hF.1.1 hF.1.2.1 dX0_grow_23 rfl (lv_at hl 1 rfl) ?_
    refine g_cS [.ref gA, .int a1] 2 rfl hF (met_X0_kindOf l hl0 d gA a1 n gB near _ hw) q474 q475 q92 q476 rfl rfl (by decide +kernel) ⟨(by first | exact Nat.le_of_ble_eq_true rfl | (dsimp only; omega)), (by first | exact Nat.le_of_ble_eq_true rfl | (dsimp only; omega))⟩ hH [0, 1] rfl rfl rfl hl.1 (by first | exact Nat.le_of_ble_eq_true rfl | (dsimp only; omega)) dX0_grow_24 ⟨(by first | exact Nat.le_of_ble_eq_true rfl | omega | (dsimp only; omega)), (by first | exact Nat.le_of_ble_eq_true rfl | omega | (dsimp only; omega))⟩ (fun v w1 H locs hq hH => ?_)
    obtain ⟨q_51, rfl, rfl, hw⟩ := hq
    have hH : g_HS d A s [[(q_50, .inr (6, [.int 0, .null, .null, .null]))], [(gA, .inr (2, [.int n, .ref gB]))], [(gB, .inl (d.2.1 0, 10, .inl near))]] H locs := hH
    refine W.eq (g2 := (F0 m 27 ls [.ref (d.2.2 q_51), .int a1, .ref q_50, .ref q_50])) rfl ?_
    refine g_cI [.int a1, .ref (d.2.2 q_51)] 2 rfl hF (met_X7_init_T l hl0 d q_50 a1 q_51 _ hw) q494 q495 q110 q496 rfl rfl rfl (by decide +kernel) ⟨(by first | exact Nat.le_of_ble_eq_true rfl | (dsimp only; omega)), (by first | exact Nat.le_of_ble_eq_true rfl | (dsimp only; omega))⟩ hH [0] rfl rfl rfl hl.1 (by first | exact Nat.le_of_ble_eq_true rfl | (dsimp only; omega)) dX0_grow_27 ⟨(by first | exact Nat.le_of_ble_eq_true rfl | omega | (dsimp only; omega)), (by first | exact Nat.le_of_ble_eq_true rfl | omega | (dsimp only; omega))⟩ (fun v w1 H locs hq hH => ?_)
    obtain ⟨n_52, n_53, n_54, n_55, hf_56, rfl, rfl, hw⟩ := hq
    have hH : g_HS d A s [[(gA, .inr (2, [.int n, .ref gB]))], [(gB, .inl (d.2.1 0, 10, .inl near))], (g_T d n_52 n_53 n_54 n_55)] H locs := hH
    refine W.eq (g2 := (F0 m 30 ls [.ref (n_52 a1.toNatClampNeg)])) (by first | rfl | (rw [hf_56]; rfl) | (rw [hf_56])) ?_
    refine W.widen (k := ((3 * (kb - kb)) + 2)) (n := ((40 * (kb - kb)) + 7)) (by first | exact Nat.le_of_ble_eq_true rfl | omega | (dsimp only; omega)) (by first | exact Nat.le_of_ble_eq_true rfl | omega | (dsimp only; omega)) ?_
    refine lv_astore_n (lv' := [(2, .ref (n_52 a1.toNatClampNeg)), (0, .ref gA), (1, .int a1)]) hF.1.1 hF.1.2.1 dX0_grow_30 rfl hl (by decide) rfl (fun ls hl => ?_)
    refine lv_iload_n hF.1.1 hF.1.2.1 dX0_grow_31 rfl (lv_at hl 2 rfl) ?_
    refine lv_istore_n (lv' := [(3, .int a1), (2, .ref (n_52 a1.toNatClampNeg)), (0, .ref gA), (1, .int a1)]) hF.1.1 hF.1.2.1 dX0_grow_32 rfl hl (by decide) rfl (fun ls hl => ?_)
    obtain ⟨f_57, hw⟩ := hw
    have hl := lv_sub hl (l' := [(0, .ref gA), (1, .int a1), (2, .ref (n_52 a1.toNatClampNeg)), (3, .int a1)]) [2, 3, 1, 0] rfl
    refine W.widen (k := ((3 * (kb - kb)) + 2)) (n := ((40 * (kb - kb)) + 22)) (by first | exact Nat.le_of_ble_eq_true rfl | omega | (dsimp only; omega)) (by first | exact Nat.le_of_ble_eq_true rfl | omega | (dsimp only; omega)) ?_
    exact bk_33 f_57 n_52 n_53 n_54 a1 n_55 kb ⟨by omega, by omega⟩ _ _ _ hH hl hw
  · have hw := hw.2 c_49
    refine g_new (ci := 5) (fs := [.int 0, .null]) (C := RX6) (T := TX6) (N := 2) hF hH in_X6 rfl tyX6 tyX6_ok q451 q452 q109 (fun j hj => by rcases (show j = 0 ∨ j = 1 by omega) with rfl | rfl <;> rfl) (by first | exact Nat.le_of_ble_eq_true rfl | omega | (dsimp only; omega)) (by first | exact Nat.le_of_ble_eq_true rfl | omega | (dsimp only; omega)) dX0_grow_8 (fun q_58 H hH => ?_)
    have hH : g_HS d A s [[(gA, .inr (2, [.int n, .ref gB]))], [(gB, .inl (d.2.1 0, 10, .inl near))], [(q_58, .inr (5, [.int 0, .null]))]] H _ := hH
    refine W.widen (k := ((3 * (kb - kb)) + 1)) (n := ((40 * (kb - kb)) + 2)) (by first | exact Nat.le_of_ble_eq_true rfl | omega | (dsimp only; omega)) (by first | exact Nat.le_of_ble_eq_true rfl | omega | (dsimp only; omega)) ?_
    refine lv_dup hF.1.1 hF.1.2.1 dX0_grow_11 rfl ?_
    refine lv_iload_n hF.1.1 hF.1.2.1 dX0_grow_12 rfl (lv_at hl 1 rfl) ?_
    refine g_cI [.int a1] 1 rfl hF (met_X6_init_T l hl0 d q_58 a1 _ hw) q453 q454 q109 q455 rfl rfl rfl (by decide +kernel) ⟨(by first | exact Nat.le_of_ble_eq_true rfl | (dsimp only; omega)), (by first | exact Nat.le_of_ble_eq_true rfl | (dsimp only; omega))⟩ hH [2] rfl rfl rfl hl.1 (by first | exact Nat.le_of_ble_eq_true rfl | (dsimp only; omega)) dX0_grow_13 ⟨(by first | exact Nat.le_of_ble_eq_true rfl | omega | (dsimp only; omega)), (by first | exact Nat.le_of_ble_eq_true rfl | omega | (dsimp only; omega))⟩ (fun v w1 H locs hq hH => ?_)
    obtain ⟨n_59, n_60, n_61, n_62, hf_63, rfl, rfl, hw⟩ := hq
    have hH : g_HS d A s [[(gA, .inr (2, [.int n, .ref gB]))], [(gB, .inl (d.2.1 0, 10, .inl near))], (g_T d n_59 n_60 n_61 n_62)] H locs := hH
    refine W.eq (g2 := (F0 m 16 ls [.ref (n_59 a1.toNatClampNeg)])) (by first | rfl | (rw [hf_63]; rfl) | (rw [hf_63])) ?_
    refine W.widen (k := (3 * kb)) (n := (40 * kb)) (by first | exact Nat.le_of_ble_eq_true rfl | omega | (dsimp only; omega)) (by first | exact Nat.le_of_ble_eq_true rfl | omega | (dsimp only; omega)) ?_
    exact g_aret hF (Or.inl ⟨_, rfl⟩) (Or.inr ⟨_, rfl⟩) hH ⟨n_59, n_60, n_61, n_62, rfl, rfl, hw⟩ dX0_grow_16

def wp_X0_grow (D : Nat) : Nat → Int32 → Int32 → (Nat → Int32) → (g_TC → Prop) → Prop := match D with
  | 0 => fun _ _ _ _ _ => False
  | D + 1 => wp_X0_grow_B (wp_X0_grow D)
theorem met_X0_grow (l : Launch) (hl0 : l.stackTraces = false) (d : g_D) (D : Nat) : ∀ (kb : Nat) (gA : Nat) (a1 : Int32) (n : Int32) (gB : Nat) (near : Nat → Int32) (Q : g_TC → Prop), wp_X0_grow D kb a1 n near Q → g_Met l d yX0_grow cX0_grow 5 (Option.some (FieldType.object "GraphModules$Tree")) ({ frames := 2 * D + 30, cells := 3 * kb, slots := 40 * kb, locals := 300 * D + 800 } : Room) [.ref gA, .int a1] [[(gA, .inr (2, [.int n, .ref gB]))], [(gB, .inl (d.2.1 0, 10, .inl near))]] (3 * kb) (40 * kb) (fun v w1 => ∃ (vn : Nat → Nat) (vl : Nat → Nat) (vr : Nat → Nat) (vc : g_TC), v = some (.ref (vn a1.toNatClampNeg)) ∧ w1 = [[(gA, .inr (2, [.int n, .ref gB]))], [(gB, .inl (d.2.1 0, 10, .inl near))], (g_T d vn vl vr vc)] ∧ Q vc) := by
  induction D with
  | zero =>
    intro kb gA a1 n gB near Q hw
    exact hw.elim
  | succ D ih =>
    intro kb gA a1 n gB near Q hw
    exact met_X0_grow_B l hl0 d D (wp_X0_grow D) kb gA a1 n gB near ih Q hw
