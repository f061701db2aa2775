def wp_X0_forest_S (n : Int32) (near : Nat → Int32) (ns : List Nat) (tc : g_TC) (vm : Int32) (vf : Nat → Int32) (Q : Prop) : Prop := Q
set_option maxHeartbeats 4000000 in
set_option maxRecDepth 100000 in
theorem met_X0_forest_S (l : Launch) (hl0 : l.stackTraces = false) (d : g_D) (ob : Nat) (hA : Nat) (tA : Nat) (lA : Nat) (gA : Nat) (aF : Nat) (oa : Option Nat) (n : Int32) (gB : Nat) (near : Nat → Int32) (tn : Nat → Nat) (rk : Nat) (na : Nat) (va : Nat) (nb : Nat) (ns : List Nat) (tl : Nat → Nat) (tr : Nat → Nat) (tc : g_TC) (vb : Nat) (vm : Int32) (vf : Nat → Int32) (Q : Prop) (hw : wp_X0_forest_S n near ns tc vm vf Q) : g_Met l d yX0_forest cX0_forest 1 (Option.some (FieldType.object "GraphModules$Forest")) ({ frames := 56, cells := 0, slots := 0, locals := 14445 } : Room) [.ref ob] [[(ob, .inr (0, [.ref hA, .ref tA, .ref lA, .ref gA, .ref aF, va_rf oa]))], [(gA, .inr (2, [.int n, .ref gB]))], [(gB, .inl (d.2.1 0, 10, .inl near))], [(aF, .inr (4, [.ref (tn rk), .ref na, .ref va]))], (g_AL d na nb tn ns), (g_T d tn tl tr tc), [(va, .inr (1, [.ref vb, .int vm]))], [(vb, .inl (d.2.1 2, 10, .inl vf))]] 0 0 (fun v w1 => v = some (.ref aF) ∧ w1 = [[(ob, .inr (0, [.ref hA, .ref tA, .ref lA, .ref gA, .ref aF, va_rf oa]))], [(gA, .inr (2, [.int n, .ref gB]))], [(gB, .inl (d.2.1 0, 10, .inl near))], [(aF, .inr (4, [.ref (tn rk), .ref na, .ref va]))], (g_AL d na nb tn ns), (g_T d tn tl tr tc), [(va, .inr (1, [.ref vb, .int vm]))], [(vb, .inl (d.2.1 2, 10, .inl vf))]] ∧ Q) := by
  refine g_enter (by decide) (Nat.le_of_ble_eq_true rfl) ?_
  intro p e s m args below meth c A ls hF hH hl hin
  have hF : g_F p m c cX0_forest 1 s args RX0 meth (Option.some (FieldType.object "GraphModules$Forest")) := hF
  have hl : lv_has ls 1 [(0, .ref ob)] := hl
  unfold wp_X0_forest_S at hw
  refine lv_aload_n hF.1.1 hF.1.2.1 dX0_forest_0 rfl (lv_at hl 0 rfl) ?_
  refine g_get (v := .ref aF) hF hH in_X0 rfl 0 0 rfl rfl 4 (by decide) q187 (fun _ h9 => h9) rfl dX0_forest_1 ?_
  refine lv_ifnonnull (tgt := 22) hF.1.1 hF.1.2.1 dX0_forest_4 (by decide) ?_
  refine lv_aload_n hF.1.1 hF.1.2.1 dX0_forest_22 rfl (lv_at hl 0 rfl) ?_
  refine g_get (v := .ref aF) hF hH in_X0 rfl 0 0 rfl rfl 4 (by decide) q187 (fun _ h9 => h9) rfl dX0_forest_23 ?_
  exact g_aret hF (Or.inl ⟨_, rfl⟩) (Or.inr ⟨_, rfl⟩) hH ⟨rfl, rfl, hw⟩ dX0_forest_26

def wp_X0_modules (a1 : Int32) (n : Int32) (near : Nat → Int32) (fo : Option g_FC) (Q : Int32 → (Option g_FC) → Prop) : Prop := (wp_X0_inRange a1 1 n (fun r_17 => ((r_17 = 0 → (Q (-1) fo)) ∧ (¬ r_17 = 0 → (wp_X0_forest n near fo (fun q_27 n_28 n_29 n_30 n_31 => (wp_X4_modules a1 n_28 n_29 (fun r_32 => (Q r_32 (some (q_27, n_28, n_29, (n_30, n_31))))))))))))
set_option maxHeartbeats 4000000 in
set_option maxRecDepth 100000 in
theorem met_X0_modules (l : Launch) (hl0 : l.stackTraces = false) (d : g_D) (ob : Nat) (a1 : Int32) (hA : Nat) (tA : Nat) (lA : Nat) (gA : Nat) (oa : Option Nat) (n : Int32) (gB : Nat) (near : Nat → Int32) (af : g_FA) (fo : Option g_FC) (Q : Int32 → (Option g_FC) → Prop) (hw : wp_X0_modules a1 n near fo Q) : g_Met l d yX0_modules cX0_modules 2 (Option.some FieldType.int) ({ frames := 57, cells := 227, slots := 2982, locals := 14465 } : Room) [.ref ob, .int a1] [[(ob, .inr (0, [.ref hA, .ref tA, .ref lA, .ref gA, va_rf (g_fa af fo), va_rf oa]))], [(gA, .inr (2, [.int n, .ref gB]))], [(gB, .inl (d.2.1 0, 10, .inl near))], (g_FS d af fo)] 227 2982 (fun v w1 => ∃ (r : Int32) (af2 : g_FA) (fo2 : Option g_FC), v = some (.int r) ∧ w1 = [[(ob, .inr (0, [.ref hA, .ref tA, .ref lA, .ref gA, va_rf (g_fa af2 fo2), va_rf oa]))], [(gA, .inr (2, [.int n, .ref gB]))], [(gB, .inl (d.2.1 0, 10, .inl near))], (g_FS d af2 fo2)] ∧ Q r fo2) := by
  refine g_enter (by decide) (Nat.le_of_ble_eq_true rfl) ?_
  intro p e s m args below meth c A ls hF hH hl hin
  have hF : g_F p m c cX0_modules 2 s args RX0 meth (Option.some FieldType.int) := hF
  have hl : lv_has ls 2 [(0, .ref ob), (1, .int a1)] := hl
  unfold wp_X0_modules at hw
  refine lv_iload_n hF.1.1 hF.1.2.1 dX0_modules_0 rfl (lv_at hl 1 rfl) ?_
  refine lv_iconst (v := 1) hF.1.1 hF.1.2.1 dX0_modules_1 (by decide) ?_
  refine lv_aload_n hF.1.1 hF.1.2.1 dX0_modules_2 rfl (lv_at hl 0 rfl) ?_
  refine g_get (v := .ref gA) hF hH in_X0 rfl 0 0 rfl rfl 3 (by decide) q186 (fun _ h9 => h9) rfl dX0_modules_3 ?_
  refine g_getN (v := .int n) hF hH in_X2 rfl 1 0 rfl rfl 0 (by decide) q169 (fun _ h9 => h9) rfl dX0_modules_6 ?_
  refine g_cS [.int a1, .int 1, .int n] 3 rfl hF (met_X0_inRange l hl0 d a1 1 n _ hw) q206 q207 q92 q208 rfl rfl (by decide +kernel) ⟨Nat.le_of_ble_eq_true rfl, Nat.le_of_ble_eq_true rfl⟩ hH [] rfl rfl rfl hl.1 (Nat.le_of_ble_eq_true rfl) dX0_modules_9 ⟨(by first | exact Nat.le_of_ble_eq_true rfl | omega | (dsimp only; omega)), (by first | exact Nat.le_of_ble_eq_true rfl | omega | (dsimp only; omega))⟩ (fun v w1 H locs hq hH => ?_)
  obtain ⟨r_17, rfl, rfl, hw⟩ := hq
  have hH : g_HS d A s [[(ob, .inr (0, [.ref hA, .ref tA, .ref lA, .ref gA, va_rf (g_fa af fo), va_rf oa]))], [(gA, .inr (2, [.int n, .ref gB]))], [(gB, .inl (d.2.1 0, 10, .inl near))], (g_FS d af fo)] H locs := hH
  refine W.eq (g2 := (F0 m 12 ls [.int r_17])) rfl ?_
  refine lv_if_eq (tgt := 26) hF.1.1 hF.1.2.1 dX0_modules_12 (by decide) (fun c_18 => ?_) (fun c_18 => ?_)
  · have hw := hw.1 c_18
    refine lv_iconst (v := (-1)) hF.1.1 hF.1.2.1 dX0_modules_26 (by decide) ?_
    refine W.widen (k := 227) (n := 2982) (by first | exact Nat.le_of_ble_eq_true rfl | omega | (dsimp only; omega)) (by first | exact Nat.le_of_ble_eq_true rfl | omega | (dsimp only; omega)) ?_
    exact g_iret hF hH ⟨(-1), af, fo, rfl, rfl, hw⟩ dX0_modules_27
  · have hw := hw.2 c_18
    refine lv_aload_n hF.1.1 hF.1.2.1 dX0_modules_15 rfl (lv_at hl 0 rfl) ?_
    refine g_cV [] 0 rfl hF (met_X0_forest l hl0 d ob hA tA lA gA oa af fo n gB near _ hw) q402 q404 qs8 q92 q405 rfl rfl (by decide +kernel) ⟨Nat.le_of_ble_eq_true rfl, Nat.le_of_ble_eq_true rfl⟩ hH [0, 1, 2, 3] rfl rfl rfl 0 0 rfl rfl rfl hl.1 (Nat.le_of_ble_eq_true rfl) dX0_modules_16 ⟨(by first | exact Nat.le_of_ble_eq_true rfl | omega | (dsimp only; omega)), (by first | exact Nat.le_of_ble_eq_true rfl | omega | (dsimp only; omega))⟩ (fun v w1 H locs hq hH => ?_)
    obtain ⟨q_19, n_20, n_21, n_22, q_23, q_24, q_25, q_26, q_27, n_28, n_29, n_30, n_31, rfl, rfl, hw⟩ := hq
    have hH : g_HS d A s [[(ob, .inr (0, [.ref hA, .ref tA, .ref lA, .ref gA, .ref q_19, va_rf oa]))], [(gA, .inr (2, [.int n, .ref gB]))], [(gB, .inl (d.2.1 0, 10, .inl near))], [(q_19, .inr (4, [.ref (n_20 q_27), .ref q_23, .ref q_25]))], (g_AL d q_23 q_24 n_20 n_28), (g_T d n_20 n_21 n_22 n_29), [(q_25, .inr (1, [.ref q_26, .int n_30]))], [(q_26, .inl (d.2.1 2, 10, .inl n_31))]] H locs := hH
    refine W.eq (g2 := (F0 m 19 ls [.ref q_19])) rfl ?_
    refine W.widen (k := 226) (n := 2978) (by first | exact Nat.le_of_ble_eq_true rfl | omega | (dsimp only; omega)) (by first | exact Nat.le_of_ble_eq_true rfl | omega | (dsimp only; omega)) ?_
    refine lv_iload_n hF.1.1 hF.1.2.1 dX0_modules_19 rfl (lv_at hl 1 rfl) ?_
    refine g_cV [.int a1] 1 rfl hF (met_X4_modules l hl0 d q_19 a1 n_20 q_27 q_23 q_25 q_24 n_28 n_21 n_22 n_29 _ hw) q690 q691 q692 q104 q693 rfl rfl (by decide +kernel) ⟨Nat.le_of_ble_eq_true rfl, Nat.le_of_ble_eq_true rfl⟩ hH [3, 4, 5] rfl rfl rfl 0 0 rfl rfl rfl hl.1 (Nat.le_of_ble_eq_true rfl) dX0_modules_20 ⟨(by first | exact Nat.le_of_ble_eq_true rfl | omega | (dsimp only; omega)), (by first | exact Nat.le_of_ble_eq_true rfl | omega | (dsimp only; omega))⟩ (fun v w1 H locs hq hH => ?_)
    obtain ⟨r_32, rfl, rfl, hw⟩ := hq
    have hH : g_HS d A s [[(ob, .inr (0, [.ref hA, .ref tA, .ref lA, .ref gA, .ref q_19, va_rf oa]))], [(gA, .inr (2, [.int n, .ref gB]))], [(gB, .inl (d.2.1 0, 10, .inl near))], [(q_25, .inr (1, [.ref q_26, .int n_30]))], [(q_26, .inl (d.2.1 2, 10, .inl n_31))], [(q_19, .inr (4, [.ref (n_20 q_27), .ref q_23, .ref q_25]))], (g_AL d q_23 q_24 n_20 n_28), (g_T d n_20 n_21 n_22 n_29)] H locs := hH
    refine W.eq (g2 := (F0 m 23 ls [.int r_32])) rfl ?_
    refine W.widen (k := 227) (n := 2982) (by first | exact Nat.le_of_ble_eq_true rfl | omega | (dsimp only; omega)) (by first | exact Nat.le_of_ble_eq_true rfl | omega | (dsimp only; omega)) ?_
    refine lv_goto (tgt := 27) hF.1.1 hF.1.2.1 dX0_modules_23 (by decide) ?_
    have hH := hH.sub (cs' := [[(q_19, .inr (4, [.ref (n_20 q_27), .ref q_23, .ref q_25]))], (g_AL d q_23 q_24 n_20 n_28), (g_T d n_20 n_21 n_22 n_29), [(q_25, .inr (1, [.ref q_26, .int n_30]))], [(q_26, .inl (d.2.1 2, 10, .inl n_31))], [(ob, .inr (0, [.ref hA, .ref tA, .ref lA, .ref gA, .ref q_19, va_rf oa]))], [(gA, .inr (2, [.int n, .ref gB]))], [(gB, .inl (d.2.1 0, 10, .inl near))]]) [5, 6, 7, 3, 4, 0, 1, 2] rfl rfl
    have hH := g_HS.closeF hH
    have hH : g_HS d A s [(g_FS d (g_ad5 q_19 q_23 q_25 q_24 q_26, n_20, n_21, n_22) (some (q_27, n_28, n_29, (n_30, n_31)))), [(ob, .inr (0, [.ref hA, .ref tA, .ref lA, .ref gA, .ref q_19, va_rf oa]))], [(gA, .inr (2, [.int n, .ref gB]))], [(gB, .inl (d.2.1 0, 10, .inl near))]] H _ := hH
    have hH := hH.sub (cs' := [[(ob, .inr (0, [.ref hA, .ref tA, .ref lA, .ref gA, .ref q_19, va_rf oa]))], [(gA, .inr (2, [.int n, .ref gB]))], [(gB, .inl (d.2.1 0, 10, .inl near))], (g_FS d (g_ad5 q_19 q_23 q_25 q_24 q_26, n_20, n_21, n_22) (some (q_27, n_28, n_29, (n_30, n_31))))]) [1, 2, 3, 0] rfl rfl
    exact g_iret hF hH ⟨r_32, (g_ad5 q_19 q_23 q_25 q_24 q_26, n_20, n_21, n_22), (some (q_27, n_28, n_29, (n_30, n_31))), rfl, rfl, hw⟩ dX0_modules_27

def wp_X0_isStrong_O (a1 : Int32) (n : Int32) (near : Nat → Int32) (fo : Option g_FC) (Q : Int32 → Nat → (List Nat) → g_TC → Int32 → (Nat → Int32) → Prop) : Prop := (wp_X0_forest n near fo (fun q_24 n_25 n_26 n_27 n_28 => (wp_J10_size_A n_25 (fun r_29 => (wp_X0_inRange a1 0 (r_29 - 1) (fun r_30 => ((r_30 = 0 ∨ r_30 = 1) ∧ (Q r_30 q_24 n_25 n_26 n_27 n_28))))))))
set_option maxHeartbeats 4000000 in
set_option maxRecDepth 100000 in
theorem met_X0_isStrong_O (l : Launch) (hl0 : l.stackTraces = false) (d : g_D) (ob : Nat) (a1 : Int32) (hA : Nat) (tA : Nat) (lA : Nat) (gA : Nat) (oa : Option Nat) (n : Int32) (gB : Nat) (near : Nat → Int32) (af : g_FA) (fo : Option g_FC) (Q : Int32 → Nat → (List Nat) → g_TC → Int32 → (Nat → Int32) → Prop) (hw : wp_X0_isStrong_O a1 n near fo Q) : g_Met l d yX0_isStrong cX0_isStrong 2 (Option.some FieldType.boolean) ({ frames := 57, cells := 226, slots := 2978, locals := 14465 } : Room) [.ref ob, .int a1] [[(ob, .inr (0, [.ref hA, .ref tA, .ref lA, .ref gA, va_rf (g_fa af fo), va_rf oa]))], [(gA, .inr (2, [.int n, .ref gB]))], [(gB, .inl (d.2.1 0, 10, .inl near))], (g_FS d af fo)] 226 2978 (fun v w1 => ∃ (r : Int32) (aF : Nat) (tn : Nat → Nat) (tl : Nat → Nat) (tr : Nat → Nat) (na : Nat) (nb : Nat) (va : Nat) (vb : Nat) (rk : Nat) (ns : List Nat) (tc : g_TC) (vm : Int32) (vf : Nat → Int32), v = some (.int r) ∧ w1 = [[(ob, .inr (0, [.ref hA, .ref tA, .ref lA, .ref gA, .ref aF, va_rf oa]))], [(gA, .inr (2, [.int n, .ref gB]))], [(gB, .inl (d.2.1 0, 10, .inl near))], [(aF, .inr (4, [.ref (tn rk), .ref na, .ref va]))], (g_AL d na nb tn ns), (g_T d tn tl tr tc), [(va, .inr (1, [.ref vb, .int vm]))], [(vb, .inl (d.2.1 2, 10, .inl vf))]] ∧ Q r rk ns tc vm vf) := by
  refine g_enter (by decide) (Nat.le_of_ble_eq_true rfl) ?_
  intro p e s m args below meth c A ls hF hH hl hin
  have hF : g_F p m c cX0_isStrong 2 s args RX0 meth (Option.some FieldType.boolean) := hF
  have hl : lv_has ls 2 [(0, .ref ob), (1, .int a1)] := hl
  unfold wp_X0_isStrong_O at hw
  refine lv_iload_n hF.1.1 hF.1.2.1 dX0_isStrong_0 rfl (lv_at hl 1 rfl) ?_
  refine lv_iconst (v := 0) hF.1.1 hF.1.2.1 dX0_isStrong_1 (by decide) ?_
  refine lv_aload_n hF.1.1 hF.1.2.1 dX0_isStrong_2 rfl (lv_at hl 0 rfl) ?_
  refine g_cV [] 0 rfl hF (met_X0_forest l hl0 d ob hA tA lA gA oa af fo n gB near _ hw) q402 q404 qs8 q92 q405 rfl rfl (by decide +kernel) ⟨Nat.le_of_ble_eq_true rfl, Nat.le_of_ble_eq_true rfl⟩ hH [0, 1, 2, 3] rfl rfl rfl 0 0 rfl rfl rfl hl.1 (Nat.le_of_ble_eq_true rfl) dX0_isStrong_3 ⟨(by first | exact Nat.le_of_ble_eq_true rfl | omega | (dsimp only; omega)), (by first | exact Nat.le_of_ble_eq_true rfl | omega | (dsimp only; omega))⟩ (fun v w1 H locs hq hH => ?_)
  obtain ⟨q_16, n_17, n_18, n_19, q_20, q_21, q_22, q_23, q_24, n_25, n_26, n_27, n_28, rfl, rfl, hw⟩ := hq
  have hH : g_HS d A s [[(ob, .inr (0, [.ref hA, .ref tA, .ref lA, .ref gA, .ref q_16, va_rf oa]))], [(gA, .inr (2, [.int n, .ref gB]))], [(gB, .inl (d.2.1 0, 10, .inl near))], [(q_16, .inr (4, [.ref (n_17 q_24), .ref q_20, .ref q_22]))], (g_AL d q_20 q_21 n_17 n_25), (g_T d n_17 n_18 n_19 n_26), [(q_22, .inr (1, [.ref q_23, .int n_27]))], [(q_23, .inl (d.2.1 2, 10, .inl n_28))]] H locs := hH
  refine W.eq (g2 := (F0 m 6 ls [.ref q_16, .int 0, .int a1])) rfl ?_
  refine W.widen (k := 226) (n := 2978) (by first | exact Nat.le_of_ble_eq_true rfl | omega | (dsimp only; omega)) (by first | exact Nat.le_of_ble_eq_true rfl | omega | (dsimp only; omega)) ?_
  refine g_getN (v := .ref q_20) hF hH in_X4 rfl 3 0 rfl rfl 1 (by decide) q680 (fun _ h9 => h9) rfl dX0_isStrong_6 ?_
  refine g_cVr [] 0 rfl hF (met_J10_size_B l hl0 d q_20 q_21 n_17 n_25 _ hw) q723 q601 q602 q107 q603 rfl rfl (by decide +kernel) ⟨Nat.le_of_ble_eq_true rfl, Nat.le_of_ble_eq_true rfl⟩ hH [4] rfl rfl rfl (g_lrec hH 4 rfl) hl.1 (Nat.le_of_ble_eq_true rfl) dX0_isStrong_9 ⟨(by first | exact Nat.le_of_ble_eq_true rfl | omega | (dsimp only; omega)), (by first | exact Nat.le_of_ble_eq_true rfl | omega | (dsimp only; omega))⟩ (fun v w1 H locs hq hH => ?_)
  obtain ⟨r_29, rfl, rfl, hw⟩ := hq
  have hH : g_HS d A s [[(ob, .inr (0, [.ref hA, .ref tA, .ref lA, .ref gA, .ref q_16, va_rf oa]))], [(gA, .inr (2, [.int n, .ref gB]))], [(gB, .inl (d.2.1 0, 10, .inl near))], [(q_16, .inr (4, [.ref (n_17 q_24), .ref q_20, .ref q_22]))], (g_T d n_17 n_18 n_19 n_26), [(q_22, .inr (1, [.ref q_23, .int n_27]))], [(q_23, .inl (d.2.1 2, 10, .inl n_28))], (g_AL d q_20 q_21 n_17 n_25)] H locs := hH
  refine W.eq (g2 := (F0 m 12 ls [.int r_29, .int 0, .int a1])) rfl ?_
  refine lv_iconst (v := 1) hF.1.1 hF.1.2.1 dX0_isStrong_12 (by decide) ?_
  refine lv_isub hF.1.1 hF.1.2.1 dX0_isStrong_13 ?_
  refine g_cS [.int a1, .int 0, .int (r_29 - 1)] 3 rfl hF (met_X0_inRange l hl0 d a1 0 (r_29 - 1) _ hw) q206 q207 q92 q208 rfl rfl (by decide +kernel) ⟨Nat.le_of_ble_eq_true rfl, Nat.le_of_ble_eq_true rfl⟩ hH [] rfl rfl rfl hl.1 (Nat.le_of_ble_eq_true rfl) dX0_isStrong_14 ⟨(by first | exact Nat.le_of_ble_eq_true rfl | omega | (dsimp only; omega)), (by first | exact Nat.le_of_ble_eq_true rfl | omega | (dsimp only; omega))⟩ (fun v w1 H locs hq hH => ?_)
  obtain ⟨r_30, rfl, rfl, hw⟩ := hq
  have hH : g_HS d A s [[(ob, .inr (0, [.ref hA, .ref tA, .ref lA, .ref gA, .ref q_16, va_rf oa]))], [(gA, .inr (2, [.int n, .ref gB]))], [(gB, .inl (d.2.1 0, 10, .inl near))], [(q_16, .inr (4, [.ref (n_17 q_24), .ref q_20, .ref q_22]))], (g_T d n_17 n_18 n_19 n_26), [(q_22, .inr (1, [.ref q_23, .int n_27]))], [(q_23, .inl (d.2.1 2, 10, .inl n_28))], (g_AL d q_20 q_21 n_17 n_25)] H locs := hH
  refine W.eq (g2 := (F0 m 17 ls [.int r_30])) rfl ?_
  obtain ⟨hb_31, hw⟩ := hw
  have hH := hH.sub (cs' := [[(ob, .inr (0, [.ref hA, .ref tA, .ref lA, .ref gA, .ref q_16, va_rf oa]))], [(gA, .inr (2, [.int n, .ref gB]))], [(gB, .inl (d.2.1 0, 10, .inl near))], [(q_16, .inr (4, [.ref (n_17 q_24), .ref q_20, .ref q_22]))], (g_AL d q_20 q_21 n_17 n_25), (g_T d n_17 n_18 n_19 n_26), [(q_22, .inr (1, [.ref q_23, .int n_27]))], [(q_23, .inl (d.2.1 2, 10, .inl n_28))]]) [0, 1, 2, 3, 7, 4, 5, 6] rfl rfl
  exact g_zret hF (g_b01 hb_31) hH ⟨r_30, q_16, n_17, n_18, n_19, q_20, q_21, q_22, q_23, q_24, n_25, n_26, n_27, n_28, rfl, rfl, hw⟩ dX0_isStrong_17

def wp_X0_strongAt_S (a1 : Int32) (n : Int32) (near : Nat → Int32) (rk : Nat) (ns : List Nat) (tc : g_TC) (vm : Int32) (vf : Nat → Int32) (Q : Nat → Prop) : Prop := (wp_X0_forest_S n near ns tc vm vf (wp_J10_get_A a1 ns (fun q_4 => (q_4 ∈ tc.1 ∧ (Q q_4)))))
set_option maxHeartbeats 4000000 in
set_option maxRecDepth 100000 in
theorem met_X0_strongAt_S (l : Launch) (hl0 : l.stackTraces = false) (d : g_D) (ob : Nat) (a1 : Int32) (hA : Nat) (tA : Nat) (lA : Nat) (gA : Nat) (aF : Nat) (oa : Option Nat) (n : Int32) (gB : Nat) (near : Nat → Int32) (tn : Nat → Nat) (rk : Nat) (na : Nat) (va : Nat) (nb : Nat) (ns : List Nat) (tl : Nat → Nat) (tr : Nat → Nat) (tc : g_TC) (vb : Nat) (vm : Int32) (vf : Nat → Int32) (Q : Nat → Prop) (hw : wp_X0_strongAt_S a1 n near rk ns tc vm vf Q) : g_Met l d yX0_strongAt cX0_strongAt 2 (Option.some (FieldType.object "GraphModules$Tree")) ({ frames := 57, cells := 0, slots := 0, locals := 14465 } : Room) [.ref ob, .int a1] [[(ob, .inr (0, [.ref hA, .ref tA, .ref lA, .ref gA, .ref aF, va_rf oa]))], [(gA, .inr (2, [.int n, .ref gB]))], [(gB, .inl (d.2.1 0, 10, .inl near))], [(aF, .inr (4, [.ref (tn rk), .ref na, .ref va]))], (g_AL d na nb tn ns), (g_T d tn tl tr tc), [(va, .inr (1, [.ref vb, .int vm]))], [(vb, .inl (d.2.1 2, 10, .inl vf))]] 0 0 (fun v w1 => ∃ (k2 : Nat), v = some (.ref (tn k2)) ∧ w1 = [[(ob, .inr (0, [.ref hA, .ref tA, .ref lA, .ref gA, .ref aF, va_rf oa]))], [(gA, .inr (2, [.int n, .ref gB]))], [(gB, .inl (d.2.1 0, 10, .inl near))], [(aF, .inr (4, [.ref (tn rk), .ref na, .ref va]))], (g_AL d na nb tn ns), (g_T d tn tl tr tc), [(va, .inr (1, [.ref vb, .int vm]))], [(vb, .inl (d.2.1 2, 10, .inl vf))]] ∧ Q k2) := by
  refine g_enter (by decide) (Nat.le_of_ble_eq_true rfl) ?_
  intro p e s m args below meth c A ls hF hH hl hin
  have hF : g_F p m c cX0_strongAt 2 s args RX0 meth (Option.some (FieldType.object "GraphModules$Tree")) := hF
  have hl : lv_has ls 2 [(0, .ref ob), (1, .int a1)] := hl
  unfold wp_X0_strongAt_S at hw
  refine lv_aload_n hF.1.1 hF.1.2.1 dX0_strongAt_0 rfl (lv_at hl 0 rfl) ?_
  refine g_cV [] 0 rfl hF (met_X0_forest_S l hl0 d ob hA tA lA gA aF oa n gB near tn rk na va nb ns tl tr tc vb vm vf _ hw) q402 q404 qs8 q92 q405 rfl rfl (by decide +kernel) ⟨Nat.le_of_ble_eq_true rfl, Nat.le_of_ble_eq_true rfl⟩ hH [0, 1, 2, 3, 4, 5, 6, 7] rfl rfl rfl 0 0 rfl rfl rfl hl.1 (Nat.le_of_ble_eq_true rfl) dX0_strongAt_1 ⟨(by first | exact Nat.le_of_ble_eq_true rfl | omega | (dsimp only; omega)), (by first | exact Nat.le_of_ble_eq_true rfl | omega | (dsimp only; omega))⟩ (fun v w1 H locs hq hH => ?_)
  obtain ⟨rfl, rfl, hw⟩ := hq
  have hH : g_HS d A s [[(ob, .inr (0, [.ref hA, .ref tA, .ref lA, .ref gA, .ref aF, va_rf oa]))], [(gA, .inr (2, [.int n, .ref gB]))], [(gB, .inl (d.2.1 0, 10, .inl near))], [(aF, .inr (4, [.ref (tn rk), .ref na, .ref va]))], (g_AL d na nb tn ns), (g_T d tn tl tr tc), [(va, .inr (1, [.ref vb, .int vm]))], [(vb, .inl (d.2.1 2, 10, .inl vf))]] H locs := hH
  refine W.eq (g2 := (F0 m 4 ls [.ref aF])) rfl ?_
  refine g_getN (v := .ref na) hF hH in_X4 rfl 3 0 rfl rfl 1 (by decide) q680 (fun _ h9 => h9) rfl dX0_strongAt_4 ?_
  refine lv_iload_n hF.1.1 hF.1.2.1 dX0_strongAt_7 rfl (lv_at hl 1 rfl) ?_
  refine g_cVr [.int a1] 1 rfl hF (met_J10_get_A l hl0 d na nb tn a1 ns _ hw) q834 q605 q606 q107 q607 rfl rfl (by decide +kernel) ⟨Nat.le_of_ble_eq_true rfl, Nat.le_of_ble_eq_true rfl⟩ hH [4] rfl rfl rfl (g_lrec hH 4 rfl) hl.1 (Nat.le_of_ble_eq_true rfl) dX0_strongAt_8 ⟨(by first | exact Nat.le_of_ble_eq_true rfl | omega | (dsimp only; omega)), (by first | exact Nat.le_of_ble_eq_true rfl | omega | (dsimp only; omega))⟩ (fun v w1 H locs hq hH => ?_)
  obtain ⟨q_4, rfl, rfl, hw⟩ := hq
  have hH : g_HS d A s [[(ob, .inr (0, [.ref hA, .ref tA, .ref lA, .ref gA, .ref aF, va_rf oa]))], [(gA, .inr (2, [.int n, .ref gB]))], [(gB, .inl (d.2.1 0, 10, .inl near))], [(aF, .inr (4, [.ref (tn rk), .ref na, .ref va]))], (g_T d tn tl tr tc), [(va, .inr (1, [.ref vb, .int vm]))], [(vb, .inl (d.2.1 2, 10, .inl vf))], (g_AL d na nb tn ns)] H locs := hH
  refine W.eq (g2 := (F0 m 11 ls [.ref (tn q_4)])) rfl ?_
  obtain ⟨hk_5, hw⟩ := hw
  refine g_tcT hF hH 4 rfl hk_5 q835 dX0_strongAt_11 ?_
  have hH := hH.sub (cs' := [[(ob, .inr (0, [.ref hA, .ref tA, .ref lA, .ref gA, .ref aF, va_rf oa]))], [(gA, .inr (2, [.int n, .ref gB]))], [(gB, .inl (d.2.1 0, 10, .inl near))], [(aF, .inr (4, [.ref (tn rk), .ref na, .ref va]))], (g_AL d na nb tn ns), (g_T d tn tl tr tc), [(va, .inr (1, [.ref vb, .int vm]))], [(vb, .inl (d.2.1 2, 10, .inl vf))]]) [0, 1, 2, 3, 7, 4, 5, 6] rfl rfl
  exact g_aret hF (Or.inl ⟨_, rfl⟩) (Or.inr ⟨_, rfl⟩) hH ⟨q_4, rfl, rfl, hw⟩ dX0_strongAt_14

def wp_X0_strong (a1 : Int32) (n : Int32) (near : Nat → Int32) (fo : Option g_FC) (Q : Int32 → (Option g_FC) → Prop) : Prop := ((0 ≤ a1 → (wp_X0_isStrong_O a1 n near fo (fun r_21 q_30 n_31 n_32 n_33 n_34 => ((r_21 = 0 → (Q (-4) (some (q_30, n_31, n_32, (n_33, n_34))))) ∧ (¬ r_21 = 0 → (wp_X0_strongAt_S a1 n near q_30 n_31 n_32 n_33 n_34 (fun q_36 => (q_36 ∈ n_32.1 ∧ (Q (nI q_36) (some (q_30, n_31, n_32, (n_33, n_34)))))))))))) ∧ (¬ 0 ≤ a1 → (Q (-1) fo)))
set_option maxHeartbeats 4000000 in
set_option maxRecDepth 100000 in
theorem met_X0_strong (l : Launch) (hl0 : l.stackTraces = false) (d : g_D) (ob : Nat) (a1 : Int32) (hA : Nat) (tA : Nat) (lA : Nat) (gA : Nat) (oa : Option Nat) (n : Int32) (gB : Nat) (near : Nat → Int32) (af : g_FA) (fo : Option g_FC) (Q : Int32 → (Option g_FC) → Prop) (hw : wp_X0_strong a1 n near fo Q) : g_Met l d yX0_strong cX0_strong 2 (Option.some FieldType.int) ({ frames := 58, cells := 226, slots := 2978, locals := 14486 } : Room) [.ref ob, .int a1] [[(ob, .inr (0, [.ref hA, .ref tA, .ref lA, .ref gA, va_rf (g_fa af fo), va_rf oa]))], [(gA, .inr (2, [.int n, .ref gB]))], [(gB, .inl (d.2.1 0, 10, .inl near))], (g_FS d af fo)] 226 2978 (fun v w1 => ∃ (r : Int32) (af2 : g_FA) (fo2 : Option g_FC), v = some (.int r) ∧ w1 = [[(ob, .inr (0, [.ref hA, .ref tA, .ref lA, .ref gA, va_rf (g_fa af2 fo2), va_rf oa]))], [(gA, .inr (2, [.int n, .ref gB]))], [(gB, .inl (d.2.1 0, 10, .inl near))], (g_FS d af2 fo2)] ∧ Q r fo2) := by
  refine g_enter (by decide) (Nat.le_of_ble_eq_true rfl) ?_
  intro p e s m args below meth c A ls hF hH hl hin
  have hF : g_F p m c cX0_strong 2 s args RX0 meth (Option.some FieldType.int) := hF
  have hl : lv_has ls 2 [(0, .ref ob), (1, .int a1)] := hl
  unfold wp_X0_strong at hw
  refine lv_iload_n hF.1.1 hF.1.2.1 dX0_strong_0 rfl (lv_at hl 1 rfl) ?_
  refine lv_if_ge (tgt := 6) hF.1.1 hF.1.2.1 dX0_strong_1 (by decide) (fun c_20 => ?_) (fun c_20 => ?_)
  · have hw := hw.1 c_20
    refine lv_aload_n hF.1.1 hF.1.2.1 dX0_strong_6 rfl (lv_at hl 0 rfl) ?_
    refine lv_iload_n hF.1.1 hF.1.2.1 dX0_strong_7 rfl (lv_at hl 1 rfl) ?_
    refine g_cV [.int a1] 1 rfl hF (met_X0_isStrong_O l hl0 d ob a1 hA tA lA gA oa n gB near af fo _ hw) q826 q828 qs18 q92 q829 rfl rfl (by decide +kernel) ⟨Nat.le_of_ble_eq_true rfl, Nat.le_of_ble_eq_true rfl⟩ hH [0, 1, 2, 3] rfl rfl rfl 0 0 rfl rfl rfl hl.1 (Nat.le_of_ble_eq_true rfl) dX0_strong_8 ⟨(by first | exact Nat.le_of_ble_eq_true rfl | omega | (dsimp only; omega)), (by first | exact Nat.le_of_ble_eq_true rfl | omega | (dsimp only; omega))⟩ (fun v w1 H locs hq hH => ?_)
    obtain ⟨r_21, q_22, n_23, n_24, n_25, q_26, q_27, q_28, q_29, q_30, n_31, n_32, n_33, n_34, rfl, rfl, hw⟩ := hq
    have hH : g_HS d A s [[(ob, .inr (0, [.ref hA, .ref tA, .ref lA, .ref gA, .ref q_22, va_rf oa]))], [(gA, .inr (2, [.int n, .ref gB]))], [(gB, .inl (d.2.1 0, 10, .inl near))], [(q_22, .inr (4, [.ref (n_23 q_30), .ref q_26, .ref q_28]))], (g_AL d q_26 q_27 n_23 n_31), (g_T d n_23 n_24 n_25 n_32), [(q_28, .inr (1, [.ref q_29, .int n_33]))], [(q_29, .inl (d.2.1 2, 10, .inl n_34))]] H locs := hH
    refine W.eq (g2 := (F0 m 11 ls [.int r_21])) rfl ?_
    refine W.widen (k := 226) (n := 2978) (by first | exact Nat.le_of_ble_eq_true rfl | omega | (dsimp only; omega)) (by first | exact Nat.le_of_ble_eq_true rfl | omega | (dsimp only; omega)) ?_
    refine lv_if_eq (tgt := 25) hF.1.1 hF.1.2.1 dX0_strong_11 (by decide) (fun c_35 => ?_) (fun c_35 => ?_)
    · have hw := hw.1 c_35
      refine lv_bipush (v := (-4)) hF.1.1 hF.1.2.1 dX0_strong_25 (by decide) ?_
      have hH := hH.sub (cs' := [[(q_22, .inr (4, [.ref (n_23 q_30), .ref q_26, .ref q_28]))], (g_AL d q_26 q_27 n_23 n_31), (g_T d n_23 n_24 n_25 n_32), [(q_28, .inr (1, [.ref q_29, .int n_33]))], [(q_29, .inl (d.2.1 2, 10, .inl n_34))], [(ob, .inr (0, [.ref hA, .ref tA, .ref lA, .ref gA, .ref q_22, va_rf oa]))], [(gA, .inr (2, [.int n, .ref gB]))], [(gB, .inl (d.2.1 0, 10, .inl near))]]) [3, 4, 5, 6, 7, 0, 1, 2] rfl rfl
      have hH := g_HS.closeF hH
      have hH : g_HS d A s [(g_FS d (g_ad5 q_22 q_26 q_28 q_27 q_29, n_23, n_24, n_25) (some (q_30, n_31, n_32, (n_33, n_34)))), [(ob, .inr (0, [.ref hA, .ref tA, .ref lA, .ref gA, .ref q_22, va_rf oa]))], [(gA, .inr (2, [.int n, .ref gB]))], [(gB, .inl (d.2.1 0, 10, .inl near))]] H _ := hH
      have hH := hH.sub (cs' := [[(ob, .inr (0, [.ref hA, .ref tA, .ref lA, .ref gA, .ref q_22, va_rf oa]))], [(gA, .inr (2, [.int n, .ref gB]))], [(gB, .inl (d.2.1 0, 10, .inl near))], (g_FS d (g_ad5 q_22 q_26 q_28 q_27 q_29, n_23, n_24, n_25) (some (q_30, n_31, n_32, (n_33, n_34))))]) [1, 2, 3, 0] rfl rfl
      exact g_iret hF hH ⟨(-4), (g_ad5 q_22 q_26 q_28 q_27 q_29, n_23, n_24, n_25), (some (q_30, n_31, n_32, (n_33, n_34))), rfl, rfl, hw⟩ dX0_strong_27
    · have hw := hw.2 c_35
      refine lv_aload_n hF.1.1 hF.1.2.1 dX0_strong_14 rfl (lv_at hl 0 rfl) ?_
      refine lv_iload_n hF.1.1 hF.1.2.1 dX0_strong_15 rfl (lv_at hl 1 rfl) ?_
      refine g_cV [.int a1] 1 rfl hF (met_X0_strongAt_S l hl0 d ob a1 hA tA lA gA q_22 oa n gB near n_23 q_30 q_26 q_28 q_27 n_31 n_24 n_25 n_32 q_29 n_33 n_34 _ hw) q830 q832 qs19 q92 q833 rfl rfl (by decide +kernel) ⟨Nat.le_of_ble_eq_true rfl, Nat.le_of_ble_eq_true rfl⟩ hH [0, 1, 2, 3, 4, 5, 6, 7] rfl rfl rfl 0 0 rfl rfl rfl hl.1 (Nat.le_of_ble_eq_true rfl) dX0_strong_16 ⟨(by first | exact Nat.le_of_ble_eq_true rfl | omega | (dsimp only; omega)), (by first | exact Nat.le_of_ble_eq_true rfl | omega | (dsimp only; omega))⟩ (fun v w1 H locs hq hH => ?_)
      obtain ⟨q_36, rfl, rfl, hw⟩ := hq
      have hH : g_HS d A s [[(ob, .inr (0, [.ref hA, .ref tA, .ref lA, .ref gA, .ref q_22, va_rf oa]))], [(gA, .inr (2, [.int n, .ref gB]))], [(gB, .inl (d.2.1 0, 10, .inl near))], [(q_22, .inr (4, [.ref (n_23 q_30), .ref q_26, .ref q_28]))], (g_AL d q_26 q_27 n_23 n_31), (g_T d n_23 n_24 n_25 n_32), [(q_28, .inr (1, [.ref q_29, .int n_33]))], [(q_29, .inl (d.2.1 2, 10, .inl n_34))]] H locs := hH
      refine W.eq (g2 := (F0 m 19 ls [.ref (n_23 q_36)])) rfl ?_
      obtain ⟨hk_37, hw⟩ := hw
      refine g_tset hF hH 5 rfl hk_37 q463 dX0_strong_19 ?_
      refine lv_goto (tgt := 27) hF.1.1 hF.1.2.1 dX0_strong_22 (by decide) ?_
      have hH := hH.sub (cs' := [[(q_22, .inr (4, [.ref (n_23 q_30), .ref q_26, .ref q_28]))], (g_AL d q_26 q_27 n_23 n_31), (g_T d n_23 n_24 n_25 n_32), [(q_28, .inr (1, [.ref q_29, .int n_33]))], [(q_29, .inl (d.2.1 2, 10, .inl n_34))], [(ob, .inr (0, [.ref hA, .ref tA, .ref lA, .ref gA, .ref q_22, va_rf oa]))], [(gA, .inr (2, [.int n, .ref gB]))], [(gB, .inl (d.2.1 0, 10, .inl near))]]) [3, 4, 5, 6, 7, 0, 1, 2] rfl rfl
      have hH := g_HS.closeF hH
      have hH : g_HS d A s [(g_FS d (g_ad5 q_22 q_26 q_28 q_27 q_29, n_23, n_24, n_25) (some (q_30, n_31, n_32, (n_33, n_34)))), [(ob, .inr (0, [.ref hA, .ref tA, .ref lA, .ref gA, .ref q_22, va_rf oa]))], [(gA, .inr (2, [.int n, .ref gB]))], [(gB, .inl (d.2.1 0, 10, .inl near))]] H _ := hH
      have hH := hH.sub (cs' := [[(ob, .inr (0, [.ref hA, .ref tA, .ref lA, .ref gA, .ref q_22, va_rf oa]))], [(gA, .inr (2, [.int n, .ref gB]))], [(gB, .inl (d.2.1 0, 10, .inl near))], (g_FS d (g_ad5 q_22 q_26 q_28 q_27 q_29, n_23, n_24, n_25) (some (q_30, n_31, n_32, (n_33, n_34))))]) [1, 2, 3, 0] rfl rfl
      exact g_iret hF hH ⟨(nI q_36), (g_ad5 q_22 q_26 q_28 q_27 q_29, n_23, n_24, n_25), (some (q_30, n_31, n_32, (n_33, n_34))), rfl, rfl, hw⟩ dX0_strong_27
  · have hw := hw.2 c_20
    refine lv_iconst (v := (-1)) hF.1.1 hF.1.2.1 dX0_strong_4 (by decide) ?_
    refine W.widen (k := 226) (n := 2978) (by first | exact Nat.le_of_ble_eq_true rfl | omega | (dsimp only; omega)) (by first | exact Nat.le_of_ble_eq_true rfl | omega | (dsimp only; omega)) ?_
    exact g_iret hF hH ⟨(-1), af, fo, rfl, rfl, hw⟩ dX0_strong_5

def wp_X0_parentOf_S (k : Nat) (n : Int32) (near : Nat → Int32) (rk : Nat) (ns : List Nat) (tc : g_TC) (vm : Int32) (vf : Nat → Int32) (Q : Int32 → Prop) : Prop := (wp_X0_forest_S n near ns tc vm vf (k ∈ tc.1 ∧ ((tc.2.1 k) = none → (wp_X4_numberOf_null ns tc (fun r_12 => (Q r_12)) (Q (-4)))) ∧ (∀ q_10, (tc.2.1 k) = some q_10 → (wp_X4_numberOf q_10 ns tc (fun r_14 => (Q r_14))))))
set_option maxHeartbeats 4000000 in
set_option maxRecDepth 100000 in
theorem met_X0_parentOf_S (l : Launch) (hl0 : l.stackTraces = false) (d : g_D) (ob : Nat) (tn : Nat → Nat) (k : Nat) (hA : Nat) (tA : Nat) (lA : Nat) (gA : Nat) (aF : Nat) (oa : Option Nat) (n : Int32) (gB : Nat) (near : Nat → Int32) (rk : Nat) (na : Nat) (va : Nat) (nb : Nat) (ns : List Nat) (tl : Nat → Nat) (tr : Nat → Nat) (tc : g_TC) (vb : Nat) (vm : Int32) (vf : Nat → Int32) (Q : Int32 → Prop) (hw : wp_X0_parentOf_S k n near rk ns tc vm vf Q) : g_MetW l d yX0_parentOf cX0_parentOf 3 (Option.some FieldType.int) [(0, 11, 12, 258)] ({ frames := 57, cells := 1, slots := 8, locals := 14465 } : Room) [.ref ob, .ref (tn k)] [[(ob, .inr (0, [.ref hA, .ref tA, .ref lA, .ref gA, .ref aF, va_rf oa]))], [(gA, .inr (2, [.int n, .ref gB]))], [(gB, .inl (d.2.1 0, 10, .inl near))], [(aF, .inr (4, [.ref (tn rk), .ref na, .ref va]))], (g_AL d na nb tn ns), (g_T d tn tl tr tc), [(va, .inr (1, [.ref vb, .int vm]))], [(vb, .inl (d.2.1 2, 10, .inl vf))]] 1 8 (fun v w1 => ∃ (r : Int32), v = some (.int r) ∧ w1 = [[(ob, .inr (0, [.ref hA, .ref tA, .ref lA, .ref gA, .ref aF, va_rf oa]))], [(gA, .inr (2, [.int n, .ref gB]))], [(gB, .inl (d.2.1 0, 10, .inl near))], [(aF, .inr (4, [.ref (tn rk), .ref na, .ref va]))], (g_AL d na nb tn ns), (g_T d tn tl tr tc), [(va, .inr (1, [.ref vb, .int vm]))], [(vb, .inl (d.2.1 2, 10, .inl vf))]] ∧ Q r) := by
  refine g_enterW (by decide) (Nat.le_of_ble_eq_true rfl) ?_
  intro p e s m args below meth c A ls htab hF hH hl
  have hF : g_F p m c cX0_parentOf 3 s args RX0 meth (Option.some FieldType.int) := hF
  have hl : lv_has ls 3 [(0, .ref ob), (1, .ref (tn k))] := hl
  unfold wp_X0_parentOf_S at hw
  refine lv_aload_n hF.1.1 hF.1.2.1 dX0_parentOf_0 rfl (lv_at hl 0 rfl) ?_
  refine g_cV [] 0 rfl hF (met_X0_forest_S l hl0 d ob hA tA lA gA aF oa n gB near tn rk na va nb ns tl tr tc vb vm vf _ hw) q402 q404 qs8 q92 q405 rfl rfl (by decide +kernel) ⟨Nat.le_of_ble_eq_true rfl, Nat.le_of_ble_eq_true rfl⟩ hH [0, 1, 2, 3, 4, 5, 6, 7] rfl rfl rfl 0 0 rfl rfl rfl hl.1 (Nat.le_of_ble_eq_true rfl) dX0_parentOf_1 ⟨(by first | exact Nat.le_of_ble_eq_true rfl | omega | (dsimp only; omega)), (by first | exact Nat.le_of_ble_eq_true rfl | omega | (dsimp only; omega))⟩ (fun v w1 H locs hq hH => ?_)
  obtain ⟨rfl, rfl, hw⟩ := hq
  have hH : g_HS d A s [[(ob, .inr (0, [.ref hA, .ref tA, .ref lA, .ref gA, .ref aF, va_rf oa]))], [(gA, .inr (2, [.int n, .ref gB]))], [(gB, .inl (d.2.1 0, 10, .inl near))], [(aF, .inr (4, [.ref (tn rk), .ref na, .ref va]))], (g_AL d na nb tn ns), (g_T d tn tl tr tc), [(va, .inr (1, [.ref vb, .int vm]))], [(vb, .inl (d.2.1 2, 10, .inl vf))]] H locs := hH
  refine W.eq (g2 := (F0 m 4 ls [.ref aF])) rfl ?_
  refine lv_aload_n hF.1.1 hF.1.2.1 dX0_parentOf_4 rfl (lv_at hl 1 rfl) ?_
  obtain ⟨hk_8, hw⟩ := hw
  refine g_tpar hF hH 5 rfl hk_8 q466 dX0_parentOf_5 ?_
  rcases Option.eq_none_or_eq_some (tc.2.1 k) with hz_11 | ⟨q_10, hz_11⟩
  · have hw := hw.1 hz_11
    refine W.eq (g2 := (F0 m 8 ls [.null, .ref aF])) (by rw [hz_11]; rfl) ?_
    refine g_cVX [.null] 1 rfl hF (met_X4_numberOf_null l hl0 d aF tn rk na va nb ns tl tr tc _ _ hw) q869 q870 q871 q104 q872 rfl rfl (by decide +kernel) ⟨Nat.le_of_ble_eq_true rfl, Nat.le_of_ble_eq_true rfl⟩ hH [3, 4, 5] rfl rfl rfl 0 0 rfl rfl rfl hl.1 (Nat.le_of_ble_eq_true rfl) dX0_parentOf_8 ⟨(by first | exact Nat.le_of_ble_eq_true rfl | omega | (dsimp only; omega)), (by first | exact Nat.le_of_ble_eq_true rfl | omega | (dsimp only; omega))⟩ (fun v w1 H locs hq hH => ?_) ?_
    · obtain ⟨r_12, rfl, rfl, hw⟩ := hq
      have hH : g_HS d A s [[(ob, .inr (0, [.ref hA, .ref tA, .ref lA, .ref gA, .ref aF, va_rf oa]))], [(gA, .inr (2, [.int n, .ref gB]))], [(gB, .inl (d.2.1 0, 10, .inl near))], [(va, .inr (1, [.ref vb, .int vm]))], [(vb, .inl (d.2.1 2, 10, .inl vf))], [(aF, .inr (4, [.ref (tn rk), .ref na, .ref va]))], (g_AL d na nb tn ns), (g_T d tn tl tr tc)] H locs := hH
      refine W.eq (g2 := (F0 m 11 ls [.int r_12])) rfl ?_
      refine W.widen (k := 1) (n := 8) (by first | exact Nat.le_of_ble_eq_true rfl | omega | (dsimp only; omega)) (by first | exact Nat.le_of_ble_eq_true rfl | omega | (dsimp only; omega)) ?_
      have hH := hH.sub (cs' := [[(ob, .inr (0, [.ref hA, .ref tA, .ref lA, .ref gA, .ref aF, va_rf oa]))], [(gA, .inr (2, [.int n, .ref gB]))], [(gB, .inl (d.2.1 0, 10, .inl near))], [(aF, .inr (4, [.ref (tn rk), .ref na, .ref va]))], (g_AL d na nb tn ns), (g_T d tn tl tr tc), [(va, .inr (1, [.ref vb, .int vm]))], [(vb, .inl (d.2.1 2, 10, .inl vf))]]) [0, 1, 2, 5, 6, 7, 3, 4] rfl rfl
      exact g_iret hF hH ⟨r_12, rfl, rfl, hw⟩ dX0_parentOf_11
    · intro E q_13 w1 H locs ce hx hH hce hcv hcc
      obtain ⟨rfl, rfl, hw⟩ := hx
      have hH : g_HS d A s [[(ob, .inr (0, [.ref hA, .ref tA, .ref lA, .ref gA, .ref aF, va_rf oa]))], [(gA, .inr (2, [.int n, .ref gB]))], [(gB, .inl (d.2.1 0, 10, .inl near))], [(va, .inr (1, [.ref vb, .int vm]))], [(vb, .inl (d.2.1 2, 10, .inl vf))], [(aF, .inr (4, [.ref (tn rk), .ref na, .ref va]))], (g_AL d na nb tn ns), (g_T d tn tl tr tc)] H locs := hH
      refine vx_catch (own := "GraphModules") (name := "java/lang/NullPointerException") (E := "java/lang/NullPointerException") hF.1.2.2.2.1 [] ⟨0, 11, 12, 258⟩ [] htab (fun z hz => nomatch hz) rfl (by decide) (hF.1.2.2.2.2 _ q844) (g_nwu hH q866 rfl rfl) hce hcv hcc ?_
      refine W.eq (g2 := (F0 m 12 ls [.ref q_13])) rfl ?_
      refine W.widen (k := 1) (n := 8) (by first | exact Nat.le_of_ble_eq_true rfl | omega | (dsimp only; omega)) (by first | exact Nat.le_of_ble_eq_true rfl | omega | (dsimp only; omega)) ?_
      refine lv_astore_n (lv' := [(2, .ref q_13), (0, .ref ob), (1, .ref (tn k))]) hF.1.1 hF.1.2.1 dX0_parentOf_12 rfl hl (by decide) rfl (fun ls hl => ?_)
      refine lv_bipush (v := (-4)) hF.1.1 hF.1.2.1 dX0_parentOf_13 (by decide) ?_
      have hH := hH.sub (cs' := [[(ob, .inr (0, [.ref hA, .ref tA, .ref lA, .ref gA, .ref aF, va_rf oa]))], [(gA, .inr (2, [.int n, .ref gB]))], [(gB, .inl (d.2.1 0, 10, .inl near))], [(aF, .inr (4, [.ref (tn rk), .ref na, .ref va]))], (g_AL d na nb tn ns), (g_T d tn tl tr tc), [(va, .inr (1, [.ref vb, .int vm]))], [(vb, .inl (d.2.1 2, 10, .inl vf))]]) [0, 1, 2, 5, 6, 7, 3, 4] rfl rfl
      exact g_iret hF hH ⟨(-4), rfl, rfl, hw⟩ dX0_parentOf_15
  · have hw := hw.2 q_10 hz_11
    refine W.eq (g2 := (F0 m 8 ls [.ref (tn q_10), .ref aF])) (by rw [hz_11]; rfl) ?_
    refine g_cV [.ref (tn q_10)] 1 rfl hF (met_X4_numberOf l hl0 d aF tn q_10 rk na va nb ns tl tr tc _ hw) q869 q870 q871 q104 q872 rfl rfl (by decide +kernel) ⟨Nat.le_of_ble_eq_true rfl, Nat.le_of_ble_eq_true rfl⟩ hH [3, 4, 5] rfl rfl rfl 0 0 rfl rfl rfl hl.1 (Nat.le_of_ble_eq_true rfl) dX0_parentOf_8 ⟨(by first | exact Nat.le_of_ble_eq_true rfl | omega | (dsimp only; omega)), (by first | exact Nat.le_of_ble_eq_true rfl | omega | (dsimp only; omega))⟩ (fun v w1 H locs hq hH => ?_)
    obtain ⟨r_14, rfl, rfl, hw⟩ := hq
    have hH : g_HS d A s [[(ob, .inr (0, [.ref hA, .ref tA, .ref lA, .ref gA, .ref aF, va_rf oa]))], [(gA, .inr (2, [.int n, .ref gB]))], [(gB, .inl (d.2.1 0, 10, .inl near))], [(va, .inr (1, [.ref vb, .int vm]))], [(vb, .inl (d.2.1 2, 10, .inl vf))], [(aF, .inr (4, [.ref (tn rk), .ref na, .ref va]))], (g_AL d na nb tn ns), (g_T d tn tl tr tc)] H locs := hH
    refine W.eq (g2 := (F0 m 11 ls [.int r_14])) rfl ?_
    refine W.widen (k := 1) (n := 8) (by first | exact Nat.le_of_ble_eq_true rfl | omega | (dsimp only; omega)) (by first | exact Nat.le_of_ble_eq_true rfl | omega | (dsimp only; omega)) ?_
    have hH := hH.sub (cs' := [[(ob, .inr (0, [.ref hA, .ref tA, .ref lA, .ref gA, .ref aF, va_rf oa]))], [(gA, .inr (2, [.int n, .ref gB]))], [(gB, .inl (d.2.1 0, 10, .inl near))], [(aF, .inr (4, [.ref (tn rk), .ref na, .ref va]))], (g_AL d na nb tn ns), (g_T d tn tl tr tc), [(va, .inr (1, [.ref vb, .int vm]))], [(vb, .inl (d.2.1 2, 10, .inl vf))]]) [0, 1, 2, 5, 6, 7, 3, 4] rfl rfl
    exact g_iret hF hH ⟨r_14, rfl, rfl, hw⟩ dX0_parentOf_11

def wp_X0_node (a1 : Int32) (a2 : Int32) (n : Int32) (near : Nat → Int32) (fo : Option g_FC) (Q : Int32 → (Option g_FC) → Prop) : Prop := (wp_X0_isStrong_O a1 n near fo (fun r_28 q_37 n_38 n_39 n_40 n_41 => ((r_28 = 0 → (Q (-1) (some (q_37, n_38, n_39, (n_40, n_41))))) ∧ (¬ r_28 = 0 → (wp_X0_inRange a2 0 3 (fun r_43 => ((¬ r_43 = 0 → (wp_X0_strongAt_S a1 n near q_37 n_38 n_39 n_40 n_41 (fun q_45 => ((a2 = 0 → (wp_X0_parentOf_S q_45 n near q_37 n_38 n_39 n_40 n_41 (fun r_49 => (Q r_49 (some (q_37, n_38, n_39, (n_40, n_41))))))) ∧ (a2 = 1 → (q_45 ∈ n_39.1 ∧ ((n_39.2.2.1 q_45) < 4 ∧ wp_K_ordinal (n_39.2.2.1 q_45) (fun r_52 => (Q r_52 (some (q_37, n_38, n_39, (n_40, n_41)))))))) ∧ (a2 = 2 → (wp_X0_children q_45 n_39 (fun r_53 => (Q r_53 (some (q_37, n_38, n_39, (n_40, n_41))))))) ∧ ((¬ a2 = 0 ∧ ¬ a2 = 1 ∧ ¬ a2 = 2) → (q_45 ∈ n_39.1 ∧ (wp_X5_depth q_45 n_39 (fun r_54 => (Q r_54 (some (q_37, n_38, n_39, (n_40, n_41)))))))))))) ∧ (r_43 = 0 → (Q (-1) (some (q_37, n_38, n_39, (n_40, n_41))))))))))))
set_option maxHeartbeats 4000000 in
set_option maxRecDepth 100000 in
theorem met_X0_node (l : Launch) (hl0 : l.stackTraces = false) (d : g_D) (ob : Nat) (a1 : Int32) (a2 : Int32) (hA : Nat) (tA : Nat) (lA : Nat) (gA : Nat) (oa : Option Nat) (n : Int32) (gB : Nat) (near : Nat → Int32) (af : g_FA) (fo : Option g_FC) (Q : Int32 → (Option g_FC) → Prop) (hw : wp_X0_node a1 a2 n near fo Q) : g_Met l d yX0_node cX0_node 4 (Option.some FieldType.int) ({ frames := 58, cells := 227, slots := 2986, locals := 14487 } : Room) [.ref ob, .int a1, .int a2] [[(ob, .inr (0, [.ref hA, .ref tA, .ref lA, .ref gA, va_rf (g_fa af fo), va_rf oa]))], [(gA, .inr (2, [.int n, .ref gB]))], [(gB, .inl (d.2.1 0, 10, .inl near))], (g_FS d af fo)] 227 2986 (fun v w1 => ∃ (r : Int32) (af2 : g_FA) (fo2 : Option g_FC), v = some (.int r) ∧ w1 = [[(ob, .inr (0, [.ref hA, .ref tA, .ref lA, .ref gA, va_rf (g_fa af2 fo2), va_rf oa]))], [(gA, .inr (2, [.int n, .ref gB]))], [(gB, .inl (d.2.1 0, 10, .inl near))], (g_FS d af2 fo2)] ∧ Q r fo2) := by
  refine g_enter (by decide) (Nat.le_of_ble_eq_true rfl) ?_
  intro p e s m args below meth c A ls hF hH hl hin
  have hF : g_F p m c cX0_node 4 s args RX0 meth (Option.some FieldType.int) := hF
  have hl : lv_has ls 4 [(0, .ref ob), (1, .int a1), (2, .int a2)] := hl
  unfold wp_X0_node at hw
  refine lv_aload_n hF.1.1 hF.1.2.1 dX0_node_0 rfl (lv_at hl 0 rfl) ?_
  refine lv_iload_n hF.1.1 hF.1.2.1 dX0_node_1 rfl (lv_at hl 1 rfl) ?_
  refine g_cV [.int a1] 1 rfl hF (met_X0_isStrong_O l hl0 d ob a1 hA tA lA gA oa n gB near af fo _ hw) q826 q828 qs18 q92 q829 rfl rfl (by decide +kernel) ⟨Nat.le_of_ble_eq_true rfl, Nat.le_of_ble_eq_true rfl⟩ hH [0, 1, 2, 3] rfl rfl rfl 0 0 rfl rfl rfl hl.1 (Nat.le_of_ble_eq_true rfl) dX0_node_2 ⟨(by first | exact Nat.le_of_ble_eq_true rfl | omega | (dsimp only; omega)), (by first | exact Nat.le_of_ble_eq_true rfl | omega | (dsimp only; omega))⟩ (fun v w1 H locs hq hH => ?_)
  obtain ⟨r_28, q_29, n_30, n_31, n_32, q_33, q_34, q_35, q_36, q_37, n_38, n_39, n_40, n_41, rfl, rfl, hw⟩ := hq
  have hH : g_HS d A s [[(ob, .inr (0, [.ref hA, .ref tA, .ref lA, .ref gA, .ref q_29, va_rf oa]))], [(gA, .inr (2, [.int n, .ref gB]))], [(gB, .inl (d.2.1 0, 10, .inl near))], [(q_29, .inr (4, [.ref (n_30 q_37), .ref q_33, .ref q_35]))], (g_AL d q_33 q_34 n_30 n_38), (g_T d n_30 n_31 n_32 n_39), [(q_35, .inr (1, [.ref q_36, .int n_40]))], [(q_36, .inl (d.2.1 2, 10, .inl n_41))]] H locs := hH
  refine W.eq (g2 := (F0 m 5 ls [.int r_28])) rfl ?_
  refine W.widen (k := 226) (n := 2978) (by first | exact Nat.le_of_ble_eq_true rfl | omega | (dsimp only; omega)) (by first | exact Nat.le_of_ble_eq_true rfl | omega | (dsimp only; omega)) ?_
  refine lv_if_eq (tgt := 17) hF.1.1 hF.1.2.1 dX0_node_5 (by decide) (fun c_42 => ?_) (fun c_42 => ?_)
  · have hw := hw.1 c_42
    refine lv_iconst (v := (-1)) hF.1.1 hF.1.2.1 dX0_node_17 (by decide) ?_
    have hH := hH.sub (cs' := [[(q_29, .inr (4, [.ref (n_30 q_37), .ref q_33, .ref q_35]))], (g_AL d q_33 q_34 n_30 n_38), (g_T d n_30 n_31 n_32 n_39), [(q_35, .inr (1, [.ref q_36, .int n_40]))], [(q_36, .inl (d.2.1 2, 10, .inl n_41))], [(ob, .inr (0, [.ref hA, .ref tA, .ref lA, .ref gA, .ref q_29, va_rf oa]))], [(gA, .inr (2, [.int n, .ref gB]))], [(gB, .inl (d.2.1 0, 10, .inl near))]]) [3, 4, 5, 6, 7, 0, 1, 2] rfl rfl
    have hH := g_HS.closeF hH
    have hH : g_HS d A s [(g_FS d (g_ad5 q_29 q_33 q_35 q_34 q_36, n_30, n_31, n_32) (some (q_37, n_38, n_39, (n_40, n_41)))), [(ob, .inr (0, [.ref hA, .ref tA, .ref lA, .ref gA, .ref q_29, va_rf oa]))], [(gA, .inr (2, [.int n, .ref gB]))], [(gB, .inl (d.2.1 0, 10, .inl near))]] H _ := hH
    refine W.widen (k := 227) (n := 2986) (by first | exact Nat.le_of_ble_eq_true rfl | omega | (dsimp only; omega)) (by first | exact Nat.le_of_ble_eq_true rfl | omega | (dsimp only; omega)) ?_
    have hH := hH.sub (cs' := [[(ob, .inr (0, [.ref hA, .ref tA, .ref lA, .ref gA, .ref q_29, va_rf oa]))], [(gA, .inr (2, [.int n, .ref gB]))], [(gB, .inl (d.2.1 0, 10, .inl near))], (g_FS d (g_ad5 q_29 q_33 q_35 q_34 q_36, n_30, n_31, n_32) (some (q_37, n_38, n_39, (n_40, n_41))))]) [1, 2, 3, 0] rfl rfl
    exact g_iret hF hH ⟨(-1), (g_ad5 q_29 q_33 q_35 q_34 q_36, n_30, n_31, n_32), (some (q_37, n_38, n_39, (n_40, n_41))), rfl, rfl, hw⟩ dX0_node_18
  · have hw := hw.2 c_42
    refine lv_iload_n hF.1.1 hF.1.2.1 dX0_node_8 rfl (lv_at hl 2 rfl) ?_
    refine lv_iconst (v := 0) hF.1.1 hF.1.2.1 dX0_node_9 (by decide) ?_
    refine lv_iconst (v := 3) hF.1.1 hF.1.2.1 dX0_node_10 (by decide) ?_
    refine g_cS [.int a2, .int 0, .int 3] 3 rfl hF (met_X0_inRange l hl0 d a2 0 3 _ hw) q206 q207 q92 q208 rfl rfl (by decide +kernel) ⟨Nat.le_of_ble_eq_true rfl, Nat.le_of_ble_eq_true rfl⟩ hH [] rfl rfl rfl hl.1 (Nat.le_of_ble_eq_true rfl) dX0_node_11 ⟨(by first | exact Nat.le_of_ble_eq_true rfl | omega | (dsimp only; omega)), (by first | exact Nat.le_of_ble_eq_true rfl | omega | (dsimp only; omega))⟩ (fun v w1 H locs hq hH => ?_)
    obtain ⟨r_43, rfl, rfl, hw⟩ := hq
    have hH : g_HS d A s [[(ob, .inr (0, [.ref hA, .ref tA, .ref lA, .ref gA, .ref q_29, va_rf oa]))], [(gA, .inr (2, [.int n, .ref gB]))], [(gB, .inl (d.2.1 0, 10, .inl near))], [(q_29, .inr (4, [.ref (n_30 q_37), .ref q_33, .ref q_35]))], (g_AL d q_33 q_34 n_30 n_38), (g_T d n_30 n_31 n_32 n_39), [(q_35, .inr (1, [.ref q_36, .int n_40]))], [(q_36, .inl (d.2.1 2, 10, .inl n_41))]] H locs := hH
    refine W.eq (g2 := (F0 m 14 ls [.int r_43])) rfl ?_
    refine lv_if_ne (tgt := 19) hF.1.1 hF.1.2.1 dX0_node_14 (by decide) (fun c_44 => ?_) (fun c_44 => ?_)
    · have hw := hw.1 c_44
      refine lv_aload_n hF.1.1 hF.1.2.1 dX0_node_19 rfl (lv_at hl 0 rfl) ?_
      refine lv_iload_n hF.1.1 hF.1.2.1 dX0_node_20 rfl (lv_at hl 1 rfl) ?_
      refine g_cV [.int a1] 1 rfl hF (met_X0_strongAt_S l hl0 d ob a1 hA tA lA gA q_29 oa n gB near n_30 q_37 q_33 q_35 q_34 n_38 n_31 n_32 n_39 q_36 n_40 n_41 _ hw) q830 q832 qs19 q92 q833 rfl rfl (by decide +kernel) ⟨Nat.le_of_ble_eq_true rfl, Nat.le_of_ble_eq_true rfl⟩ hH [0, 1, 2, 3, 4, 5, 6, 7] rfl rfl rfl 0 0 rfl rfl rfl hl.1 (Nat.le_of_ble_eq_true rfl) dX0_node_21 ⟨(by first | exact Nat.le_of_ble_eq_true rfl | omega | (dsimp only; omega)), (by first | exact Nat.le_of_ble_eq_true rfl | omega | (dsimp only; omega))⟩ (fun v w1 H locs hq hH => ?_)
      obtain ⟨q_45, rfl, rfl, hw⟩ := hq
      have hH : g_HS d A s [[(ob, .inr (0, [.ref hA, .ref tA, .ref lA, .ref gA, .ref q_29, va_rf oa]))], [(gA, .inr (2, [.int n, .ref gB]))], [(gB, .inl (d.2.1 0, 10, .inl near))], [(q_29, .inr (4, [.ref (n_30 q_37), .ref q_33, .ref q_35]))], (g_AL d q_33 q_34 n_30 n_38), (g_T d n_30 n_31 n_32 n_39), [(q_35, .inr (1, [.ref q_36, .int n_40]))], [(q_36, .inl (d.2.1 2, 10, .inl n_41))]] H locs := hH
      refine W.eq (g2 := (F0 m 24 ls [.ref (n_30 q_45)])) rfl ?_
      refine lv_astore_n (lv' := [(3, .ref (n_30 q_45)), (0, .ref ob), (1, .int a1), (2, .int a2)]) hF.1.1 hF.1.2.1 dX0_node_24 rfl hl (by decide) rfl (fun ls hl => ?_)
      refine lv_iload_n hF.1.1 hF.1.2.1 dX0_node_25 rfl (lv_at hl 3 rfl) ?_
      by_cases c_46 : a2 = 0
      · have hw := hw.1 c_46
        refine lv_tableIn (tgt := 52) (off := 26) hF.1.1 hF.1.2.1 dX0_node_26 (by rw [c_46]; decide) (by rw [c_46]; decide) (by rw [c_46]; rfl) (by decide) ?_
        refine lv_aload_n hF.1.1 hF.1.2.1 dX0_node_52 rfl (lv_at hl 1 rfl) ?_
        refine lv_aload_n hF.1.1 hF.1.2.1 dX0_node_53 rfl (lv_at hl 0 rfl) ?_
        refine g_cVW [.ref (n_30 q_45)] 1 rfl hF (met_X0_parentOf_S l hl0 d ob n_30 q_45 hA tA lA gA q_29 oa n gB near q_37 q_33 q_35 q_34 n_38 n_31 n_32 n_39 q_36 n_40 n_41 _ hw) q840 q842 qs20 q92 q843 rfl rfl (by decide +kernel) ⟨Nat.le_of_ble_eq_true rfl, Nat.le_of_ble_eq_true rfl⟩ hH [0, 1, 2, 3, 4, 5, 6, 7] rfl rfl rfl 0 0 rfl rfl rfl hl.1 (Nat.le_of_ble_eq_true rfl) dX0_node_54 ⟨(by first | exact Nat.le_of_ble_eq_true rfl | omega | (dsimp only; omega)), (by first | exact Nat.le_of_ble_eq_true rfl | omega | (dsimp only; omega))⟩ (fun v w1 H locs hq hH => ?_)
        obtain ⟨r_49, rfl, rfl, hw⟩ := hq
        have hH : g_HS d A s [[(ob, .inr (0, [.ref hA, .ref tA, .ref lA, .ref gA, .ref q_29, va_rf oa]))], [(gA, .inr (2, [.int n, .ref gB]))], [(gB, .inl (d.2.1 0, 10, .inl near))], [(q_29, .inr (4, [.ref (n_30 q_37), .ref q_33, .ref q_35]))], (g_AL d q_33 q_34 n_30 n_38), (g_T d n_30 n_31 n_32 n_39), [(q_35, .inr (1, [.ref q_36, .int n_40]))], [(q_36, .inl (d.2.1 2, 10, .inl n_41))]] H locs := hH
        refine W.eq (g2 := (F0 m 57 ls [.int r_49])) rfl ?_
        refine W.widen (k := 227) (n := 2986) (by first | exact Nat.le_of_ble_eq_true rfl | omega | (dsimp only; omega)) (by first | exact Nat.le_of_ble_eq_true rfl | omega | (dsimp only; omega)) ?_
        refine lv_goto (tgt := 81) hF.1.1 hF.1.2.1 dX0_node_57 (by decide) ?_
        have hH := hH.sub (cs' := [[(q_29, .inr (4, [.ref (n_30 q_37), .ref q_33, .ref q_35]))], (g_AL d q_33 q_34 n_30 n_38), (g_T d n_30 n_31 n_32 n_39), [(q_35, .inr (1, [.ref q_36, .int n_40]))], [(q_36, .inl (d.2.1 2, 10, .inl n_41))], [(ob, .inr (0, [.ref hA, .ref tA, .ref lA, .ref gA, .ref q_29, va_rf oa]))], [(gA, .inr (2, [.int n, .ref gB]))], [(gB, .inl (d.2.1 0, 10, .inl near))]]) [3, 4, 5, 6, 7, 0, 1, 2] rfl rfl
        have hH := g_HS.closeF hH
        have hH : g_HS d A s [(g_FS d (g_ad5 q_29 q_33 q_35 q_34 q_36, n_30, n_31, n_32) (some (q_37, n_38, n_39, (n_40, n_41)))), [(ob, .inr (0, [.ref hA, .ref tA, .ref lA, .ref gA, .ref q_29, va_rf oa]))], [(gA, .inr (2, [.int n, .ref gB]))], [(gB, .inl (d.2.1 0, 10, .inl near))]] H _ := hH
        have hH := hH.sub (cs' := [[(ob, .inr (0, [.ref hA, .ref tA, .ref lA, .ref gA, .ref q_29, va_rf oa]))], [(gA, .inr (2, [.int n, .ref gB]))], [(gB, .inl (d.2.1 0, 10, .inl near))], (g_FS d (g_ad5 q_29 q_33 q_35 q_34 q_36, n_30, n_31, n_32) (some (q_37, n_38, n_39, (n_40, n_41))))]) [1, 2, 3, 0] rfl rfl
        exact g_iret hF hH ⟨r_49, (g_ad5 q_29 q_33 q_35 q_34 q_36, n_30, n_31, n_32), (some (q_37, n_38, n_39, (n_40, n_41))), rfl, rfl, hw⟩ dX0_node_81
      by_cases c_47 : a2 = 1
      · have hw := hw.2.1 c_47
        refine lv_tableIn (tgt := 60) (off := 34) hF.1.1 hF.1.2.1 dX0_node_26 (by rw [c_47]; decide) (by rw [c_47]; decide) (by rw [c_47]; rfl) (by decide) ?_
        refine lv_aload_n hF.1.1 hF.1.2.1 dX0_node_60 rfl (lv_at hl 0 rfl) ?_
        obtain ⟨hk_50, hw⟩ := hw
        refine g_tkind hl0 hF hH 5 rfl hk_50 q873 hl.1 (Nat.le_of_ble_eq_true rfl) dX0_node_61 (Nat.le_of_ble_eq_true rfl) (Nat.le_of_ble_eq_true rfl) (by first | exact Nat.le_of_ble_eq_true rfl | omega | (dsimp only; omega)) (by first | exact Nat.le_of_ble_eq_true rfl | omega | (dsimp only; omega)) (fun H locs hH => ?_)
        have hH : g_HS d A s [[(ob, .inr (0, [.ref hA, .ref tA, .ref lA, .ref gA, .ref q_29, va_rf oa]))], [(gA, .inr (2, [.int n, .ref gB]))], [(gB, .inl (d.2.1 0, 10, .inl near))], [(q_29, .inr (4, [.ref (n_30 q_37), .ref q_33, .ref q_35]))], (g_AL d q_33 q_34 n_30 n_38), (g_T d n_30 n_31 n_32 n_39), [(q_35, .inr (1, [.ref q_36, .int n_40]))], [(q_36, .inl (d.2.1 2, 10, .inl n_41))]] H locs := hH
        refine W.eq (g2 := (F0 m 64 ls [.ref (d.2.2 (n_39.2.2.1 q_45))])) rfl ?_
        obtain ⟨hk_51, hw⟩ := hw
        refine g_cK_ordinal hl0 hF hH hk_51 hw hl.1 (Nat.le_of_ble_eq_true rfl) dX0_node_64 (Nat.le_of_ble_eq_true rfl) (Nat.le_of_ble_eq_true rfl) (by first | exact Nat.le_of_ble_eq_true rfl | omega | (dsimp only; omega)) (by first | exact Nat.le_of_ble_eq_true rfl | omega | (dsimp only; omega)) (fun r_52 H locs hw hH => ?_)
        have hH : g_HS d A s [[(ob, .inr (0, [.ref hA, .ref tA, .ref lA, .ref gA, .ref q_29, va_rf oa]))], [(gA, .inr (2, [.int n, .ref gB]))], [(gB, .inl (d.2.1 0, 10, .inl near))], [(q_29, .inr (4, [.ref (n_30 q_37), .ref q_33, .ref q_35]))], (g_AL d q_33 q_34 n_30 n_38), (g_T d n_30 n_31 n_32 n_39), [(q_35, .inr (1, [.ref q_36, .int n_40]))], [(q_36, .inl (d.2.1 2, 10, .inl n_41))]] H locs := hH
        refine W.eq (g2 := (F0 m 67 ls [.int r_52])) rfl ?_
        refine lv_goto (tgt := 81) hF.1.1 hF.1.2.1 dX0_node_67 (by decide) ?_
        have hH := hH.sub (cs' := [[(q_29, .inr (4, [.ref (n_30 q_37), .ref q_33, .ref q_35]))], (g_AL d q_33 q_34 n_30 n_38), (g_T d n_30 n_31 n_32 n_39), [(q_35, .inr (1, [.ref q_36, .int n_40]))], [(q_36, .inl (d.2.1 2, 10, .inl n_41))], [(ob, .inr (0, [.ref hA, .ref tA, .ref lA, .ref gA, .ref q_29, va_rf oa]))], [(gA, .inr (2, [.int n, .ref gB]))], [(gB, .inl (d.2.1 0, 10, .inl near))]]) [3, 4, 5, 6, 7, 0, 1, 2] rfl rfl
        have hH := g_HS.closeF hH
        have hH : g_HS d A s [(g_FS d (g_ad5 q_29 q_33 q_35 q_34 q_36, n_30, n_31, n_32) (some (q_37, n_38, n_39, (n_40, n_41)))), [(ob, .inr (0, [.ref hA, .ref tA, .ref lA, .ref gA, .ref q_29, va_rf oa]))], [(gA, .inr (2, [.int n, .ref gB]))], [(gB, .inl (d.2.1 0, 10, .inl near))]] H _ := hH
        refine W.widen (k := 227) (n := 2986) (by first | exact Nat.le_of_ble_eq_true rfl | omega | (dsimp only; omega)) (by first | exact Nat.le_of_ble_eq_true rfl | omega | (dsimp only; omega)) ?_
        have hH := hH.sub (cs' := [[(ob, .inr (0, [.ref hA, .ref tA, .ref lA, .ref gA, .ref q_29, va_rf oa]))], [(gA, .inr (2, [.int n, .ref gB]))], [(gB, .inl (d.2.1 0, 10, .inl near))], (g_FS d (g_ad5 q_29 q_33 q_35 q_34 q_36, n_30, n_31, n_32) (some (q_37, n_38, n_39, (n_40, n_41))))]) [1, 2, 3, 0] rfl rfl
        exact g_iret hF hH ⟨r_52, (g_ad5 q_29 q_33 q_35 q_34 q_36, n_30, n_31, n_32), (some (q_37, n_38, n_39, (n_40, n_41))), rfl, rfl, hw⟩ dX0_node_81
      by_cases c_48 : a2 = 2
      · have hw := hw.2.2.1 c_48
        refine lv_tableIn (tgt := 70) (off := 44) hF.1.1 hF.1.2.1 dX0_node_26 (by rw [c_48]; decide) (by rw [c_48]; decide) (by rw [c_48]; rfl) (by decide) ?_
        refine lv_aload_n hF.1.1 hF.1.2.1 dX0_node_70 rfl (lv_at hl 0 rfl) ?_
        refine g_cS [.ref (n_30 q_45)] 1 rfl hF (met_X0_children l hl0 d n_30 q_45 n_31 n_32 n_39 _ hw) q883 q884 q92 q885 rfl rfl (by decide +kernel) ⟨Nat.le_of_ble_eq_true rfl, Nat.le_of_ble_eq_true rfl⟩ hH [5] rfl rfl rfl hl.1 (Nat.le_of_ble_eq_true rfl) dX0_node_71 ⟨(by first | exact Nat.le_of_ble_eq_true rfl | omega | (dsimp only; omega)), (by first | exact Nat.le_of_ble_eq_true rfl | omega | (dsimp only; omega))⟩ (fun v w1 H locs hq hH => ?_)
        obtain ⟨r_53, rfl, rfl, hw⟩ := hq
        have hH : g_HS d A s [[(ob, .inr (0, [.ref hA, .ref tA, .ref lA, .ref gA, .ref q_29, va_rf oa]))], [(gA, .inr (2, [.int n, .ref gB]))], [(gB, .inl (d.2.1 0, 10, .inl near))], [(q_29, .inr (4, [.ref (n_30 q_37), .ref q_33, .ref q_35]))], (g_AL d q_33 q_34 n_30 n_38), [(q_35, .inr (1, [.ref q_36, .int n_40]))], [(q_36, .inl (d.2.1 2, 10, .inl n_41))], (g_T d n_30 n_31 n_32 n_39)] H locs := hH
        refine W.eq (g2 := (F0 m 74 ls [.int r_53])) rfl ?_
        refine lv_goto (tgt := 81) hF.1.1 hF.1.2.1 dX0_node_74 (by decide) ?_
        have hH := hH.sub (cs' := [[(q_29, .inr (4, [.ref (n_30 q_37), .ref q_33, .ref q_35]))], (g_AL d q_33 q_34 n_30 n_38), (g_T d n_30 n_31 n_32 n_39), [(q_35, .inr (1, [.ref q_36, .int n_40]))], [(q_36, .inl (d.2.1 2, 10, .inl n_41))], [(ob, .inr (0, [.ref hA, .ref tA, .ref lA, .ref gA, .ref q_29, va_rf oa]))], [(gA, .inr (2, [.int n, .ref gB]))], [(gB, .inl (d.2.1 0, 10, .inl near))]]) [3, 4, 7, 5, 6, 0, 1, 2] rfl rfl
        have hH := g_HS.closeF hH
        have hH : g_HS d A s [(g_FS d (g_ad5 q_29 q_33 q_35 q_34 q_36, n_30, n_31, n_32) (some (q_37, n_38, n_39, (n_40, n_41)))), [(ob, .inr (0, [.ref hA, .ref tA, .ref lA, .ref gA, .ref q_29, va_rf oa]))], [(gA, .inr (2, [.int n, .ref gB]))], [(gB, .inl (d.2.1 0, 10, .inl near))]] H _ := hH
        refine W.widen (k := 227) (n := 2986) (by first | exact Nat.le_of_ble_eq_true rfl | omega | (dsimp only; omega)) (by first | exact Nat.le_of_ble_eq_true rfl | omega | (dsimp only; omega)) ?_
        have hH := hH.sub (cs' := [[(ob, .inr (0, [.ref hA, .ref tA, .ref lA, .ref gA, .ref q_29, va_rf oa]))], [(gA, .inr (2, [.int n, .ref gB]))], [(gB, .inl (d.2.1 0, 10, .inl near))], (g_FS d (g_ad5 q_29 q_33 q_35 q_34 q_36, n_30, n_31, n_32) (some (q_37, n_38, n_39, (n_40, n_41))))]) [1, 2, 3, 0] rfl rfl
        exact g_iret hF hH ⟨r_53, (g_ad5 q_29 q_33 q_35 q_34 q_36, n_30, n_31, n_32), (some (q_37, n_38, n_39, (n_40, n_41))), rfl, rfl, hw⟩ dX0_node_81
      have hw := hw.2.2.2 ⟨c_46, c_47, c_48⟩
      refine lv_tableOut (tgt := 77) hF.1.1 hF.1.2.1 dX0_node_26 (by have := lv_neT (a := 0) c_46 rfl; have := lv_neT (a := 1) c_47 rfl; have := lv_neT (a := 2) c_48 rfl; omega) (by decide) ?_
      refine lv_aload_n hF.1.1 hF.1.2.1 dX0_node_77 rfl (lv_at hl 0 rfl) ?_
      obtain ⟨hk_C, hw⟩ := hw
      obtain ⟨C9, hrv, hsl⟩ := g_trs hF hH 5 rfl hk_C q746 q745
      refine g_cG (x := ⟨"GraphModules$Tree", "depth", "()I"⟩) (owner := "GraphModules$Tree") [] 0 rfl hF (met_X5_depth l hl0 d n_30 q_45 n_31 n_32 n_39 _ hw) q886 q744 (va_Decl.of (hF.1.2.2.2.2 _ q743) (hF.1.2.2.2.2 _ q747)) q743 q108 q747 rfl rfl (by decide +kernel) ⟨Nat.le_of_ble_eq_true rfl, Nat.le_of_ble_eq_true rfl⟩ hH [5] rfl rfl rfl (C := C9) hrv hsl hl.1 (Nat.le_of_ble_eq_true rfl) dX0_node_78 ⟨(by first | exact Nat.le_of_ble_eq_true rfl | omega | (dsimp only; omega)), (by first | exact Nat.le_of_ble_eq_true rfl | omega | (dsimp only; omega))⟩ (fun v w1 H locs hq hH => ?_)
      obtain ⟨r_54, rfl, rfl, hw⟩ := hq
      have hH : g_HS d A s [[(ob, .inr (0, [.ref hA, .ref tA, .ref lA, .ref gA, .ref q_29, va_rf oa]))], [(gA, .inr (2, [.int n, .ref gB]))], [(gB, .inl (d.2.1 0, 10, .inl near))], [(q_29, .inr (4, [.ref (n_30 q_37), .ref q_33, .ref q_35]))], (g_AL d q_33 q_34 n_30 n_38), [(q_35, .inr (1, [.ref q_36, .int n_40]))], [(q_36, .inl (d.2.1 2, 10, .inl n_41))], (g_T d n_30 n_31 n_32 n_39)] H locs := hH
      refine W.eq (g2 := (F0 m 81 ls [.int r_54])) rfl ?_
      have hH := hH.sub (cs' := [[(q_29, .inr (4, [.ref (n_30 q_37), .ref q_33, .ref q_35]))], (g_AL d q_33 q_34 n_30 n_38), (g_T d n_30 n_31 n_32 n_39), [(q_35, .inr (1, [.ref q_36, .int n_40]))], [(q_36, .inl (d.2.1 2, 10, .inl n_41))], [(ob, .inr (0, [.ref hA, .ref tA, .ref lA, .ref gA, .ref q_29, va_rf oa]))], [(gA, .inr (2, [.int n, .ref gB]))], [(gB, .inl (d.2.1 0, 10, .inl near))]]) [3, 4, 7, 5, 6, 0, 1, 2] rfl rfl
      have hH := g_HS.closeF hH
      have hH : g_HS d A s [(g_FS d (g_ad5 q_29 q_33 q_35 q_34 q_36, n_30, n_31, n_32) (some (q_37, n_38, n_39, (n_40, n_41)))), [(ob, .inr (0, [.ref hA, .ref tA, .ref lA, .ref gA, .ref q_29, va_rf oa]))], [(gA, .inr (2, [.int n, .ref gB]))], [(gB, .inl (d.2.1 0, 10, .inl near))]] H _ := hH
      refine W.widen (k := 227) (n := 2986) (by first | exact Nat.le_of_ble_eq_true rfl | omega | (dsimp only; omega)) (by first | exact Nat.le_of_ble_eq_true rfl | omega | (dsimp only; omega)) ?_
      have hH := hH.sub (cs' := [[(ob, .inr (0, [.ref hA, .ref tA, .ref lA, .ref gA, .ref q_29, va_rf oa]))], [(gA, .inr (2, [.int n, .ref gB]))], [(gB, .inl (d.2.1 0, 10, .inl near))], (g_FS d (g_ad5 q_29 q_33 q_35 q_34 q_36, n_30, n_31, n_32) (some (q_37, n_38, n_39, (n_40, n_41))))]) [1, 2, 3, 0] rfl rfl
      exact g_iret hF hH ⟨r_54, (g_ad5 q_29 q_33 q_35 q_34 q_36, n_30, n_31, n_32), (some (q_37, n_38, n_39, (n_40, n_41))), rfl, rfl, hw⟩ dX0_node_81
    · have hw := hw.2 c_44
      refine lv_iconst (v := (-1)) hF.1.1 hF.1.2.1 dX0_node_17 (by decide) ?_
      have hH := hH.sub (cs' := [[(q_29, .inr (4, [.ref (n_30 q_37), .ref q_33, .ref q_35]))], (g_AL d q_33 q_34 n_30 n_38), (g_T d n_30 n_31 n_32 n_39), [(q_35, .inr (1, [.ref q_36, .int n_40]))], [(q_36, .inl (d.2.1 2, 10, .inl n_41))], [(ob, .inr (0, [.ref hA, .ref tA, .ref lA, .ref gA, .ref q_29, va_rf oa]))], [(gA, .inr (2, [.int n, .ref gB]))], [(gB, .inl (d.2.1 0, 10, .inl near))]]) [3, 4, 5, 6, 7, 0, 1, 2] rfl rfl
      have hH := g_HS.closeF hH
      have hH : g_HS d A s [(g_FS d (g_ad5 q_29 q_33 q_35 q_34 q_36, n_30, n_31, n_32) (some (q_37, n_38, n_39, (n_40, n_41)))), [(ob, .inr (0, [.ref hA, .ref tA, .ref lA, .ref gA, .ref q_29, va_rf oa]))], [(gA, .inr (2, [.int n, .ref gB]))], [(gB, .inl (d.2.1 0, 10, .inl near))]] H _ := hH
      refine W.widen (k := 227) (n := 2986) (by first | exact Nat.le_of_ble_eq_true rfl | omega | (dsimp only; omega)) (by first | exact Nat.le_of_ble_eq_true rfl | omega | (dsimp only; omega)) ?_
      have hH := hH.sub (cs' := [[(ob, .inr (0, [.ref hA, .ref tA, .ref lA, .ref gA, .ref q_29, va_rf oa]))], [(gA, .inr (2, [.int n, .ref gB]))], [(gB, .inl (d.2.1 0, 10, .inl near))], (g_FS d (g_ad5 q_29 q_33 q_35 q_34 q_36, n_30, n_31, n_32) (some (q_37, n_38, n_39, (n_40, n_41))))]) [1, 2, 3, 0] rfl rfl
      exact g_iret hF hH ⟨(-1), (g_ad5 q_29 q_33 q_35 q_34 q_36, n_30, n_31, n_32), (some (q_37, n_38, n_39, (n_40, n_41))), rfl, rfl, hw⟩ dX0_node_18

def wp_X0_child (a1 : Int32) (a2 : Int32) (n : Int32) (near : Nat → Int32) (fo : Option g_FC) (Q : Int32 → (Option g_FC) → Prop) : Prop := (wp_X0_isStrong_O a1 n near fo (fun r_28 q_37 n_38 n_39 n_40 n_41 => ((r_28 = 0 → (Q (-1) (some (q_37, n_38, n_39, (n_40, n_41))))) ∧ (¬ r_28 = 0 → ((0 ≤ a2 → (wp_X0_strongAt_S a1 n near q_37 n_38 n_39 n_40 n_41 (fun q_44 => (wp_X0_children q_44 n_39 (fun r_45 => ((r_45 ≤ a2 → (Q (-4) (some (q_37, n_38, n_39, (n_40, n_41))))) ∧ (¬ r_45 ≤ a2 → (wp_X0_forest_S n near n_38 n_39 n_40 n_41 (q_44 ∈ n_39.1 ∧ n_39.2.2.1 q_44 ≠ 0 ∧ (q_44 ∈ n_39.1 ∧ n_39.2.2.1 q_44 ≠ 0 ∧ (wp_J10_get_T a2 n_39 q_44 (fun q_51 => (q_51 ∈ n_39.1 ∧ (wp_X4_numberOf q_51 n_38 n_39 (fun r_54 => (Q r_54 (some (q_37, n_38, n_39, (n_40, n_41))))))))))))))))))) ∧ (¬ 0 ≤ a2 → (Q (-1) (some (q_37, n_38, n_39, (n_40, n_41))))))))))
set_option maxHeartbeats 4000000 in
set_option maxRecDepth 100000 in
theorem met_X0_child (l : Launch) (hl0 : l.stackTraces = false) (d : g_D) (ob : Nat) (a1 : Int32) (a2 : Int32) (hA : Nat) (tA : Nat) (lA : Nat) (gA : Nat) (oa : Option Nat) (n : Int32) (gB : Nat) (near : Nat → Int32) (af : g_FA) (fo : Option g_FC) (Q : Int32 → (Option g_FC) → Prop) (hw : wp_X0_child a1 a2 n near fo Q) : g_Met l d yX0_child cX0_child 4 (Option.some FieldType.int) ({ frames := 58, cells := 226, slots := 2978, locals := 14486 } : Room) [.ref ob, .int a1, .int a2] [[(ob, .inr (0, [.ref hA, .ref tA, .ref lA, .ref gA, va_rf (g_fa af fo), va_rf oa]))], [(gA, .inr (2, [.int n, .ref gB]))], [(gB, .inl (d.2.1 0, 10, .inl near))], (g_FS d af fo)] 226 2978 (fun v w1 => ∃ (r : Int32) (af2 : g_FA) (fo2 : Option g_FC), v = some (.int r) ∧ w1 = [[(ob, .inr (0, [.ref hA, .ref tA, .ref lA, .ref gA, va_rf (g_fa af2 fo2), va_rf oa]))], [(gA, .inr (2, [.int n, .ref gB]))], [(gB, .inl (d.2.1 0, 10, .inl near))], (g_FS d af2 fo2)] ∧ Q r fo2) := by
  refine g_enter (by decide) (Nat.le_of_ble_eq_true rfl) ?_
  intro p e s m args below meth c A ls hF hH hl hin
  have hF : g_F p m c cX0_child 4 s args RX0 meth (Option.some FieldType.int) := hF
  have hl : lv_has ls 4 [(0, .ref ob), (1, .int a1), (2, .int a2)] := hl
  unfold wp_X0_child at hw
  refine lv_aload_n hF.1.1 hF.1.2.1 dX0_child_0 rfl (lv_at hl 0 rfl) ?_
  refine lv_iload_n hF.1.1 hF.1.2.1 dX0_child_1 rfl (lv_at hl 1 rfl) ?_
  refine g_cV [.int a1] 1 rfl hF (met_X0_isStrong_O l hl0 d ob a1 hA tA lA gA oa n gB near af fo _ hw) q826 q828 qs18 q92 q829 rfl rfl (by decide +kernel) ⟨Nat.le_of_ble_eq_true rfl, Nat.le_of_ble_eq_true rfl⟩ hH [0, 1, 2, 3] rfl rfl rfl 0 0 rfl rfl rfl hl.1 (Nat.le_of_ble_eq_true rfl) dX0_child_2 ⟨(by first | exact Nat.le_of_ble_eq_true rfl | omega | (dsimp only; omega)), (by first | exact Nat.le_of_ble_eq_true rfl | omega | (dsimp only; omega))⟩ (fun v w1 H locs hq hH => ?_)
  obtain ⟨r_28, q_29, n_30, n_31, n_32, q_33, q_34, q_35, q_36, q_37, n_38, n_39, n_40, n_41, rfl, rfl, hw⟩ := hq
  have hH : g_HS d A s [[(ob, .inr (0, [.ref hA, .ref tA, .ref lA, .ref gA, .ref q_29, va_rf oa]))], [(gA, .inr (2, [.int n, .ref gB]))], [(gB, .inl (d.2.1 0, 10, .inl near))], [(q_29, .inr (4, [.ref (n_30 q_37), .ref q_33, .ref q_35]))], (g_AL d q_33 q_34 n_30 n_38), (g_T d n_30 n_31 n_32 n_39), [(q_35, .inr (1, [.ref q_36, .int n_40]))], [(q_36, .inl (d.2.1 2, 10, .inl n_41))]] H locs := hH
  refine W.eq (g2 := (F0 m 5 ls [.int r_28])) rfl ?_
  refine W.widen (k := 226) (n := 2978) (by first | exact Nat.le_of_ble_eq_true rfl | omega | (dsimp only; omega)) (by first | exact Nat.le_of_ble_eq_true rfl | omega | (dsimp only; omega)) ?_
  refine lv_if_eq (tgt := 12) hF.1.1 hF.1.2.1 dX0_child_5 (by decide) (fun c_42 => ?_) (fun c_42 => ?_)
  · have hw := hw.1 c_42
    refine lv_iconst (v := (-1)) hF.1.1 hF.1.2.1 dX0_child_12 (by decide) ?_
    have hH := hH.sub (cs' := [[(q_29, .inr (4, [.ref (n_30 q_37), .ref q_33, .ref q_35]))], (g_AL d q_33 q_34 n_30 n_38), (g_T d n_30 n_31 n_32 n_39), [(q_35, .inr (1, [.ref q_36, .int n_40]))], [(q_36, .inl (d.2.1 2, 10, .inl n_41))], [(ob, .inr (0, [.ref hA, .ref tA, .ref lA, .ref gA, .ref q_29, va_rf oa]))], [(gA, .inr (2, [.int n, .ref gB]))], [(gB, .inl (d.2.1 0, 10, .inl near))]]) [3, 4, 5, 6, 7, 0, 1, 2] rfl rfl
    have hH := g_HS.closeF hH
    have hH : g_HS d A s [(g_FS d (g_ad5 q_29 q_33 q_35 q_34 q_36, n_30, n_31, n_32) (some (q_37, n_38, n_39, (n_40, n_41)))), [(ob, .inr (0, [.ref hA, .ref tA, .ref lA, .ref gA, .ref q_29, va_rf oa]))], [(gA, .inr (2, [.int n, .ref gB]))], [(gB, .inl (d.2.1 0, 10, .inl near))]] H _ := hH
    have hH := hH.sub (cs' := [[(ob, .inr (0, [.ref hA, .ref tA, .ref lA, .ref gA, .ref q_29, va_rf oa]))], [(gA, .inr (2, [.int n, .ref gB]))], [(gB, .inl (d.2.1 0, 10, .inl near))], (g_FS d (g_ad5 q_29 q_33 q_35 q_34 q_36, n_30, n_31, n_32) (some (q_37, n_38, n_39, (n_40, n_41))))]) [1, 2, 3, 0] rfl rfl
    exact g_iret hF hH ⟨(-1), (g_ad5 q_29 q_33 q_35 q_34 q_36, n_30, n_31, n_32), (some (q_37, n_38, n_39, (n_40, n_41))), rfl, rfl, hw⟩ dX0_child_13
  · have hw := hw.2 c_42
    refine lv_iload_n hF.1.1 hF.1.2.1 dX0_child_8 rfl (lv_at hl 2 rfl) ?_
    refine lv_if_ge (tgt := 14) hF.1.1 hF.1.2.1 dX0_child_9 (by decide) (fun c_43 => ?_) (fun c_43 => ?_)
    · have hw := hw.1 c_43
      refine lv_aload_n hF.1.1 hF.1.2.1 dX0_child_14 rfl (lv_at hl 0 rfl) ?_
      refine lv_iload_n hF.1.1 hF.1.2.1 dX0_child_15 rfl (lv_at hl 1 rfl) ?_
      refine g_cV [.int a1] 1 rfl hF (met_X0_strongAt_S l hl0 d ob a1 hA tA lA gA q_29 oa n gB near n_30 q_37 q_33 q_35 q_34 n_38 n_31 n_32 n_39 q_36 n_40 n_41 _ hw) q830 q832 qs19 q92 q833 rfl rfl (by decide +kernel) ⟨Nat.le_of_ble_eq_true rfl, Nat.le_of_ble_eq_true rfl⟩ hH [0, 1, 2, 3, 4, 5, 6, 7] rfl rfl rfl 0 0 rfl rfl rfl hl.1 (Nat.le_of_ble_eq_true rfl) dX0_child_16 ⟨(by first | exact Nat.le_of_ble_eq_true rfl | omega | (dsimp only; omega)), (by first | exact Nat.le_of_ble_eq_true rfl | omega | (dsimp only; omega))⟩ (fun v w1 H locs hq hH => ?_)
      obtain ⟨q_44, rfl, rfl, hw⟩ := hq
      have hH : g_HS d A s [[(ob, .inr (0, [.ref hA, .ref tA, .ref lA, .ref gA, .ref q_29, va_rf oa]))], [(gA, .inr (2, [.int n, .ref gB]))], [(gB, .inl (d.2.1 0, 10, .inl near))], [(q_29, .inr (4, [.ref (n_30 q_37), .ref q_33, .ref q_35]))], (g_AL d q_33 q_34 n_30 n_38), (g_T d n_30 n_31 n_32 n_39), [(q_35, .inr (1, [.ref q_36, .int n_40]))], [(q_36, .inl (d.2.1 2, 10, .inl n_41))]] H locs := hH
      refine W.eq (g2 := (F0 m 19 ls [.ref (n_30 q_44)])) rfl ?_
      refine lv_astore_n (lv' := [(3, .ref (n_30 q_44)), (0, .ref ob), (1, .int a1), (2, .int a2)]) hF.1.1 hF.1.2.1 dX0_child_19 rfl hl (by decide) rfl (fun ls hl => ?_)
      refine lv_iload_n hF.1.1 hF.1.2.1 dX0_child_20 rfl (lv_at hl 3 rfl) ?_
      refine lv_aload_n hF.1.1 hF.1.2.1 dX0_child_21 rfl (lv_at hl 0 rfl) ?_
      refine g_cS [.ref (n_30 q_44)] 1 rfl hF (met_X0_children l hl0 d n_30 q_44 n_31 n_32 n_39 _ hw) q883 q884 q92 q885 rfl rfl (by decide +kernel) ⟨Nat.le_of_ble_eq_true rfl, Nat.le_of_ble_eq_true rfl⟩ hH [5] rfl rfl rfl hl.1 (Nat.le_of_ble_eq_true rfl) dX0_child_22 ⟨(by first | exact Nat.le_of_ble_eq_true rfl | omega | (dsimp only; omega)), (by first | exact Nat.le_of_ble_eq_true rfl | omega | (dsimp only; omega))⟩ (fun v w1 H locs hq hH => ?_)
      obtain ⟨r_45, rfl, rfl, hw⟩ := hq
      have hH : g_HS d A s [[(ob, .inr (0, [.ref hA, .ref tA, .ref lA, .ref gA, .ref q_29, va_rf oa]))], [(gA, .inr (2, [.int n, .ref gB]))], [(gB, .inl (d.2.1 0, 10, .inl near))], [(q_29, .inr (4, [.ref (n_30 q_37), .ref q_33, .ref q_35]))], (g_AL d q_33 q_34 n_30 n_38), [(q_35, .inr (1, [.ref q_36, .int n_40]))], [(q_36, .inl (d.2.1 2, 10, .inl n_41))], (g_T d n_30 n_31 n_32 n_39)] H locs := hH
      refine W.eq (g2 := (F0 m 25 ls [.int r_45, .int a2])) rfl ?_
      refine lv_icmp_ge (tgt := 52) hF.1.1 hF.1.2.1 dX0_child_25 (by decide) (fun c_46 => ?_) (fun c_46 => ?_)
      · have hw := hw.1 c_46
        refine lv_bipush (v := (-4)) hF.1.1 hF.1.2.1 dX0_child_52 (by decide) ?_
        have hH := hH.sub (cs' := [[(q_29, .inr (4, [.ref (n_30 q_37), .ref q_33, .ref q_35]))], (g_AL d q_33 q_34 n_30 n_38), (g_T d n_30 n_31 n_32 n_39), [(q_35, .inr (1, [.ref q_36, .int n_40]))], [(q_36, .inl (d.2.1 2, 10, .inl n_41))], [(ob, .inr (0, [.ref hA, .ref tA, .ref lA, .ref gA, .ref q_29, va_rf oa]))], [(gA, .inr (2, [.int n, .ref gB]))], [(gB, .inl (d.2.1 0, 10, .inl near))]]) [3, 4, 7, 5, 6, 0, 1, 2] rfl rfl
        have hH := g_HS.closeF hH
        have hH : g_HS d A s [(g_FS d (g_ad5 q_29 q_33 q_35 q_34 q_36, n_30, n_31, n_32) (some (q_37, n_38, n_39, (n_40, n_41)))), [(ob, .inr (0, [.ref hA, .ref tA, .ref lA, .ref gA, .ref q_29, va_rf oa]))], [(gA, .inr (2, [.int n, .ref gB]))], [(gB, .inl (d.2.1 0, 10, .inl near))]] H _ := hH
        have hH := hH.sub (cs' := [[(ob, .inr (0, [.ref hA, .ref tA, .ref lA, .ref gA, .ref q_29, va_rf oa]))], [(gA, .inr (2, [.int n, .ref gB]))], [(gB, .inl (d.2.1 0, 10, .inl near))], (g_FS d (g_ad5 q_29 q_33 q_35 q_34 q_36, n_30, n_31, n_32) (some (q_37, n_38, n_39, (n_40, n_41))))]) [1, 2, 3, 0] rfl rfl
        exact g_iret hF hH ⟨(-4), (g_ad5 q_29 q_33 q_35 q_34 q_36, n_30, n_31, n_32), (some (q_37, n_38, n_39, (n_40, n_41))), rfl, rfl, hw⟩ dX0_child_54
      · have hw := hw.2 c_46
        refine lv_aload_n hF.1.1 hF.1.2.1 dX0_child_28 rfl (lv_at hl 1 rfl) ?_
        refine g_cV [] 0 rfl hF (met_X0_forest_S l hl0 d ob hA tA lA gA q_29 oa n gB near n_30 q_37 q_33 q_35 q_34 n_38 n_31 n_32 n_39 q_36 n_40 n_41 _ hw) q402 q404 qs8 q92 q405 rfl rfl (by decide +kernel) ⟨Nat.le_of_ble_eq_true rfl, Nat.le_of_ble_eq_true rfl⟩ hH [0, 1, 2, 3, 4, 7, 5, 6] rfl rfl rfl 0 0 rfl rfl rfl hl.1 (Nat.le_of_ble_eq_true rfl) dX0_child_29 ⟨(by first | exact Nat.le_of_ble_eq_true rfl | omega | (dsimp only; omega)), (by first | exact Nat.le_of_ble_eq_true rfl | omega | (dsimp only; omega))⟩ (fun v w1 H locs hq hH => ?_)
        obtain ⟨rfl, rfl, hw⟩ := hq
        have hH : g_HS d A s [[(ob, .inr (0, [.ref hA, .ref tA, .ref lA, .ref gA, .ref q_29, va_rf oa]))], [(gA, .inr (2, [.int n, .ref gB]))], [(gB, .inl (d.2.1 0, 10, .inl near))], [(q_29, .inr (4, [.ref (n_30 q_37), .ref q_33, .ref q_35]))], (g_AL d q_33 q_34 n_30 n_38), (g_T d n_30 n_31 n_32 n_39), [(q_35, .inr (1, [.ref q_36, .int n_40]))], [(q_36, .inl (d.2.1 2, 10, .inl n_41))]] H locs := hH
        refine W.eq (g2 := (F0 m 32 ls [.ref q_29])) rfl ?_
        refine lv_aload_n hF.1.1 hF.1.2.1 dX0_child_32 rfl (lv_at hl 0 rfl) ?_
        obtain ⟨hk_47, hk_48, hw⟩ := hw
        refine g_tcI hF hH 5 rfl hk_47 hk_48 q472 dX0_child_33 ?_
        obtain ⟨hk_49, hk_50, hw⟩ := hw
        refine g_tchN hF hH 5 rfl hk_49 hk_50 q505 dX0_child_36 ?_
        refine lv_iload_n hF.1.1 hF.1.2.1 dX0_child_39 rfl (lv_at hl 3 rfl) ?_
        refine g_cVr [.int a2] 1 rfl hF (met_J10_get_T l hl0 d n_30 n_31 n_32 a2 n_39 q_44 _ hw) q834 q605 q606 q107 q607 rfl rfl (by decide +kernel) ⟨Nat.le_of_ble_eq_true rfl, Nat.le_of_ble_eq_true rfl⟩ hH [5] rfl rfl rfl (g_trecC hH 5 rfl hw.1 hw.2.1) hl.1 (Nat.le_of_ble_eq_true rfl) dX0_child_40 ⟨(by first | exact Nat.le_of_ble_eq_true rfl | omega | (dsimp only; omega)), (by first | exact Nat.le_of_ble_eq_true rfl | omega | (dsimp only; omega))⟩ (fun v w1 H locs hq hH => ?_)
        obtain ⟨q_51, rfl, rfl, hw⟩ := hq
        have hH : g_HS d A s [[(ob, .inr (0, [.ref hA, .ref tA, .ref lA, .ref gA, .ref q_29, va_rf oa]))], [(gA, .inr (2, [.int n, .ref gB]))], [(gB, .inl (d.2.1 0, 10, .inl near))], [(q_29, .inr (4, [.ref (n_30 q_37), .ref q_33, .ref q_35]))], (g_AL d q_33 q_34 n_30 n_38), [(q_35, .inr (1, [.ref q_36, .int n_40]))], [(q_36, .inl (d.2.1 2, 10, .inl n_41))], (g_T d n_30 n_31 n_32 n_39)] H locs := hH
        refine W.eq (g2 := (F0 m 43 ls [.ref (n_30 q_51), .ref q_29])) rfl ?_
        obtain ⟨hk_52, hw⟩ := hw
        refine g_tcT hF hH 7 rfl hk_52 q835 dX0_child_43 ?_
        refine g_cV [.ref (n_30 q_51)] 1 rfl hF (met_X4_numberOf l hl0 d q_29 n_30 q_51 q_37 q_33 q_35 q_34 n_38 n_31 n_32 n_39 _ hw) q869 q870 q871 q104 q872 rfl rfl (by decide +kernel) ⟨Nat.le_of_ble_eq_true rfl, Nat.le_of_ble_eq_true rfl⟩ hH [3, 4, 7] rfl rfl rfl 0 0 rfl rfl rfl hl.1 (Nat.le_of_ble_eq_true rfl) dX0_child_46 ⟨(by first | exact Nat.le_of_ble_eq_true rfl | omega | (dsimp only; omega)), (by first | exact Nat.le_of_ble_eq_true rfl | omega | (dsimp only; omega))⟩ (fun v w1 H locs hq hH => ?_)
        obtain ⟨r_54, rfl, rfl, hw⟩ := hq
        have hH : g_HS d A s [[(ob, .inr (0, [.ref hA, .ref tA, .ref lA, .ref gA, .ref q_29, va_rf oa]))], [(gA, .inr (2, [.int n, .ref gB]))], [(gB, .inl (d.2.1 0, 10, .inl near))], [(q_35, .inr (1, [.ref q_36, .int n_40]))], [(q_36, .inl (d.2.1 2, 10, .inl n_41))], [(q_29, .inr (4, [.ref (n_30 q_37), .ref q_33, .ref q_35]))], (g_AL d q_33 q_34 n_30 n_38), (g_T d n_30 n_31 n_32 n_39)] H locs := hH
        refine W.eq (g2 := (F0 m 49 ls [.int r_54])) rfl ?_
        refine lv_goto (tgt := 54) hF.1.1 hF.1.2.1 dX0_child_49 (by decide) ?_
        have hH := hH.sub (cs' := [[(q_29, .inr (4, [.ref (n_30 q_37), .ref q_33, .ref q_35]))], (g_AL d q_33 q_34 n_30 n_38), (g_T d n_30 n_31 n_32 n_39), [(q_35, .inr (1, [.ref q_36, .int n_40]))], [(q_36, .inl (d.2.1 2, 10, .inl n_41))], [(ob, .inr (0, [.ref hA, .ref tA, .ref lA, .ref gA, .ref q_29, va_rf oa]))], [(gA, .inr (2, [.int n, .ref gB]))], [(gB, .inl (d.2.1 0, 10, .inl near))]]) [5, 6, 7, 3, 4, 0, 1, 2] rfl rfl
        have hH := g_HS.closeF hH
        have hH : g_HS d A s [(g_FS d (g_ad5 q_29 q_33 q_35 q_34 q_36, n_30, n_31, n_32) (some (q_37, n_38, n_39, (n_40, n_41)))), [(ob, .inr (0, [.ref hA, .ref tA, .ref lA, .ref gA, .ref q_29, va_rf oa]))], [(gA, .inr (2, [.int n, .ref gB]))], [(gB, .inl (d.2.1 0, 10, .inl near))]] H _ := hH
        have hH := hH.sub (cs' := [[(ob, .inr (0, [.ref hA, .ref tA, .ref lA, .ref gA, .ref q_29, va_rf oa]))], [(gA, .inr (2, [.int n, .ref gB]))], [(gB, .inl (d.2.1 0, 10, .inl near))], (g_FS d (g_ad5 q_29 q_33 q_35 q_34 q_36, n_30, n_31, n_32) (some (q_37, n_38, n_39, (n_40, n_41))))]) [1, 2, 3, 0] rfl rfl
        exact g_iret hF hH ⟨r_54, (g_ad5 q_29 q_33 q_35 q_34 q_36, n_30, n_31, n_32), (some (q_37, n_38, n_39, (n_40, n_41))), rfl, rfl, hw⟩ dX0_child_54
    · have hw := hw.2 c_43
      refine lv_iconst (v := (-1)) hF.1.1 hF.1.2.1 dX0_child_12 (by decide) ?_
      have hH := hH.sub (cs' := [[(q_29, .inr (4, [.ref (n_30 q_37), .ref q_33, .ref q_35]))], (g_AL d q_33 q_34 n_30 n_38), (g_T d n_30 n_31 n_32 n_39), [(q_35, .inr (1, [.ref q_36, .int n_40]))], [(q_36, .inl (d.2.1 2, 10, .inl n_41))], [(ob, .inr (0, [.ref hA, .ref tA, .ref lA, .ref gA, .ref q_29, va_rf oa]))], [(gA, .inr (2, [.int n, .ref gB]))], [(gB, .inl (d.2.1 0, 10, .inl near))]]) [3, 4, 5, 6, 7, 0, 1, 2] rfl rfl
      have hH := g_HS.closeF hH
      have hH : g_HS d A s [(g_FS d (g_ad5 q_29 q_33 q_35 q_34 q_36, n_30, n_31, n_32) (some (q_37, n_38, n_39, (n_40, n_41)))), [(ob, .inr (0, [.ref hA, .ref tA, .ref lA, .ref gA, .ref q_29, va_rf oa]))], [(gA, .inr (2, [.int n, .ref gB]))], [(gB, .inl (d.2.1 0, 10, .inl near))]] H _ := hH
      have hH := hH.sub (cs' := [[(ob, .inr (0, [.ref hA, .ref tA, .ref lA, .ref gA, .ref q_29, va_rf oa]))], [(gA, .inr (2, [.int n, .ref gB]))], [(gB, .inl (d.2.1 0, 10, .inl near))], (g_FS d (g_ad5 q_29 q_33 q_35 q_34 q_36, n_30, n_31, n_32) (some (q_37, n_38, n_39, (n_40, n_41))))]) [1, 2, 3, 0] rfl rfl
      exact g_iret hF hH ⟨(-1), (g_ad5 q_29 q_33 q_35 q_34 q_36, n_30, n_31, n_32), (some (q_37, n_38, n_39, (n_40, n_41))), rfl, rfl, hw⟩ dX0_child_13

def wb_X0_together_28 (n : Int32) (near : Nat → Int32) (x3 : Int32) (v_root : Nat) (v_q_7 : List Nat) (v_n_4 : g_TC) (v_many : Int32) (v_q_10 : Nat → Int32) (Q : Int32 → (Option g_FC) → Prop) : Nat → Nat → Prop
  | 0, _ => False
  | fu + 1, x4 => (x4 ∈ v_n_4.1 ∧ (v_n_4.2.2.1 x4 = 0 → (wp_X0_forest_S n near v_q_7 v_n_4 v_many v_q_10 (wp_X4_numberOf x4 v_q_7 v_n_4 (fun r_35 => (Q r_35 (some (v_root, v_q_7, v_n_4, (v_many, v_q_10)))))))) ∧ (v_n_4.2.2.1 x4 ≠ 0 → (x4 ∈ v_n_4.1 ∧ v_n_4.2.2.1 x4 ≠ 0 ∧ (x4 ∈ v_n_4.1 ∧ v_n_4.2.2.1 x4 ≠ 0 ∧ (wp_X7_childrenIn x4 x3 v_n_4 (fun r_38 => (wp_J7_bitCount r_38 (fun r_39 => ((r_39 ≤ 1 → (x4 ∈ v_n_4.1 ∧ v_n_4.2.2.1 x4 ≠ 0 ∧ (x4 ∈ v_n_4.1 ∧ v_n_4.2.2.1 x4 ≠ 0 ∧ (wp_X0_lowest r_38 (fun r_45 => (wp_J10_get_T r_45 v_n_4 x4 (fun q_46 => (q_46 ∈ v_n_4.1 ∧ (wb_X0_together_28 n near x3 v_root v_q_7 v_n_4 v_many v_q_10 Q fu) q_46)))))))) ∧ (¬ r_39 ≤ 1 → (wp_X0_forest_S n near v_q_7 v_n_4 v_many v_q_10 (wp_X4_numberOf x4 v_q_7 v_n_4 (fun r_49 => (Q r_49 (some (v_root, v_q_7, v_n_4, (v_many, v_q_10)))))))))))))))))
def wp_X0_together (a1 : Int32) (a2 : Int32) (n : Int32) (near : Nat → Int32) (fo : Option g_FC) (Q : Int32 → (Option g_FC) → Prop) : Prop := (wp_X0_areVertices a1 a2 n (fun r_50 => ((¬ r_50 = 0 → (wp_X0_forest n near fo (fun q_60 n_61 n_62 n_63 n_64 => (∃ f28, wb_X0_together_28 n near (((1 : Int32) <<< (a1 &&& 31)) ||| ((1 : Int32) <<< (a2 &&& 31))) q_60 n_61 n_62 n_63 n_64 Q f28 q_60)))) ∧ (r_50 = 0 → (Q (-1) fo)))))
set_option maxHeartbeats 4000000 in
set_option maxRecDepth 100000 in
theorem met_X0_together (l : Launch) (hl0 : l.stackTraces = false) (d : g_D) (ob : Nat) (a1 : Int32) (a2 : Int32) (hA : Nat) (tA : Nat) (lA : Nat) (gA : Nat) (oa : Option Nat) (n : Int32) (gB : Nat) (near : Nat → Int32) (af : g_FA) (fo : Option g_FC) (Q : Int32 → (Option g_FC) → Prop) (hw : wp_X0_together a1 a2 n near fo Q) : g_Met l d yX0_together cX0_together 6 (Option.some FieldType.int) ({ frames := 57, cells := 226, slots := 2978, locals := 14465 } : Room) [.ref ob, .int a1, .int a2] [[(ob, .inr (0, [.ref hA, .ref tA, .ref lA, .ref gA, va_rf (g_fa af fo), va_rf oa]))], [(gA, .inr (2, [.int n, .ref gB]))], [(gB, .inl (d.2.1 0, 10, .inl near))], (g_FS d af fo)] 226 2978 (fun v w1 => ∃ (r : Int32) (af2 : g_FA) (fo2 : Option g_FC), v = some (.int r) ∧ w1 = [[(ob, .inr (0, [.ref hA, .ref tA, .ref lA, .ref gA, va_rf (g_fa af2 fo2), va_rf oa]))], [(gA, .inr (2, [.int n, .ref gB]))], [(gB, .inl (d.2.1 0, 10, .inl near))], (g_FS d af2 fo2)] ∧ Q r fo2) := by
  refine g_enter (by decide) (Nat.le_of_ble_eq_true rfl) ?_
  intro p e s m args below meth c A ls hF hH hl hin
  have hF : g_F p m c cX0_together 6 s args RX0 meth (Option.some FieldType.int) := hF
  have hl : lv_has ls 6 [(0, .ref ob), (1, .int a1), (2, .int a2)] := hl
  have bk_28 : ∀ (x3 : Int32) (v_root : Nat) (v_q_7 : List Nat) (v_n_4 : g_TC) (v_many : Int32) (v_q_10 : Nat → Int32) (fu : Nat) (q_3 : Nat) (q_7 : Nat) (q_9 : Nat) (q_8 : Nat) (n_4 : Nat → Nat) (n_5 : Nat → Nat) (n_6 : Nat → Nat) (q_10 : Nat) (x4 : Nat) (H : Heap) (locs : List Loc) (ls : Array Slot), g_HS d A s [[(ob, .inr (0, [.ref hA, .ref tA, .ref lA, .ref gA, .ref q_3, va_rf oa]))], [(gA, .inr (2, [.int n, .ref gB]))], [(gB, .inl (d.2.1 0, 10, .inl near))], [(q_3, .inr (4, [.ref (n_4 v_root), .ref q_7, .ref q_9]))], (g_AL d q_7 q_8 n_4 v_q_7), (g_T d n_4 n_5 n_6 v_n_4), [(q_9, .inr (1, [.ref q_10, .int v_many]))], [(q_10, .inl (d.2.1 2, 10, .inl v_q_10))]] H locs → lv_has ls 6 [(0, .ref ob), (3, .int x3), (4, .ref (n_4 x4))] → wb_X0_together_28 n near x3 v_root v_q_7 v_n_4 v_many v_q_10 Q fu x4 → W p l e ({ frames := 57, cells := 226, slots := 2978, locals := 14465 } : Room) s m args below meth c H locs 226 2978 (g_E d (fun v w1 => ∃ (r : Int32) (af2 : g_FA) (fo2 : Option g_FC), v = some (.int r) ∧ w1 = [[(ob, .inr (0, [.ref hA, .ref tA, .ref lA, .ref gA, va_rf (g_fa af2 fo2), va_rf oa]))], [(gA, .inr (2, [.int n, .ref gB]))], [(gB, .inl (d.2.1 0, 10, .inl near))], (g_FS d af2 fo2)] ∧ Q r fo2) A below args s 226 2978) (F0 m 28 ls []) := by
    intro x3 v_root v_q_7 v_n_4 v_many v_q_10 fu
    induction fu with
    | zero => intro q_3 q_7 q_9 q_8 n_4 n_5 n_6 q_10 x4 H locs ls hH hl hw; rw [wb_X0_together_28] at hw; exact hw.elim
    | succ fu ih =>
      intro q_3 q_7 q_9 q_8 n_4 n_5 n_6 q_10 x4 H locs ls hH hl hw
      rw [wb_X0_together_28] at hw
      refine lv_aload hF.1.1 hF.1.2.1 dX0_together_28 (lv_at hl 2 rfl) ?_
      obtain ⟨hk_33, hw⟩ := hw
      refine g_tisI hF hH 5 rfl hk_33 q472 dX0_together_30 (fun hk_34 => ?_) (fun hk_34 => ?_)
      · have hw := hw.1 hk_34
        refine lv_if_eq (tgt := 90) hF.1.1 hF.1.2.1 dX0_together_33 (by decide) (fun _ => ?_) (fun z => absurd z (by decide))
        refine lv_aload_n hF.1.1 hF.1.2.1 dX0_together_90 rfl (lv_at hl 0 rfl) ?_
        refine g_cV [] 0 rfl hF (met_X0_forest_S l hl0 d ob hA tA lA gA q_3 oa n gB near n_4 v_root q_7 q_9 q_8 v_q_7 n_5 n_6 v_n_4 q_10 v_many v_q_10 _ hw) q402 q404 qs8 q92 q405 rfl rfl (by decide +kernel) ⟨Nat.le_of_ble_eq_true rfl, Nat.le_of_ble_eq_true rfl⟩ hH [0, 1, 2, 3, 4, 5, 6, 7] rfl rfl rfl 0 0 rfl rfl rfl hl.1 (Nat.le_of_ble_eq_true rfl) dX0_together_91 ⟨(by first | exact Nat.le_of_ble_eq_true rfl | omega | (dsimp only; omega)), (by first | exact Nat.le_of_ble_eq_true rfl | omega | (dsimp only; omega))⟩ (fun v w1 H locs hq hH => ?_)
        obtain ⟨rfl, rfl, hw⟩ := hq
        have hH : g_HS d A s [[(ob, .inr (0, [.ref hA, .ref tA, .ref lA, .ref gA, .ref q_3, va_rf oa]))], [(gA, .inr (2, [.int n, .ref gB]))], [(gB, .inl (d.2.1 0, 10, .inl near))], [(q_3, .inr (4, [.ref (n_4 v_root), .ref q_7, .ref q_9]))], (g_AL d q_7 q_8 n_4 v_q_7), (g_T d n_4 n_5 n_6 v_n_4), [(q_9, .inr (1, [.ref q_10, .int v_many]))], [(q_10, .inl (d.2.1 2, 10, .inl v_q_10))]] H locs := hH
        refine W.eq (g2 := (F0 m 94 ls [.ref q_3])) rfl ?_
        refine lv_aload hF.1.1 hF.1.2.1 dX0_together_94 (lv_at hl 2 rfl) ?_
        refine g_cV [.ref (n_4 x4)] 1 rfl hF (met_X4_numberOf l hl0 d q_3 n_4 x4 v_root q_7 q_9 q_8 v_q_7 n_5 n_6 v_n_4 _ hw) q869 q870 q871 q104 q872 rfl rfl (by decide +kernel) ⟨Nat.le_of_ble_eq_true rfl, Nat.le_of_ble_eq_true rfl⟩ hH [3, 4, 5] rfl rfl rfl 0 0 rfl rfl rfl hl.1 (Nat.le_of_ble_eq_true rfl) dX0_together_96 ⟨(by first | exact Nat.le_of_ble_eq_true rfl | omega | (dsimp only; omega)), (by first | exact Nat.le_of_ble_eq_true rfl | omega | (dsimp only; omega))⟩ (fun v w1 H locs hq hH => ?_)
        obtain ⟨r_35, rfl, rfl, hw⟩ := hq
        have hH : g_HS d A s [[(ob, .inr (0, [.ref hA, .ref tA, .ref lA, .ref gA, .ref q_3, va_rf oa]))], [(gA, .inr (2, [.int n, .ref gB]))], [(gB, .inl (d.2.1 0, 10, .inl near))], [(q_9, .inr (1, [.ref q_10, .int v_many]))], [(q_10, .inl (d.2.1 2, 10, .inl v_q_10))], [(q_3, .inr (4, [.ref (n_4 v_root), .ref q_7, .ref q_9]))], (g_AL d q_7 q_8 n_4 v_q_7), (g_T d n_4 n_5 n_6 v_n_4)] H locs := hH
        refine W.eq (g2 := (F0 m 99 ls [.int r_35])) rfl ?_
        have hH := hH.sub (cs' := [[(q_3, .inr (4, [.ref (n_4 v_root), .ref q_7, .ref q_9]))], (g_AL d q_7 q_8 n_4 v_q_7), (g_T d n_4 n_5 n_6 v_n_4), [(q_9, .inr (1, [.ref q_10, .int v_many]))], [(q_10, .inl (d.2.1 2, 10, .inl v_q_10))], [(ob, .inr (0, [.ref hA, .ref tA, .ref lA, .ref gA, .ref q_3, va_rf oa]))], [(gA, .inr (2, [.int n, .ref gB]))], [(gB, .inl (d.2.1 0, 10, .inl near))]]) [5, 6, 7, 3, 4, 0, 1, 2] rfl rfl
        have hH := g_HS.closeF hH
        have hH : g_HS d A s [(g_FS d (g_ad5 q_3 q_7 q_9 q_8 q_10, n_4, n_5, n_6) (some (v_root, v_q_7, v_n_4, (v_many, v_q_10)))), [(ob, .inr (0, [.ref hA, .ref tA, .ref lA, .ref gA, .ref q_3, va_rf oa]))], [(gA, .inr (2, [.int n, .ref gB]))], [(gB, .inl (d.2.1 0, 10, .inl near))]] H _ := hH
        have hH := hH.sub (cs' := [[(ob, .inr (0, [.ref hA, .ref tA, .ref lA, .ref gA, .ref q_3, va_rf oa]))], [(gA, .inr (2, [.int n, .ref gB]))], [(gB, .inl (d.2.1 0, 10, .inl near))], (g_FS d (g_ad5 q_3 q_7 q_9 q_8 q_10, n_4, n_5, n_6) (some (v_root, v_q_7, v_n_4, (v_many, v_q_10))))]) [1, 2, 3, 0] rfl rfl
        exact g_iret hF hH ⟨r_35, (g_ad5 q_3 q_7 q_9 q_8 q_10, n_4, n_5, n_6), (some (v_root, v_q_7, v_n_4, (v_many, v_q_10))), rfl, rfl, hw⟩ dX0_together_99
      · have hw := hw.2 hk_34
        refine lv_if_eq (tgt := 90) hF.1.1 hF.1.2.1 dX0_together_33 (by decide) (fun z => absurd z (by decide)) (fun _ => ?_)
        refine lv_aload hF.1.1 hF.1.2.1 dX0_together_36 (lv_at hl 2 rfl) ?_
        obtain ⟨hk_36, hk_37, hw⟩ := hw
        refine g_tcI hF hH 5 rfl hk_36 hk_37 q472 dX0_together_38 ?_
        refine lv_iload_n hF.1.1 hF.1.2.1 dX0_together_41 rfl (lv_at hl 1 rfl) ?_
        obtain ⟨hk_C, hk_D, hw⟩ := hw
        refine g_cVr [.int x3] 1 rfl hF (met_X7_childrenIn l hl0 d n_4 x4 x3 n_5 n_6 v_n_4 _ hw) q895 q896 q897 q110 q898 rfl rfl (by decide +kernel) ⟨Nat.le_of_ble_eq_true rfl, Nat.le_of_ble_eq_true rfl⟩ hH [5] rfl rfl rfl (g_trecI hH 5 rfl hk_C hk_D) hl.1 (Nat.le_of_ble_eq_true rfl) dX0_together_42 ⟨(by first | exact Nat.le_of_ble_eq_true rfl | omega | (dsimp only; omega)), (by first | exact Nat.le_of_ble_eq_true rfl | omega | (dsimp only; omega))⟩ (fun v w1 H locs hq hH => ?_)
        obtain ⟨r_38, rfl, rfl, hw⟩ := hq
        have hH : g_HS d A s [[(ob, .inr (0, [.ref hA, .ref tA, .ref lA, .ref gA, .ref q_3, va_rf oa]))], [(gA, .inr (2, [.int n, .ref gB]))], [(gB, .inl (d.2.1 0, 10, .inl near))], [(q_3, .inr (4, [.ref (n_4 v_root), .ref q_7, .ref q_9]))], (g_AL d q_7 q_8 n_4 v_q_7), [(q_9, .inr (1, [.ref q_10, .int v_many]))], [(q_10, .inl (d.2.1 2, 10, .inl v_q_10))], (g_T d n_4 n_5 n_6 v_n_4)] H locs := hH
        refine W.eq (g2 := (F0 m 45 ls [.int r_38])) rfl ?_
        refine lv_istore (lv' := [(5, .int r_38), (0, .ref ob), (3, .int x3), (4, .ref (n_4 x4))]) hF.1.1 hF.1.2.1 dX0_together_45 hl (by decide) rfl (fun ls hl => ?_)
        refine lv_iload hF.1.1 hF.1.2.1 dX0_together_47 (lv_at hl 0 rfl) ?_
        refine g_cS [.int r_38] 1 rfl hF (met_J7_bitCount l hl0 d r_38 _ hw) q450 q373 q103 q374 rfl rfl (by decide +kernel) ⟨Nat.le_of_ble_eq_true rfl, Nat.le_of_ble_eq_true rfl⟩ hH [] rfl rfl rfl hl.1 (Nat.le_of_ble_eq_true rfl) dX0_together_49 ⟨(by first | exact Nat.le_of_ble_eq_true rfl | omega | (dsimp only; omega)), (by first | exact Nat.le_of_ble_eq_true rfl | omega | (dsimp only; omega))⟩ (fun v w1 H locs hq hH => ?_)
        obtain ⟨r_39, rfl, rfl, hw⟩ := hq
        have hH : g_HS d A s [[(ob, .inr (0, [.ref hA, .ref tA, .ref lA, .ref gA, .ref q_3, va_rf oa]))], [(gA, .inr (2, [.int n, .ref gB]))], [(gB, .inl (d.2.1 0, 10, .inl near))], [(q_3, .inr (4, [.ref (n_4 v_root), .ref q_7, .ref q_9]))], (g_AL d q_7 q_8 n_4 v_q_7), [(q_9, .inr (1, [.ref q_10, .int v_many]))], [(q_10, .inl (d.2.1 2, 10, .inl v_q_10))], (g_T d n_4 n_5 n_6 v_n_4)] H locs := hH
        refine W.eq (g2 := (F0 m 52 ls [.int r_39])) rfl ?_
        refine lv_iconst (v := 1) hF.1.1 hF.1.2.1 dX0_together_52 (by decide) ?_
        refine lv_icmp_le (tgt := 66) hF.1.1 hF.1.2.1 dX0_together_53 (by decide) (fun c_40 => ?_) (fun c_40 => ?_)
        · have hw := hw.1 c_40
          refine lv_aload hF.1.1 hF.1.2.1 dX0_together_66 (lv_at hl 3 rfl) ?_
          obtain ⟨hk_41, hk_42, hw⟩ := hw
          refine g_tcI hF hH 7 rfl hk_41 hk_42 q472 dX0_together_68 ?_
          obtain ⟨hk_43, hk_44, hw⟩ := hw
          refine g_tchN hF hH 7 rfl hk_43 hk_44 q505 dX0_together_71 ?_
          refine lv_iload hF.1.1 hF.1.2.1 dX0_together_74 (lv_at hl 0 rfl) ?_
          refine g_cS [.int r_38] 1 rfl hF (met_X0_lowest l hl0 d r_38 _ hw) q477 q478 q92 q479 rfl rfl (by decide +kernel) ⟨Nat.le_of_ble_eq_true rfl, Nat.le_of_ble_eq_true rfl⟩ hH [] rfl rfl rfl hl.1 (Nat.le_of_ble_eq_true rfl) dX0_together_76 ⟨(by first | exact Nat.le_of_ble_eq_true rfl | omega | (dsimp only; omega)), (by first | exact Nat.le_of_ble_eq_true rfl | omega | (dsimp only; omega))⟩ (fun v w1 H locs hq hH => ?_)
          obtain ⟨r_45, rfl, rfl, hw⟩ := hq
          have hH : g_HS d A s [[(ob, .inr (0, [.ref hA, .ref tA, .ref lA, .ref gA, .ref q_3, va_rf oa]))], [(gA, .inr (2, [.int n, .ref gB]))], [(gB, .inl (d.2.1 0, 10, .inl near))], [(q_3, .inr (4, [.ref (n_4 v_root), .ref q_7, .ref q_9]))], (g_AL d q_7 q_8 n_4 v_q_7), [(q_9, .inr (1, [.ref q_10, .int v_many]))], [(q_10, .inl (d.2.1 2, 10, .inl v_q_10))], (g_T d n_4 n_5 n_6 v_n_4)] H locs := hH
          refine W.eq (g2 := (F0 m 79 ls [.int r_45, .ref (n_5 x4)])) rfl ?_
          refine g_cVr [.int r_45] 1 rfl hF (met_J10_get_T l hl0 d n_4 n_5 n_6 r_45 v_n_4 x4 _ hw) q834 q605 q606 q107 q607 rfl rfl (by decide +kernel) ⟨Nat.le_of_ble_eq_true rfl, Nat.le_of_ble_eq_true rfl⟩ hH [7] rfl rfl rfl (g_trecC hH 7 rfl hw.1 hw.2.1) hl.1 (Nat.le_of_ble_eq_true rfl) dX0_together_79 ⟨(by first | exact Nat.le_of_ble_eq_true rfl | omega | (dsimp only; omega)), (by first | exact Nat.le_of_ble_eq_true rfl | omega | (dsimp only; omega))⟩ (fun v w1 H locs hq hH => ?_)
          obtain ⟨q_46, rfl, rfl, hw⟩ := hq
          have hH : g_HS d A s [[(ob, .inr (0, [.ref hA, .ref tA, .ref lA, .ref gA, .ref q_3, va_rf oa]))], [(gA, .inr (2, [.int n, .ref gB]))], [(gB, .inl (d.2.1 0, 10, .inl near))], [(q_3, .inr (4, [.ref (n_4 v_root), .ref q_7, .ref q_9]))], (g_AL d q_7 q_8 n_4 v_q_7), [(q_9, .inr (1, [.ref q_10, .int v_many]))], [(q_10, .inl (d.2.1 2, 10, .inl v_q_10))], (g_T d n_4 n_5 n_6 v_n_4)] H locs := hH
          refine W.eq (g2 := (F0 m 82 ls [.ref (n_4 q_46)])) rfl ?_
          obtain ⟨hk_47, hw⟩ := hw
          refine g_tcT hF hH 7 rfl hk_47 q835 dX0_together_82 ?_
          refine lv_astore (lv' := [(4, .ref (n_4 q_46)), (5, .int r_38), (0, .ref ob), (3, .int x3)]) hF.1.1 hF.1.2.1 dX0_together_85 hl (by decide) rfl (fun ls hl => ?_)
          refine lv_goto (tgt := 28) hF.1.1 hF.1.2.1 dX0_together_87 (by decide) ?_
          have hH := hH.sub (cs' := [[(ob, .inr (0, [.ref hA, .ref tA, .ref lA, .ref gA, .ref q_3, va_rf oa]))], [(gA, .inr (2, [.int n, .ref gB]))], [(gB, .inl (d.2.1 0, 10, .inl near))], [(q_3, .inr (4, [.ref (n_4 v_root), .ref q_7, .ref q_9]))], (g_AL d q_7 q_8 n_4 v_q_7), (g_T d n_4 n_5 n_6 v_n_4), [(q_9, .inr (1, [.ref q_10, .int v_many]))], [(q_10, .inl (d.2.1 2, 10, .inl v_q_10))]]) [0, 1, 2, 3, 4, 7, 5, 6] rfl rfl
          have hl := lv_sub hl (l' := [(0, .ref ob), (3, .int x3), (4, .ref (n_4 q_46))]) [2, 3, 0] rfl
          exact ih q_3 q_7 q_9 q_8 n_4 n_5 n_6 q_10 q_46 _ _ _ hH hl hw
        · have hw := hw.2 c_40
          refine lv_aload_n hF.1.1 hF.1.2.1 dX0_together_56 rfl (lv_at hl 1 rfl) ?_
          refine g_cV [] 0 rfl hF (met_X0_forest_S l hl0 d ob hA tA lA gA q_3 oa n gB near n_4 v_root q_7 q_9 q_8 v_q_7 n_5 n_6 v_n_4 q_10 v_many v_q_10 _ hw) q402 q404 qs8 q92 q405 rfl rfl (by decide +kernel) ⟨Nat.le_of_ble_eq_true rfl, Nat.le_of_ble_eq_true rfl⟩ hH [0, 1, 2, 3, 4, 7, 5, 6] rfl rfl rfl 0 0 rfl rfl rfl hl.1 (Nat.le_of_ble_eq_true rfl) dX0_together_57 ⟨(by first | exact Nat.le_of_ble_eq_true rfl | omega | (dsimp only; omega)), (by first | exact Nat.le_of_ble_eq_true rfl | omega | (dsimp only; omega))⟩ (fun v w1 H locs hq hH => ?_)
          obtain ⟨rfl, rfl, hw⟩ := hq
          have hH : g_HS d A s [[(ob, .inr (0, [.ref hA, .ref tA, .ref lA, .ref gA, .ref q_3, va_rf oa]))], [(gA, .inr (2, [.int n, .ref gB]))], [(gB, .inl (d.2.1 0, 10, .inl near))], [(q_3, .inr (4, [.ref (n_4 v_root), .ref q_7, .ref q_9]))], (g_AL d q_7 q_8 n_4 v_q_7), (g_T d n_4 n_5 n_6 v_n_4), [(q_9, .inr (1, [.ref q_10, .int v_many]))], [(q_10, .inl (d.2.1 2, 10, .inl v_q_10))]] H locs := hH
          refine W.eq (g2 := (F0 m 60 ls [.ref q_3])) rfl ?_
          refine lv_aload hF.1.1 hF.1.2.1 dX0_together_60 (lv_at hl 3 rfl) ?_
          refine g_cV [.ref (n_4 x4)] 1 rfl hF (met_X4_numberOf l hl0 d q_3 n_4 x4 v_root q_7 q_9 q_8 v_q_7 n_5 n_6 v_n_4 _ hw) q869 q870 q871 q104 q872 rfl rfl (by decide +kernel) ⟨Nat.le_of_ble_eq_true rfl, Nat.le_of_ble_eq_true rfl⟩ hH [3, 4, 5] rfl rfl rfl 0 0 rfl rfl rfl hl.1 (Nat.le_of_ble_eq_true rfl) dX0_together_62 ⟨(by first | exact Nat.le_of_ble_eq_true rfl | omega | (dsimp only; omega)), (by first | exact Nat.le_of_ble_eq_true rfl | omega | (dsimp only; omega))⟩ (fun v w1 H locs hq hH => ?_)
          obtain ⟨r_49, rfl, rfl, hw⟩ := hq
          have hH : g_HS d A s [[(ob, .inr (0, [.ref hA, .ref tA, .ref lA, .ref gA, .ref q_3, va_rf oa]))], [(gA, .inr (2, [.int n, .ref gB]))], [(gB, .inl (d.2.1 0, 10, .inl near))], [(q_9, .inr (1, [.ref q_10, .int v_many]))], [(q_10, .inl (d.2.1 2, 10, .inl v_q_10))], [(q_3, .inr (4, [.ref (n_4 v_root), .ref q_7, .ref q_9]))], (g_AL d q_7 q_8 n_4 v_q_7), (g_T d n_4 n_5 n_6 v_n_4)] H locs := hH
          refine W.eq (g2 := (F0 m 65 ls [.int r_49])) rfl ?_
          have hH := hH.sub (cs' := [[(q_3, .inr (4, [.ref (n_4 v_root), .ref q_7, .ref q_9]))], (g_AL d q_7 q_8 n_4 v_q_7), (g_T d n_4 n_5 n_6 v_n_4), [(q_9, .inr (1, [.ref q_10, .int v_many]))], [(q_10, .inl (d.2.1 2, 10, .inl v_q_10))], [(ob, .inr (0, [.ref hA, .ref tA, .ref lA, .ref gA, .ref q_3, va_rf oa]))], [(gA, .inr (2, [.int n, .ref gB]))], [(gB, .inl (d.2.1 0, 10, .inl near))]]) [5, 6, 7, 3, 4, 0, 1, 2] rfl rfl
          have hH := g_HS.closeF hH
          have hH : g_HS d A s [(g_FS d (g_ad5 q_3 q_7 q_9 q_8 q_10, n_4, n_5, n_6) (some (v_root, v_q_7, v_n_4, (v_many, v_q_10)))), [(ob, .inr (0, [.ref hA, .ref tA, .ref lA, .ref gA, .ref q_3, va_rf oa]))], [(gA, .inr (2, [.int n, .ref gB]))], [(gB, .inl (d.2.1 0, 10, .inl near))]] H _ := hH
          have hH := hH.sub (cs' := [[(ob, .inr (0, [.ref hA, .ref tA, .ref lA, .ref gA, .ref q_3, va_rf oa]))], [(gA, .inr (2, [.int n, .ref gB]))], [(gB, .inl (d.2.1 0, 10, .inl near))], (g_FS d (g_ad5 q_3 q_7 q_9 q_8 q_10, n_4, n_5, n_6) (some (v_root, v_q_7, v_n_4, (v_many, v_q_10))))]) [1, 2, 3, 0] rfl rfl
          exact g_iret hF hH ⟨r_49, (g_ad5 q_3 q_7 q_9 q_8 q_10, n_4, n_5, n_6), (some (v_root, v_q_7, v_n_4, (v_many, v_q_10))), rfl, rfl, hw⟩ dX0_together_65
  unfold wp_X0_together at hw
  refine lv_aload_n hF.1.1 hF.1.2.1 dX0_together_0 rfl (lv_at hl 0 rfl) ?_
  refine lv_iload_n hF.1.1 hF.1.2.1 dX0_together_1 rfl (lv_at hl 1 rfl) ?_
  refine lv_iload_n hF.1.1 hF.1.2.1 dX0_together_2 rfl (lv_at hl 2 rfl) ?_
  refine g_cV [.int a1, .int a2] 2 rfl hF (met_X0_areVertices l hl0 d ob a1 a2 hA tA lA gA (g_fa af fo) oa n gB _ hw) q348 q350 qs5 q92 q351 rfl rfl (by decide +kernel) ⟨Nat.le_of_ble_eq_true rfl, Nat.le_of_ble_eq_true rfl⟩ hH [0, 1] rfl rfl rfl 0 0 rfl rfl rfl hl.1 (Nat.le_of_ble_eq_true rfl) dX0_together_3 ⟨(by first | exact Nat.le_of_ble_eq_true rfl | omega | (dsimp only; omega)), (by first | exact Nat.le_of_ble_eq_true rfl | omega | (dsimp only; omega))⟩ (fun v w1 H locs hq hH => ?_)
  obtain ⟨r_50, rfl, rfl, hw⟩ := hq
  have hH : g_HS d A s [[(gB, .inl (d.2.1 0, 10, .inl near))], (g_FS d af fo), [(ob, .inr (0, [.ref hA, .ref tA, .ref lA, .ref gA, va_rf (g_fa af fo), va_rf oa]))], [(gA, .inr (2, [.int n, .ref gB]))]] H locs := hH
  refine W.eq (g2 := (F0 m 6 ls [.int r_50])) rfl ?_
  refine lv_if_ne (tgt := 11) hF.1.1 hF.1.2.1 dX0_together_6 (by decide) (fun c_51 => ?_) (fun c_51 => ?_)
  · have hw := hw.1 c_51
    refine lv_iconst (v := 1) hF.1.1 hF.1.2.1 dX0_together_11 (by decide) ?_
    refine lv_iload_n hF.1.1 hF.1.2.1 dX0_together_12 rfl (lv_at hl 1 rfl) ?_
    refine lv_ishl hF.1.1 hF.1.2.1 dX0_together_13 ?_
    refine lv_iconst (v := 1) hF.1.1 hF.1.2.1 dX0_together_14 (by decide) ?_
    refine lv_iload_n hF.1.1 hF.1.2.1 dX0_together_15 rfl (lv_at hl 2 rfl) ?_
    refine lv_ishl hF.1.1 hF.1.2.1 dX0_together_16 ?_
    refine lv_ior hF.1.1 hF.1.2.1 dX0_together_17 ?_
    refine lv_istore_n (lv' := [(3, .int (((1 : Int32) <<< (a1 &&& 31)) ||| ((1 : Int32) <<< (a2 &&& 31)))), (0, .ref ob), (1, .int a1), (2, .int a2)]) hF.1.1 hF.1.2.1 dX0_together_18 rfl hl (by decide) rfl (fun ls hl => ?_)
    refine lv_aload_n hF.1.1 hF.1.2.1 dX0_together_19 rfl (lv_at hl 1 rfl) ?_
    refine g_cV [] 0 rfl hF (met_X0_forest l hl0 d ob hA tA lA gA oa af fo n gB near _ hw) q402 q404 qs8 q92 q405 rfl rfl (by decide +kernel) ⟨Nat.le_of_ble_eq_true rfl, Nat.le_of_ble_eq_true rfl⟩ hH [2, 3, 0, 1] rfl rfl rfl 0 0 rfl rfl rfl hl.1 (Nat.le_of_ble_eq_true rfl) dX0_together_20 ⟨(by first | exact Nat.le_of_ble_eq_true rfl | omega | (dsimp only; omega)), (by first | exact Nat.le_of_ble_eq_true rfl | omega | (dsimp only; omega))⟩ (fun v w1 H locs hq hH => ?_)
    obtain ⟨q_52, n_53, n_54, n_55, q_56, q_57, q_58, q_59, q_60, n_61, n_62, n_63, n_64, rfl, rfl, hw⟩ := hq
    have hH : g_HS d A s [[(ob, .inr (0, [.ref hA, .ref tA, .ref lA, .ref gA, .ref q_52, va_rf oa]))], [(gA, .inr (2, [.int n, .ref gB]))], [(gB, .inl (d.2.1 0, 10, .inl near))], [(q_52, .inr (4, [.ref (n_53 q_60), .ref q_56, .ref q_58]))], (g_AL d q_56 q_57 n_53 n_61), (g_T d n_53 n_54 n_55 n_62), [(q_58, .inr (1, [.ref q_59, .int n_63]))], [(q_59, .inl (d.2.1 2, 10, .inl n_64))]] H locs := hH
    refine W.eq (g2 := (F0 m 23 ls [.ref q_52])) rfl ?_
    refine W.widen (k := 226) (n := 2978) (by first | exact Nat.le_of_ble_eq_true rfl | omega | (dsimp only; omega)) (by first | exact Nat.le_of_ble_eq_true rfl | omega | (dsimp only; omega)) ?_
    refine g_getN (v := .ref (n_53 q_60)) hF hH in_X4 rfl 3 0 rfl rfl 0 (by decide) q678 (fun _ h9 => h9) rfl dX0_together_23 ?_
    refine lv_astore (lv' := [(4, .ref (n_53 q_60)), (3, .int (((1 : Int32) <<< (a1 &&& 31)) ||| ((1 : Int32) <<< (a2 &&& 31)))), (0, .ref ob), (1, .int a1), (2, .int a2)]) hF.1.1 hF.1.2.1 dX0_together_26 hl (by decide) rfl (fun ls hl => ?_)
    obtain ⟨f_65, hw⟩ := hw
    have hl := lv_sub hl (l' := [(0, .ref ob), (3, .int (((1 : Int32) <<< (a1 &&& 31)) ||| ((1 : Int32) <<< (a2 &&& 31)))), (4, .ref (n_53 q_60))]) [2, 1, 0] rfl
    exact bk_28 (((1 : Int32) <<< (a1 &&& 31)) ||| ((1 : Int32) <<< (a2 &&& 31))) q_60 n_61 n_62 n_63 n_64 f_65 q_52 q_56 q_58 q_57 n_53 n_54 n_55 q_59 q_60 _ _ _ hH hl hw
  · have hw := hw.2 c_51
    refine lv_iconst (v := (-1)) hF.1.1 hF.1.2.1 dX0_together_9 (by decide) ?_
    refine W.widen (k := 226) (n := 2978) (by first | exact Nat.le_of_ble_eq_true rfl | omega | (dsimp only; omega)) (by first | exact Nat.le_of_ble_eq_true rfl | omega | (dsimp only; omega)) ?_
    have hH := hH.sub (cs' := [[(ob, .inr (0, [.ref hA, .ref tA, .ref lA, .ref gA, va_rf (g_fa af fo), va_rf oa]))], [(gA, .inr (2, [.int n, .ref gB]))], [(gB, .inl (d.2.1 0, 10, .inl near))], (g_FS d af fo)]) [2, 3, 0, 1] rfl rfl
    exact g_iret hF hH ⟨(-1), af, fo, rfl, rfl, hw⟩ dX0_together_10

def wp_X0_linkedWith_S (k : Nat) (a2 : Int32) (n : Int32) (near : Nat → Int32) (rk : Nat) (ns : List Nat) (tc : g_TC) (vm : Int32) (vf : Nat → Int32) (Q : Int32 → Prop) : Prop := (k ∈ tc.1 ∧ tc.2.2.1 k ≠ 0 ∧ (wp_J10_get_T a2 tc k (fun q_20 => (q_20 ∈ tc.1 ∧ (q_20 ∈ tc.1 ∧ (wp_X0_lowest (nI q_20) (fun r_25 => (vp_in r_25 10 ∧ (k ∈ tc.1 ∧ tc.2.2.1 k ≠ 0 ∧ (wp_J10_get_T a2 tc k (fun q_29 => (q_29 ∈ tc.1 ∧ (q_29 ∈ tc.1 ∧ (k ∈ tc.1 ∧ tc.2.2.1 k ≠ 0 ∧ (wp_X7_childrenIn k ((near r_25.toNatClampNeg) &&& ((nI q_29) ^^^ (-1))) tc (fun r_34 => (Q r_34)))))))))))))))))
set_option maxHeartbeats 4000000 in
set_option maxRecDepth 100000 in
theorem met_X0_linkedWith_S (l : Launch) (hl0 : l.stackTraces = false) (d : g_D) (ob : Nat) (tn : Nat → Nat) (k : Nat) (a2 : Int32) (hA : Nat) (tA : Nat) (lA : Nat) (gA : Nat) (aF : Nat) (oa : Option Nat) (n : Int32) (gB : Nat) (near : Nat → Int32) (rk : Nat) (na : Nat) (va : Nat) (nb : Nat) (ns : List Nat) (tl : Nat → Nat) (tr : Nat → Nat) (tc : g_TC) (vb : Nat) (vm : Int32) (vf : Nat → Int32) (Q : Int32 → Prop) (hw : wp_X0_linkedWith_S k a2 n near rk ns tc vm vf Q) : g_Met l d yX0_linkedWith cX0_linkedWith 4 (Option.some FieldType.int) ({ frames := 4, cells := 0, slots := 0, locals := 87 } : Room) [.ref ob, .ref (tn k), .int a2] [[(ob, .inr (0, [.ref hA, .ref tA, .ref lA, .ref gA, .ref aF, va_rf oa]))], [(gA, .inr (2, [.int n, .ref gB]))], [(gB, .inl (d.2.1 0, 10, .inl near))], [(aF, .inr (4, [.ref (tn rk), .ref na, .ref va]))], (g_AL d na nb tn ns), (g_T d tn tl tr tc), [(va, .inr (1, [.ref vb, .int vm]))], [(vb, .inl (d.2.1 2, 10, .inl vf))]] 0 0 (fun v w1 => ∃ (r : Int32), v = some (.int r) ∧ w1 = [[(ob, .inr (0, [.ref hA, .ref tA, .ref lA, .ref gA, .ref aF, va_rf oa]))], [(gA, .inr (2, [.int n, .ref gB]))], [(gB, .inl (d.2.1 0, 10, .inl near))], [(aF, .inr (4, [.ref (tn rk), .ref na, .ref va]))], (g_AL d na nb tn ns), (g_T d tn tl tr tc), [(va, .inr (1, [.ref vb, .int vm]))], [(vb, .inl (d.2.1 2, 10, .inl vf))]] ∧ Q r) := by
  refine g_enter (by decide) (Nat.le_of_ble_eq_true rfl) ?_
  intro p e s m args below meth c A ls hF hH hl hin
  have hF : g_F p m c cX0_linkedWith 4 s args RX0 meth (Option.some FieldType.int) := hF
  have hl : lv_has ls 4 [(0, .ref ob), (1, .ref (tn k)), (2, .int a2)] := hl
  unfold wp_X0_linkedWith_S at hw
  refine lv_aload_n hF.1.1 hF.1.2.1 dX0_linkedWith_0 rfl (lv_at hl 0 rfl) ?_
  refine g_get (v := .ref gA) hF hH in_X0 rfl 0 0 rfl rfl 3 (by decide) q186 (fun _ h9 => h9) rfl dX0_linkedWith_1 ?_
  refine g_getN (v := .ref gB) hF hH in_X2 rfl 1 0 rfl rfl 1 (by decide) q173 (fun _ h9 => h9) rfl dX0_linkedWith_4 ?_
  refine lv_aload_n hF.1.1 hF.1.2.1 dX0_linkedWith_7 rfl (lv_at hl 1 rfl) ?_
  obtain ⟨hk_18, hk_19, hw⟩ := hw
  refine g_tchN hF hH 5 rfl hk_18 hk_19 q505 dX0_linkedWith_8 ?_
  refine lv_iload_n hF.1.1 hF.1.2.1 dX0_linkedWith_11 rfl (lv_at hl 2 rfl) ?_
  refine g_cVr [.int a2] 1 rfl hF (met_J10_get_T l hl0 d tn tl tr a2 tc k _ hw) q834 q605 q606 q107 q607 rfl rfl (by decide +kernel) ⟨Nat.le_of_ble_eq_true rfl, Nat.le_of_ble_eq_true rfl⟩ hH [5] rfl rfl rfl (g_trecC hH 5 rfl hw.1 hw.2.1) hl.1 (Nat.le_of_ble_eq_true rfl) dX0_linkedWith_12 ⟨(by first | exact Nat.le_of_ble_eq_true rfl | omega | (dsimp only; omega)), (by first | exact Nat.le_of_ble_eq_true rfl | omega | (dsimp only; omega))⟩ (fun v w1 H locs hq hH => ?_)
  obtain ⟨q_20, rfl, rfl, hw⟩ := hq
  have hH : g_HS d A s [[(ob, .inr (0, [.ref hA, .ref tA, .ref lA, .ref gA, .ref aF, va_rf oa]))], [(gA, .inr (2, [.int n, .ref gB]))], [(gB, .inl (d.2.1 0, 10, .inl near))], [(aF, .inr (4, [.ref (tn rk), .ref na, .ref va]))], (g_AL d na nb tn ns), [(va, .inr (1, [.ref vb, .int vm]))], [(vb, .inl (d.2.1 2, 10, .inl vf))], (g_T d tn tl tr tc)] H locs := hH
  refine W.eq (g2 := (F0 m 15 ls [.ref (tn q_20), .ref gB])) rfl ?_
  obtain ⟨hk_21, hw⟩ := hw
  refine g_tcT hF hH 7 rfl hk_21 q835 dX0_linkedWith_15 ?_
  obtain ⟨hk_23, hw⟩ := hw
  refine g_tset hF hH 7 rfl hk_23 q463 dX0_linkedWith_18 ?_
  refine g_cS [.int (nI q_20)] 1 rfl hF (met_X0_lowest l hl0 d (nI q_20) _ hw) q477 q478 q92 q479 rfl rfl (by decide +kernel) ⟨Nat.le_of_ble_eq_true rfl, Nat.le_of_ble_eq_true rfl⟩ hH [] rfl rfl rfl hl.1 (Nat.le_of_ble_eq_true rfl) dX0_linkedWith_21 ⟨(by first | exact Nat.le_of_ble_eq_true rfl | omega | (dsimp only; omega)), (by first | exact Nat.le_of_ble_eq_true rfl | omega | (dsimp only; omega))⟩ (fun v w1 H locs hq hH => ?_)
  obtain ⟨r_25, rfl, rfl, hw⟩ := hq
  have hH : g_HS d A s [[(ob, .inr (0, [.ref hA, .ref tA, .ref lA, .ref gA, .ref aF, va_rf oa]))], [(gA, .inr (2, [.int n, .ref gB]))], [(gB, .inl (d.2.1 0, 10, .inl near))], [(aF, .inr (4, [.ref (tn rk), .ref na, .ref va]))], (g_AL d na nb tn ns), [(va, .inr (1, [.ref vb, .int vm]))], [(vb, .inl (d.2.1 2, 10, .inl vf))], (g_T d tn tl tr tc)] H locs := hH
  refine W.eq (g2 := (F0 m 24 ls [.int r_25, .ref gB])) rfl ?_
  obtain ⟨hi_26, hw⟩ := hw
  refine g_iald hF hH 2 0 rfl rfl hi_26 dX0_linkedWith_24 ?_
  refine lv_istore_n (lv' := [(3, .int (near r_25.toNatClampNeg)), (0, .ref ob), (1, .ref (tn k)), (2, .int a2)]) hF.1.1 hF.1.2.1 dX0_linkedWith_25 rfl hl (by decide) rfl (fun ls hl => ?_)
  refine lv_aload_n hF.1.1 hF.1.2.1 dX0_linkedWith_26 rfl (lv_at hl 2 rfl) ?_
  refine lv_iload_n hF.1.1 hF.1.2.1 dX0_linkedWith_27 rfl (lv_at hl 0 rfl) ?_
  refine lv_aload_n hF.1.1 hF.1.2.1 dX0_linkedWith_28 rfl (lv_at hl 2 rfl) ?_
  obtain ⟨hk_27, hk_28, hw⟩ := hw
  refine g_tchN hF hH 7 rfl hk_27 hk_28 q505 dX0_linkedWith_29 ?_
  refine lv_iload_n hF.1.1 hF.1.2.1 dX0_linkedWith_32 rfl (lv_at hl 3 rfl) ?_
  refine g_cVr [.int a2] 1 rfl hF (met_J10_get_T l hl0 d tn tl tr a2 tc k _ hw) q834 q605 q606 q107 q607 rfl rfl (by decide +kernel) ⟨Nat.le_of_ble_eq_true rfl, Nat.le_of_ble_eq_true rfl⟩ hH [7] rfl rfl rfl (g_trecC hH 7 rfl hw.1 hw.2.1) hl.1 (Nat.le_of_ble_eq_true rfl) dX0_linkedWith_33 ⟨(by first | exact Nat.le_of_ble_eq_true rfl | omega | (dsimp only; omega)), (by first | exact Nat.le_of_ble_eq_true rfl | omega | (dsimp only; omega))⟩ (fun v w1 H locs hq hH => ?_)
  obtain ⟨q_29, rfl, rfl, hw⟩ := hq
  have hH : g_HS d A s [[(ob, .inr (0, [.ref hA, .ref tA, .ref lA, .ref gA, .ref aF, va_rf oa]))], [(gA, .inr (2, [.int n, .ref gB]))], [(gB, .inl (d.2.1 0, 10, .inl near))], [(aF, .inr (4, [.ref (tn rk), .ref na, .ref va]))], (g_AL d na nb tn ns), [(va, .inr (1, [.ref vb, .int vm]))], [(vb, .inl (d.2.1 2, 10, .inl vf))], (g_T d tn tl tr tc)] H locs := hH
  refine W.eq (g2 := (F0 m 36 ls [.ref (tn q_29), .int (near r_25.toNatClampNeg), .ref (tn k)])) rfl ?_
  obtain ⟨hk_30, hw⟩ := hw
  refine g_tcT hF hH 7 rfl hk_30 q835 dX0_linkedWith_36 ?_
  obtain ⟨hk_32, hw⟩ := hw
  refine g_tset hF hH 7 rfl hk_32 q463 dX0_linkedWith_39 ?_
  refine lv_iconst (v := (-1)) hF.1.1 hF.1.2.1 dX0_linkedWith_42 (by decide) ?_
  refine lv_ixor hF.1.1 hF.1.2.1 dX0_linkedWith_43 ?_
  refine lv_iand hF.1.1 hF.1.2.1 dX0_linkedWith_44 ?_
  obtain ⟨hk_C, hk_D, hw⟩ := hw
  refine g_cVr [.int ((near r_25.toNatClampNeg) &&& ((nI q_29) ^^^ (-1)))] 1 rfl hF (met_X7_childrenIn l hl0 d tn k ((near r_25.toNatClampNeg) &&& ((nI q_29) ^^^ (-1))) tl tr tc _ hw) q895 q896 q897 q110 q898 rfl rfl (by decide +kernel) ⟨Nat.le_of_ble_eq_true rfl, Nat.le_of_ble_eq_true rfl⟩ hH [7] rfl rfl rfl (g_trecI hH 7 rfl hk_C hk_D) hl.1 (Nat.le_of_ble_eq_true rfl) dX0_linkedWith_45 ⟨(by first | exact Nat.le_of_ble_eq_true rfl | omega | (dsimp only; omega)), (by first | exact Nat.le_of_ble_eq_true rfl | omega | (dsimp only; omega))⟩ (fun v w1 H locs hq hH => ?_)
  obtain ⟨r_34, rfl, rfl, hw⟩ := hq
  have hH : g_HS d A s [[(ob, .inr (0, [.ref hA, .ref tA, .ref lA, .ref gA, .ref aF, va_rf oa]))], [(gA, .inr (2, [.int n, .ref gB]))], [(gB, .inl (d.2.1 0, 10, .inl near))], [(aF, .inr (4, [.ref (tn rk), .ref na, .ref va]))], (g_AL d na nb tn ns), [(va, .inr (1, [.ref vb, .int vm]))], [(vb, .inl (d.2.1 2, 10, .inl vf))], (g_T d tn tl tr tc)] H locs := hH
  refine W.eq (g2 := (F0 m 48 ls [.int r_34])) rfl ?_
  have hH := hH.sub (cs' := [[(ob, .inr (0, [.ref hA, .ref tA, .ref lA, .ref gA, .ref aF, va_rf oa]))], [(gA, .inr (2, [.int n, .ref gB]))], [(gB, .inl (d.2.1 0, 10, .inl near))], [(aF, .inr (4, [.ref (tn rk), .ref na, .ref va]))], (g_AL d na nb tn ns), (g_T d tn tl tr tc), [(va, .inr (1, [.ref vb, .int vm]))], [(vb, .inl (d.2.1 2, 10, .inl vf))]]) [0, 1, 2, 3, 4, 7, 5, 6] rfl rfl
  exact g_iret hF hH ⟨r_34, rfl, rfl, hw⟩ dX0_linkedWith_48

def wp_X0_quotient (a1 : Int32) (a2 : Int32) (a3 : Int32) (n : Int32) (near : Nat → Int32) (fo : Option g_FC) (Q : Int32 → (Option g_FC) → Prop) : Prop := (wp_X0_isStrong_O a1 n near fo (fun r_29 q_38 n_39 n_40 n_41 n_42 => ((r_29 = 0 → (Q (-1) (some (q_38, n_39, n_40, (n_41, n_42))))) ∧ (¬ r_29 = 0 → ((¬ a2 = a3 → (wp_X0_strongAt_S a1 n near q_38 n_39 n_40 n_41 n_42 (fun q_45 => (wp_X0_children q_45 n_40 (fun r_46 => (wp_X0_inRange a2 0 (r_46 - 1) (fun r_47 => ((r_47 = 0 → (Q (-1) (some (q_38, n_39, n_40, (n_41, n_42))))) ∧ (¬ r_47 = 0 → (wp_X0_inRange a3 0 (r_46 - 1) (fun r_49 => ((¬ r_49 = 0 → (wp_X0_strongAt_S a1 n near q_38 n_39 n_40 n_41 n_42 (fun q_51 => (q_51 ∈ n_40.1 ∧ n_40.2.2.1 q_51 ≠ 0 ∧ (wp_X0_linkedWith_S q_51 a2 n near q_38 n_39 n_40 n_41 n_42 (fun r_54 => (wp_X0_has r_54 a3 (fun r_55 => ((r_55 = 0 → (Q 0 (some (q_38, n_39, n_40, (n_41, n_42))))) ∧ (¬ r_55 = 0 → (Q 1 (some (q_38, n_39, n_40, (n_41, n_42)))))))))))))) ∧ (r_49 = 0 → (Q (-1) (some (q_38, n_39, n_40, (n_41, n_42))))))))))))))))) ∧ (a2 = a3 → (Q (-1) (some (q_38, n_39, n_40, (n_41, n_42))))))))))
set_option maxHeartbeats 4000000 in
set_option maxRecDepth 100000 in
theorem met_X0_quotient (l : Launch) (hl0 : l.stackTraces = false) (d : g_D) (ob : Nat) (a1 : Int32) (a2 : Int32) (a3 : Int32) (hA : Nat) (tA : Nat) (lA : Nat) (gA : Nat) (oa : Option Nat) (n : Int32) (gB : Nat) (near : Nat → Int32) (af : g_FA) (fo : Option g_FC) (Q : Int32 → (Option g_FC) → Prop) (hw : wp_X0_quotient a1 a2 a3 n near fo Q) : g_Met l d yX0_quotient cX0_quotient 5 (Option.some FieldType.int) ({ frames := 58, cells := 226, slots := 2978, locals := 14486 } : Room) [.ref ob, .int a1, .int a2, .int a3] [[(ob, .inr (0, [.ref hA, .ref tA, .ref lA, .ref gA, va_rf (g_fa af fo), va_rf oa]))], [(gA, .inr (2, [.int n, .ref gB]))], [(gB, .inl (d.2.1 0, 10, .inl near))], (g_FS d af fo)] 226 2978 (fun v w1 => ∃ (r : Int32) (af2 : g_FA) (fo2 : Option g_FC), v = some (.int r) ∧ w1 = [[(ob, .inr (0, [.ref hA, .ref tA, .ref lA, .ref gA, va_rf (g_fa af2 fo2), va_rf oa]))], [(gA, .inr (2, [.int n, .ref gB]))], [(gB, .inl (d.2.1 0, 10, .inl near))], (g_FS d af2 fo2)] ∧ Q r fo2) := by
  refine g_enter (by decide) (Nat.le_of_ble_eq_true rfl) ?_
  intro p e s m args below meth c A ls hF hH hl hin
  have hF : g_F p m c cX0_quotient 5 s args RX0 meth (Option.some FieldType.int) := hF
  have hl : lv_has ls 5 [(0, .ref ob), (1, .int a1), (2, .int a2), (3, .int a3)] := hl
  unfold wp_X0_quotient at hw
  refine lv_aload_n hF.1.1 hF.1.2.1 dX0_quotient_0 rfl (lv_at hl 0 rfl) ?_
  refine lv_iload_n hF.1.1 hF.1.2.1 dX0_quotient_1 rfl (lv_at hl 1 rfl) ?_
  refine g_cV [.int a1] 1 rfl hF (met_X0_isStrong_O l hl0 d ob a1 hA tA lA gA oa n gB near af fo _ hw) q826 q828 qs18 q92 q829 rfl rfl (by decide +kernel) ⟨Nat.le_of_ble_eq_true rfl, Nat.le_of_ble_eq_true rfl⟩ hH [0, 1, 2, 3] rfl rfl rfl 0 0 rfl rfl rfl hl.1 (Nat.le_of_ble_eq_true rfl) dX0_quotient_2 ⟨(by first | exact Nat.le_of_ble_eq_true rfl | omega | (dsimp only; omega)), (by first | exact Nat.le_of_ble_eq_true rfl | omega | (dsimp only; omega))⟩ (fun v w1 H locs hq hH => ?_)
  obtain ⟨r_29, q_30, n_31, n_32, n_33, q_34, q_35, q_36, q_37, q_38, n_39, n_40, n_41, n_42, rfl, rfl, hw⟩ := hq
  have hH : g_HS d A s [[(ob, .inr (0, [.ref hA, .ref tA, .ref lA, .ref gA, .ref q_30, va_rf oa]))], [(gA, .inr (2, [.int n, .ref gB]))], [(gB, .inl (d.2.1 0, 10, .inl near))], [(q_30, .inr (4, [.ref (n_31 q_38), .ref q_34, .ref q_36]))], (g_AL d q_34 q_35 n_31 n_39), (g_T d n_31 n_32 n_33 n_40), [(q_36, .inr (1, [.ref q_37, .int n_41]))], [(q_37, .inl (d.2.1 2, 10, .inl n_42))]] H locs := hH
  refine W.eq (g2 := (F0 m 5 ls [.int r_29])) rfl ?_
  refine W.widen (k := 226) (n := 2978) (by first | exact Nat.le_of_ble_eq_true rfl | omega | (dsimp only; omega)) (by first | exact Nat.le_of_ble_eq_true rfl | omega | (dsimp only; omega)) ?_
  refine lv_if_eq (tgt := 13) hF.1.1 hF.1.2.1 dX0_quotient_5 (by decide) (fun c_43 => ?_) (fun c_43 => ?_)
  · have hw := hw.1 c_43
    refine lv_iconst (v := (-1)) hF.1.1 hF.1.2.1 dX0_quotient_13 (by decide) ?_
    have hH := hH.sub (cs' := [[(q_30, .inr (4, [.ref (n_31 q_38), .ref q_34, .ref q_36]))], (g_AL d q_34 q_35 n_31 n_39), (g_T d n_31 n_32 n_33 n_40), [(q_36, .inr (1, [.ref q_37, .int n_41]))], [(q_37, .inl (d.2.1 2, 10, .inl n_42))], [(ob, .inr (0, [.ref hA, .ref tA, .ref lA, .ref gA, .ref q_30, va_rf oa]))], [(gA, .inr (2, [.int n, .ref gB]))], [(gB, .inl (d.2.1 0, 10, .inl near))]]) [3, 4, 5, 6, 7, 0, 1, 2] rfl rfl
    have hH := g_HS.closeF hH
    have hH : g_HS d A s [(g_FS d (g_ad5 q_30 q_34 q_36 q_35 q_37, n_31, n_32, n_33) (some (q_38, n_39, n_40, (n_41, n_42)))), [(ob, .inr (0, [.ref hA, .ref tA, .ref lA, .ref gA, .ref q_30, va_rf oa]))], [(gA, .inr (2, [.int n, .ref gB]))], [(gB, .inl (d.2.1 0, 10, .inl near))]] H _ := hH
    have hH := hH.sub (cs' := [[(ob, .inr (0, [.ref hA, .ref tA, .ref lA, .ref gA, .ref q_30, va_rf oa]))], [(gA, .inr (2, [.int n, .ref gB]))], [(gB, .inl (d.2.1 0, 10, .inl near))], (g_FS d (g_ad5 q_30 q_34 q_36 q_35 q_37, n_31, n_32, n_33) (some (q_38, n_39, n_40, (n_41, n_42))))]) [1, 2, 3, 0] rfl rfl
    exact g_iret hF hH ⟨(-1), (g_ad5 q_30 q_34 q_36 q_35 q_37, n_31, n_32, n_33), (some (q_38, n_39, n_40, (n_41, n_42))), rfl, rfl, hw⟩ dX0_quotient_14
  · have hw := hw.2 c_43
    refine lv_iload_n hF.1.1 hF.1.2.1 dX0_quotient_8 rfl (lv_at hl 2 rfl) ?_
    refine lv_iload_n hF.1.1 hF.1.2.1 dX0_quotient_9 rfl (lv_at hl 3 rfl) ?_
    refine lv_icmp_ne (tgt := 15) hF.1.1 hF.1.2.1 dX0_quotient_10 (by decide) (fun c_44 => ?_) (fun c_44 => ?_)
    · have hw := hw.1 c_44
      refine lv_aload_n hF.1.1 hF.1.2.1 dX0_quotient_15 rfl (lv_at hl 0 rfl) ?_
      refine lv_iload_n hF.1.1 hF.1.2.1 dX0_quotient_16 rfl (lv_at hl 1 rfl) ?_
      refine g_cV [.int a1] 1 rfl hF (met_X0_strongAt_S l hl0 d ob a1 hA tA lA gA q_30 oa n gB near n_31 q_38 q_34 q_36 q_35 n_39 n_32 n_33 n_40 q_37 n_41 n_42 _ hw) q830 q832 qs19 q92 q833 rfl rfl (by decide +kernel) ⟨Nat.le_of_ble_eq_true rfl, Nat.le_of_ble_eq_true rfl⟩ hH [0, 1, 2, 3, 4, 5, 6, 7] rfl rfl rfl 0 0 rfl rfl rfl hl.1 (Nat.le_of_ble_eq_true rfl) dX0_quotient_17 ⟨(by first | exact Nat.le_of_ble_eq_true rfl | omega | (dsimp only; omega)), (by first | exact Nat.le_of_ble_eq_true rfl | omega | (dsimp only; omega))⟩ (fun v w1 H locs hq hH => ?_)
      obtain ⟨q_45, rfl, rfl, hw⟩ := hq
      have hH : g_HS d A s [[(ob, .inr (0, [.ref hA, .ref tA, .ref lA, .ref gA, .ref q_30, va_rf oa]))], [(gA, .inr (2, [.int n, .ref gB]))], [(gB, .inl (d.2.1 0, 10, .inl near))], [(q_30, .inr (4, [.ref (n_31 q_38), .ref q_34, .ref q_36]))], (g_AL d q_34 q_35 n_31 n_39), (g_T d n_31 n_32 n_33 n_40), [(q_36, .inr (1, [.ref q_37, .int n_41]))], [(q_37, .inl (d.2.1 2, 10, .inl n_42))]] H locs := hH
      refine W.eq (g2 := (F0 m 20 ls [.ref (n_31 q_45)])) rfl ?_
      refine g_cS [.ref (n_31 q_45)] 1 rfl hF (met_X0_children l hl0 d n_31 q_45 n_32 n_33 n_40 _ hw) q883 q884 q92 q885 rfl rfl (by decide +kernel) ⟨Nat.le_of_ble_eq_true rfl, Nat.le_of_ble_eq_true rfl⟩ hH [5] rfl rfl rfl hl.1 (Nat.le_of_ble_eq_true rfl) dX0_quotient_20 ⟨(by first | exact Nat.le_of_ble_eq_true rfl | omega | (dsimp only; omega)), (by first | exact Nat.le_of_ble_eq_true rfl | omega | (dsimp only; omega))⟩ (fun v w1 H locs hq hH => ?_)
      obtain ⟨r_46, rfl, rfl, hw⟩ := hq
      have hH : g_HS d A s [[(ob, .inr (0, [.ref hA, .ref tA, .ref lA, .ref gA, .ref q_30, va_rf oa]))], [(gA, .inr (2, [.int n, .ref gB]))], [(gB, .inl (d.2.1 0, 10, .inl near))], [(q_30, .inr (4, [.ref (n_31 q_38), .ref q_34, .ref q_36]))], (g_AL d q_34 q_35 n_31 n_39), [(q_36, .inr (1, [.ref q_37, .int n_41]))], [(q_37, .inl (d.2.1 2, 10, .inl n_42))], (g_T d n_31 n_32 n_33 n_40)] H locs := hH
      refine W.eq (g2 := (F0 m 23 ls [.int r_46])) rfl ?_
      refine lv_iconst (v := 1) hF.1.1 hF.1.2.1 dX0_quotient_23 (by decide) ?_
      refine lv_isub hF.1.1 hF.1.2.1 dX0_quotient_24 ?_
      refine lv_istore (lv' := [(4, .int (r_46 - 1)), (0, .ref ob), (1, .int a1), (2, .int a2), (3, .int a3)]) hF.1.1 hF.1.2.1 dX0_quotient_25 hl (by decide) rfl (fun ls hl => ?_)
      refine lv_iload_n hF.1.1 hF.1.2.1 dX0_quotient_27 rfl (lv_at hl 3 rfl) ?_
      refine lv_iconst (v := 0) hF.1.1 hF.1.2.1 dX0_quotient_28 (by decide) ?_
      refine lv_iload hF.1.1 hF.1.2.1 dX0_quotient_29 (lv_at hl 0 rfl) ?_
      refine g_cS [.int a2, .int 0, .int (r_46 - 1)] 3 rfl hF (met_X0_inRange l hl0 d a2 0 (r_46 - 1) _ hw) q206 q207 q92 q208 rfl rfl (by decide +kernel) ⟨Nat.le_of_ble_eq_true rfl, Nat.le_of_ble_eq_true rfl⟩ hH [] rfl rfl rfl hl.1 (Nat.le_of_ble_eq_true rfl) dX0_quotient_31 ⟨(by first | exact Nat.le_of_ble_eq_true rfl | omega | (dsimp only; omega)), (by first | exact Nat.le_of_ble_eq_true rfl | omega | (dsimp only; omega))⟩ (fun v w1 H locs hq hH => ?_)
      obtain ⟨r_47, rfl, rfl, hw⟩ := hq
      have hH : g_HS d A s [[(ob, .inr (0, [.ref hA, .ref tA, .ref lA, .ref gA, .ref q_30, va_rf oa]))], [(gA, .inr (2, [.int n, .ref gB]))], [(gB, .inl (d.2.1 0, 10, .inl near))], [(q_30, .inr (4, [.ref (n_31 q_38), .ref q_34, .ref q_36]))], (g_AL d q_34 q_35 n_31 n_39), [(q_36, .inr (1, [.ref q_37, .int n_41]))], [(q_37, .inl (d.2.1 2, 10, .inl n_42))], (g_T d n_31 n_32 n_33 n_40)] H locs := hH
      refine W.eq (g2 := (F0 m 34 ls [.int r_47])) rfl ?_
      refine lv_if_eq (tgt := 47) hF.1.1 hF.1.2.1 dX0_quotient_34 (by decide) (fun c_48 => ?_) (fun c_48 => ?_)
      · have hw := hw.1 c_48
        refine lv_iconst (v := (-1)) hF.1.1 hF.1.2.1 dX0_quotient_47 (by decide) ?_
        have hH := hH.sub (cs' := [[(q_30, .inr (4, [.ref (n_31 q_38), .ref q_34, .ref q_36]))], (g_AL d q_34 q_35 n_31 n_39), (g_T d n_31 n_32 n_33 n_40), [(q_36, .inr (1, [.ref q_37, .int n_41]))], [(q_37, .inl (d.2.1 2, 10, .inl n_42))], [(ob, .inr (0, [.ref hA, .ref tA, .ref lA, .ref gA, .ref q_30, va_rf oa]))], [(gA, .inr (2, [.int n, .ref gB]))], [(gB, .inl (d.2.1 0, 10, .inl near))]]) [3, 4, 7, 5, 6, 0, 1, 2] rfl rfl
        have hH := g_HS.closeF hH
        have hH : g_HS d A s [(g_FS d (g_ad5 q_30 q_34 q_36 q_35 q_37, n_31, n_32, n_33) (some (q_38, n_39, n_40, (n_41, n_42)))), [(ob, .inr (0, [.ref hA, .ref tA, .ref lA, .ref gA, .ref q_30, va_rf oa]))], [(gA, .inr (2, [.int n, .ref gB]))], [(gB, .inl (d.2.1 0, 10, .inl near))]] H _ := hH
        have hH := hH.sub (cs' := [[(ob, .inr (0, [.ref hA, .ref tA, .ref lA, .ref gA, .ref q_30, va_rf oa]))], [(gA, .inr (2, [.int n, .ref gB]))], [(gB, .inl (d.2.1 0, 10, .inl near))], (g_FS d (g_ad5 q_30 q_34 q_36 q_35 q_37, n_31, n_32, n_33) (some (q_38, n_39, n_40, (n_41, n_42))))]) [1, 2, 3, 0] rfl rfl
        exact g_iret hF hH ⟨(-1), (g_ad5 q_30 q_34 q_36 q_35 q_37, n_31, n_32, n_33), (some (q_38, n_39, n_40, (n_41, n_42))), rfl, rfl, hw⟩ dX0_quotient_48
      · have hw := hw.2 c_48
        refine lv_iload_n hF.1.1 hF.1.2.1 dX0_quotient_37 rfl (lv_at hl 4 rfl) ?_
        refine lv_iconst (v := 0) hF.1.1 hF.1.2.1 dX0_quotient_38 (by decide) ?_
        refine lv_iload hF.1.1 hF.1.2.1 dX0_quotient_39 (lv_at hl 0 rfl) ?_
        refine g_cS [.int a3, .int 0, .int (r_46 - 1)] 3 rfl hF (met_X0_inRange l hl0 d a3 0 (r_46 - 1) _ hw) q206 q207 q92 q208 rfl rfl (by decide +kernel) ⟨Nat.le_of_ble_eq_true rfl, Nat.le_of_ble_eq_true rfl⟩ hH [] rfl rfl rfl hl.1 (Nat.le_of_ble_eq_true rfl) dX0_quotient_41 ⟨(by first | exact Nat.le_of_ble_eq_true rfl | omega | (dsimp only; omega)), (by first | exact Nat.le_of_ble_eq_true rfl | omega | (dsimp only; omega))⟩ (fun v w1 H locs hq hH => ?_)
        obtain ⟨r_49, rfl, rfl, hw⟩ := hq
        have hH : g_HS d A s [[(ob, .inr (0, [.ref hA, .ref tA, .ref lA, .ref gA, .ref q_30, va_rf oa]))], [(gA, .inr (2, [.int n, .ref gB]))], [(gB, .inl (d.2.1 0, 10, .inl near))], [(q_30, .inr (4, [.ref (n_31 q_38), .ref q_34, .ref q_36]))], (g_AL d q_34 q_35 n_31 n_39), [(q_36, .inr (1, [.ref q_37, .int n_41]))], [(q_37, .inl (d.2.1 2, 10, .inl n_42))], (g_T d n_31 n_32 n_33 n_40)] H locs := hH
        refine W.eq (g2 := (F0 m 44 ls [.int r_49])) rfl ?_
        refine lv_if_ne (tgt := 49) hF.1.1 hF.1.2.1 dX0_quotient_44 (by decide) (fun c_50 => ?_) (fun c_50 => ?_)
        · have hw := hw.1 c_50
          refine lv_aload_n hF.1.1 hF.1.2.1 dX0_quotient_49 rfl (lv_at hl 1 rfl) ?_
          refine lv_aload_n hF.1.1 hF.1.2.1 dX0_quotient_50 rfl (lv_at hl 1 rfl) ?_
          refine lv_iload_n hF.1.1 hF.1.2.1 dX0_quotient_51 rfl (lv_at hl 2 rfl) ?_
          refine g_cV [.int a1] 1 rfl hF (met_X0_strongAt_S l hl0 d ob a1 hA tA lA gA q_30 oa n gB near n_31 q_38 q_34 q_36 q_35 n_39 n_32 n_33 n_40 q_37 n_41 n_42 _ hw) q830 q832 qs19 q92 q833 rfl rfl (by decide +kernel) ⟨Nat.le_of_ble_eq_true rfl, Nat.le_of_ble_eq_true rfl⟩ hH [0, 1, 2, 3, 4, 7, 5, 6] rfl rfl rfl 0 0 rfl rfl rfl hl.1 (Nat.le_of_ble_eq_true rfl) dX0_quotient_52 ⟨(by first | exact Nat.le_of_ble_eq_true rfl | omega | (dsimp only; omega)), (by first | exact Nat.le_of_ble_eq_true rfl | omega | (dsimp only; omega))⟩ (fun v w1 H locs hq hH => ?_)
          obtain ⟨q_51, rfl, rfl, hw⟩ := hq
          have hH : g_HS d A s [[(ob, .inr (0, [.ref hA, .ref tA, .ref lA, .ref gA, .ref q_30, va_rf oa]))], [(gA, .inr (2, [.int n, .ref gB]))], [(gB, .inl (d.2.1 0, 10, .inl near))], [(q_30, .inr (4, [.ref (n_31 q_38), .ref q_34, .ref q_36]))], (g_AL d q_34 q_35 n_31 n_39), (g_T d n_31 n_32 n_33 n_40), [(q_36, .inr (1, [.ref q_37, .int n_41]))], [(q_37, .inl (d.2.1 2, 10, .inl n_42))]] H locs := hH
          refine W.eq (g2 := (F0 m 55 ls [.ref (n_31 q_51), .ref ob])) rfl ?_
          obtain ⟨hk_52, hk_53, hw⟩ := hw
          refine g_tcI hF hH 5 rfl hk_52 hk_53 q472 dX0_quotient_55 ?_
          refine lv_iload_n hF.1.1 hF.1.2.1 dX0_quotient_58 rfl (lv_at hl 3 rfl) ?_
          refine g_cV [.ref (n_31 q_51), .int a2] 2 rfl hF (met_X0_linkedWith_S l hl0 d ob n_31 q_51 a2 hA tA lA gA q_30 oa n gB near q_38 q_34 q_36 q_35 n_39 n_32 n_33 n_40 q_37 n_41 n_42 _ hw) q906 q908 qs21 q92 q909 rfl rfl (by decide +kernel) ⟨Nat.le_of_ble_eq_true rfl, Nat.le_of_ble_eq_true rfl⟩ hH [0, 1, 2, 3, 4, 5, 6, 7] rfl rfl rfl 0 0 rfl rfl rfl hl.1 (Nat.le_of_ble_eq_true rfl) dX0_quotient_59 ⟨(by first | exact Nat.le_of_ble_eq_true rfl | omega | (dsimp only; omega)), (by first | exact Nat.le_of_ble_eq_true rfl | omega | (dsimp only; omega))⟩ (fun v w1 H locs hq hH => ?_)
          obtain ⟨r_54, rfl, rfl, hw⟩ := hq
          have hH : g_HS d A s [[(ob, .inr (0, [.ref hA, .ref tA, .ref lA, .ref gA, .ref q_30, va_rf oa]))], [(gA, .inr (2, [.int n, .ref gB]))], [(gB, .inl (d.2.1 0, 10, .inl near))], [(q_30, .inr (4, [.ref (n_31 q_38), .ref q_34, .ref q_36]))], (g_AL d q_34 q_35 n_31 n_39), (g_T d n_31 n_32 n_33 n_40), [(q_36, .inr (1, [.ref q_37, .int n_41]))], [(q_37, .inl (d.2.1 2, 10, .inl n_42))]] H locs := hH
          refine W.eq (g2 := (F0 m 62 ls [.int r_54])) rfl ?_
          refine lv_iload_n hF.1.1 hF.1.2.1 dX0_quotient_62 rfl (lv_at hl 4 rfl) ?_
          refine g_cS [.int r_54, .int a3] 2 rfl hF (met_X0_has l hl0 d r_54 a3 _ hw) q516 q241 q92 q242 rfl rfl (by decide +kernel) ⟨Nat.le_of_ble_eq_true rfl, Nat.le_of_ble_eq_true rfl⟩ hH [] rfl rfl rfl hl.1 (Nat.le_of_ble_eq_true rfl) dX0_quotient_63 ⟨(by first | exact Nat.le_of_ble_eq_true rfl | omega | (dsimp only; omega)), (by first | exact Nat.le_of_ble_eq_true rfl | omega | (dsimp only; omega))⟩ (fun v w1 H locs hq hH => ?_)
          obtain ⟨r_55, rfl, rfl, hw⟩ := hq
          have hH : g_HS d A s [[(ob, .inr (0, [.ref hA, .ref tA, .ref lA, .ref gA, .ref q_30, va_rf oa]))], [(gA, .inr (2, [.int n, .ref gB]))], [(gB, .inl (d.2.1 0, 10, .inl near))], [(q_30, .inr (4, [.ref (n_31 q_38), .ref q_34, .ref q_36]))], (g_AL d q_34 q_35 n_31 n_39), (g_T d n_31 n_32 n_33 n_40), [(q_36, .inr (1, [.ref q_37, .int n_41]))], [(q_37, .inl (d.2.1 2, 10, .inl n_42))]] H locs := hH
          refine W.eq (g2 := (F0 m 66 ls [.int r_55])) rfl ?_
          refine lv_if_eq (tgt := 73) hF.1.1 hF.1.2.1 dX0_quotient_66 (by decide) (fun c_56 => ?_) (fun c_56 => ?_)
          · have hw := hw.1 c_56
            refine lv_iconst (v := 0) hF.1.1 hF.1.2.1 dX0_quotient_73 (by decide) ?_
            have hH := hH.sub (cs' := [[(q_30, .inr (4, [.ref (n_31 q_38), .ref q_34, .ref q_36]))], (g_AL d q_34 q_35 n_31 n_39), (g_T d n_31 n_32 n_33 n_40), [(q_36, .inr (1, [.ref q_37, .int n_41]))], [(q_37, .inl (d.2.1 2, 10, .inl n_42))], [(ob, .inr (0, [.ref hA, .ref tA, .ref lA, .ref gA, .ref q_30, va_rf oa]))], [(gA, .inr (2, [.int n, .ref gB]))], [(gB, .inl (d.2.1 0, 10, .inl near))]]) [3, 4, 5, 6, 7, 0, 1, 2] rfl rfl
            have hH := g_HS.closeF hH
            have hH : g_HS d A s [(g_FS d (g_ad5 q_30 q_34 q_36 q_35 q_37, n_31, n_32, n_33) (some (q_38, n_39, n_40, (n_41, n_42)))), [(ob, .inr (0, [.ref hA, .ref tA, .ref lA, .ref gA, .ref q_30, va_rf oa]))], [(gA, .inr (2, [.int n, .ref gB]))], [(gB, .inl (d.2.1 0, 10, .inl near))]] H _ := hH
            have hH := hH.sub (cs' := [[(ob, .inr (0, [.ref hA, .ref tA, .ref lA, .ref gA, .ref q_30, va_rf oa]))], [(gA, .inr (2, [.int n, .ref gB]))], [(gB, .inl (d.2.1 0, 10, .inl near))], (g_FS d (g_ad5 q_30 q_34 q_36 q_35 q_37, n_31, n_32, n_33) (some (q_38, n_39, n_40, (n_41, n_42))))]) [1, 2, 3, 0] rfl rfl
            exact g_iret hF hH ⟨0, (g_ad5 q_30 q_34 q_36 q_35 q_37, n_31, n_32, n_33), (some (q_38, n_39, n_40, (n_41, n_42))), rfl, rfl, hw⟩ dX0_quotient_74
          · have hw := hw.2 c_56
            refine lv_iconst (v := 1) hF.1.1 hF.1.2.1 dX0_quotient_69 (by decide) ?_
            refine lv_goto (tgt := 74) hF.1.1 hF.1.2.1 dX0_quotient_70 (by decide) ?_
            have hH := hH.sub (cs' := [[(q_30, .inr (4, [.ref (n_31 q_38), .ref q_34, .ref q_36]))], (g_AL d q_34 q_35 n_31 n_39), (g_T d n_31 n_32 n_33 n_40), [(q_36, .inr (1, [.ref q_37, .int n_41]))], [(q_37, .inl (d.2.1 2, 10, .inl n_42))], [(ob, .inr (0, [.ref hA, .ref tA, .ref lA, .ref gA, .ref q_30, va_rf oa]))], [(gA, .inr (2, [.int n, .ref gB]))], [(gB, .inl (d.2.1 0, 10, .inl near))]]) [3, 4, 5, 6, 7, 0, 1, 2] rfl rfl
            have hH := g_HS.closeF hH
            have hH : g_HS d A s [(g_FS d (g_ad5 q_30 q_34 q_36 q_35 q_37, n_31, n_32, n_33) (some (q_38, n_39, n_40, (n_41, n_42)))), [(ob, .inr (0, [.ref hA, .ref tA, .ref lA, .ref gA, .ref q_30, va_rf oa]))], [(gA, .inr (2, [.int n, .ref gB]))], [(gB, .inl (d.2.1 0, 10, .inl near))]] H _ := hH
            have hH := hH.sub (cs' := [[(ob, .inr (0, [.ref hA, .ref tA, .ref lA, .ref gA, .ref q_30, va_rf oa]))], [(gA, .inr (2, [.int n, .ref gB]))], [(gB, .inl (d.2.1 0, 10, .inl near))], (g_FS d (g_ad5 q_30 q_34 q_36 q_35 q_37, n_31, n_32, n_33) (some (q_38, n_39, n_40, (n_41, n_42))))]) [1, 2, 3, 0] rfl rfl
            exact g_iret hF hH ⟨1, (g_ad5 q_30 q_34 q_36 q_35 q_37, n_31, n_32, n_33), (some (q_38, n_39, n_40, (n_41, n_42))), rfl, rfl, hw⟩ dX0_quotient_74
        · have hw := hw.2 c_50
          refine lv_iconst (v := (-1)) hF.1.1 hF.1.2.1 dX0_quotient_47 (by decide) ?_
          have hH := hH.sub (cs' := [[(q_30, .inr (4, [.ref (n_31 q_38), .ref q_34, .ref q_36]))], (g_AL d q_34 q_35 n_31 n_39), (g_T d n_31 n_32 n_33 n_40), [(q_36, .inr (1, [.ref q_37, .int n_41]))], [(q_37, .inl (d.2.1 2, 10, .inl n_42))], [(ob, .inr (0, [.ref hA, .ref tA, .ref lA, .ref gA, .ref q_30, va_rf oa]))], [(gA, .inr (2, [.int n, .ref gB]))], [(gB, .inl (d.2.1 0, 10, .inl near))]]) [3, 4, 7, 5, 6, 0, 1, 2] rfl rfl
          have hH := g_HS.closeF hH
          have hH : g_HS d A s [(g_FS d (g_ad5 q_30 q_34 q_36 q_35 q_37, n_31, n_32, n_33) (some (q_38, n_39, n_40, (n_41, n_42)))), [(ob, .inr (0, [.ref hA, .ref tA, .ref lA, .ref gA, .ref q_30, va_rf oa]))], [(gA, .inr (2, [.int n, .ref gB]))], [(gB, .inl (d.2.1 0, 10, .inl near))]] H _ := hH
          have hH := hH.sub (cs' := [[(ob, .inr (0, [.ref hA, .ref tA, .ref lA, .ref gA, .ref q_30, va_rf oa]))], [(gA, .inr (2, [.int n, .ref gB]))], [(gB, .inl (d.2.1 0, 10, .inl near))], (g_FS d (g_ad5 q_30 q_34 q_36 q_35 q_37, n_31, n_32, n_33) (some (q_38, n_39, n_40, (n_41, n_42))))]) [1, 2, 3, 0] rfl rfl
          exact g_iret hF hH ⟨(-1), (g_ad5 q_30 q_34 q_36 q_35 q_37, n_31, n_32, n_33), (some (q_38, n_39, n_40, (n_41, n_42))), rfl, rfl, hw⟩ dX0_quotient_48
    · have hw := hw.2 c_44
      refine lv_iconst (v := (-1)) hF.1.1 hF.1.2.1 dX0_quotient_13 (by decide) ?_
      have hH := hH.sub (cs' := [[(q_30, .inr (4, [.ref (n_31 q_38), .ref q_34, .ref q_36]))], (g_AL d q_34 q_35 n_31 n_39), (g_T d n_31 n_32 n_33 n_40), [(q_36, .inr (1, [.ref q_37, .int n_41]))], [(q_37, .inl (d.2.1 2, 10, .inl n_42))], [(ob, .inr (0, [.ref hA, .ref tA, .ref lA, .ref gA, .ref q_30, va_rf oa]))], [(gA, .inr (2, [.int n, .ref gB]))], [(gB, .inl (d.2.1 0, 10, .inl near))]]) [3, 4, 5, 6, 7, 0, 1, 2] rfl rfl
      have hH := g_HS.closeF hH
      have hH : g_HS d A s [(g_FS d (g_ad5 q_30 q_34 q_36 q_35 q_37, n_31, n_32, n_33) (some (q_38, n_39, n_40, (n_41, n_42)))), [(ob, .inr (0, [.ref hA, .ref tA, .ref lA, .ref gA, .ref q_30, va_rf oa]))], [(gA, .inr (2, [.int n, .ref gB]))], [(gB, .inl (d.2.1 0, 10, .inl near))]] H _ := hH
      have hH := hH.sub (cs' := [[(ob, .inr (0, [.ref hA, .ref tA, .ref lA, .ref gA, .ref q_30, va_rf oa]))], [(gA, .inr (2, [.int n, .ref gB]))], [(gB, .inl (d.2.1 0, 10, .inl near))], (g_FS d (g_ad5 q_30 q_34 q_36 q_35 q_37, n_31, n_32, n_33) (some (q_38, n_39, n_40, (n_41, n_42))))]) [1, 2, 3, 0] rfl rfl
      exact g_iret hF hH ⟨(-1), (g_ad5 q_30 q_34 q_36 q_35 q_37, n_31, n_32, n_33), (some (q_38, n_39, n_40, (n_41, n_42))), rfl, rfl, hw⟩ dX0_quotient_14

def wp_X0_treeRow (a1 : Int32) (n : Int32) (near : Nat → Int32) (fo : Option g_FC) (Q : Int32 → (Option g_FC) → Prop) : Prop := ((0 ≤ a1 → ((n ≤ a1 → (Q (-4) fo)) ∧ (¬ n ≤ a1 → (wp_X0_forest n near fo (fun q_27 n_28 n_29 n_30 n_31 => (wp_X1_at_B a1 n_30 n_31 (fun r_32 => (Q (r_32.toInt32) (some (q_27, n_28, n_29, (n_30, n_31))))))))))) ∧ (¬ 0 ≤ a1 → (Q (-1) fo)))
set_option maxHeartbeats 4000000 in
set_option maxRecDepth 100000 in
theorem met_X0_treeRow (l : Launch) (hl0 : l.stackTraces = false) (d : g_D) (ob : Nat) (a1 : Int32) (hA : Nat) (tA : Nat) (lA : Nat) (gA : Nat) (oa : Option Nat) (n : Int32) (gB : Nat) (near : Nat → Int32) (af : g_FA) (fo : Option g_FC) (Q : Int32 → (Option g_FC) → Prop) (hw : wp_X0_treeRow a1 n near fo Q) : g_Met l d yX0_treeRow cX0_treeRow 2 (Option.some FieldType.int) ({ frames := 57, cells := 226, slots := 2978, locals := 14465 } : Room) [.ref ob, .int a1] [[(ob, .inr (0, [.ref hA, .ref tA, .ref lA, .ref gA, va_rf (g_fa af fo), va_rf oa]))], [(gA, .inr (2, [.int n, .ref gB]))], [(gB, .inl (d.2.1 0, 10, .inl near))], (g_FS d af fo)] 226 2978 (fun v w1 => ∃ (r : Int32) (af2 : g_FA) (fo2 : Option g_FC), v = some (.int r) ∧ w1 = [[(ob, .inr (0, [.ref hA, .ref tA, .ref lA, .ref gA, va_rf (g_fa af2 fo2), va_rf oa]))], [(gA, .inr (2, [.int n, .ref gB]))], [(gB, .inl (d.2.1 0, 10, .inl near))], (g_FS d af2 fo2)] ∧ Q r fo2) := by
  refine g_enter (by decide) (Nat.le_of_ble_eq_true rfl) ?_
  intro p e s m args below meth c A ls hF hH hl hin
  have hF : g_F p m c cX0_treeRow 2 s args RX0 meth (Option.some FieldType.int) := hF
  have hl : lv_has ls 2 [(0, .ref ob), (1, .int a1)] := hl
  unfold wp_X0_treeRow at hw
  refine lv_iload_n hF.1.1 hF.1.2.1 dX0_treeRow_0 rfl (lv_at hl 1 rfl) ?_
  refine lv_if_ge (tgt := 6) hF.1.1 hF.1.2.1 dX0_treeRow_1 (by decide) (fun c_17 => ?_) (fun c_17 => ?_)
  · have hw := hw.1 c_17
    refine lv_iload_n hF.1.1 hF.1.2.1 dX0_treeRow_6 rfl (lv_at hl 1 rfl) ?_
    refine lv_aload_n hF.1.1 hF.1.2.1 dX0_treeRow_7 rfl (lv_at hl 0 rfl) ?_
    refine g_get (v := .ref gA) hF hH in_X0 rfl 0 0 rfl rfl 3 (by decide) q186 (fun _ h9 => h9) rfl dX0_treeRow_8 ?_
    refine g_getN (v := .int n) hF hH in_X2 rfl 1 0 rfl rfl 0 (by decide) q169 (fun _ h9 => h9) rfl dX0_treeRow_11 ?_
    refine lv_icmp_ge (tgt := 32) hF.1.1 hF.1.2.1 dX0_treeRow_14 (by decide) (fun c_18 => ?_) (fun c_18 => ?_)
    · have hw := hw.1 c_18
      refine lv_bipush (v := (-4)) hF.1.1 hF.1.2.1 dX0_treeRow_32 (by decide) ?_
      refine W.widen (k := 226) (n := 2978) (by first | exact Nat.le_of_ble_eq_true rfl | omega | (dsimp only; omega)) (by first | exact Nat.le_of_ble_eq_true rfl | omega | (dsimp only; omega)) ?_
      exact g_iret hF hH ⟨(-4), af, fo, rfl, rfl, hw⟩ dX0_treeRow_34
    · have hw := hw.2 c_18
      refine lv_aload_n hF.1.1 hF.1.2.1 dX0_treeRow_17 rfl (lv_at hl 0 rfl) ?_
      refine g_cV [] 0 rfl hF (met_X0_forest l hl0 d ob hA tA lA gA oa af fo n gB near _ hw) q402 q404 qs8 q92 q405 rfl rfl (by decide +kernel) ⟨Nat.le_of_ble_eq_true rfl, Nat.le_of_ble_eq_true rfl⟩ hH [0, 1, 2, 3] rfl rfl rfl 0 0 rfl rfl rfl hl.1 (Nat.le_of_ble_eq_true rfl) dX0_treeRow_18 ⟨(by first | exact Nat.le_of_ble_eq_true rfl | omega | (dsimp only; omega)), (by first | exact Nat.le_of_ble_eq_true rfl | omega | (dsimp only; omega))⟩ (fun v w1 H locs hq hH => ?_)
      obtain ⟨q_19, n_20, n_21, n_22, q_23, q_24, q_25, q_26, q_27, n_28, n_29, n_30, n_31, rfl, rfl, hw⟩ := hq
      have hH : g_HS d A s [[(ob, .inr (0, [.ref hA, .ref tA, .ref lA, .ref gA, .ref q_19, va_rf oa]))], [(gA, .inr (2, [.int n, .ref gB]))], [(gB, .inl (d.2.1 0, 10, .inl near))], [(q_19, .inr (4, [.ref (n_20 q_27), .ref q_23, .ref q_25]))], (g_AL d q_23 q_24 n_20 n_28), (g_T d n_20 n_21 n_22 n_29), [(q_25, .inr (1, [.ref q_26, .int n_30]))], [(q_26, .inl (d.2.1 2, 10, .inl n_31))]] H locs := hH
      refine W.eq (g2 := (F0 m 21 ls [.ref q_19])) rfl ?_
      refine W.widen (k := 226) (n := 2978) (by first | exact Nat.le_of_ble_eq_true rfl | omega | (dsimp only; omega)) (by first | exact Nat.le_of_ble_eq_true rfl | omega | (dsimp only; omega)) ?_
      refine g_getN (v := .ref q_25) hF hH in_X4 rfl 3 0 rfl rfl 2 (by decide) q682 (fun _ h9 => h9) rfl dX0_treeRow_21 ?_
      refine lv_iload_n hF.1.1 hF.1.2.1 dX0_treeRow_24 rfl (lv_at hl 1 rfl) ?_
      refine g_cV [.int a1] 1 rfl hF (met_X1_at_B l hl0 d q_25 a1 q_26 n_30 n_31 _ hw) q930 q225 q226 q93 q227 rfl rfl (by decide +kernel) ⟨Nat.le_of_ble_eq_true rfl, Nat.le_of_ble_eq_true rfl⟩ hH [6, 7] rfl rfl rfl 0 0 rfl rfl rfl hl.1 (Nat.le_of_ble_eq_true rfl) dX0_treeRow_25 ⟨(by first | exact Nat.le_of_ble_eq_true rfl | omega | (dsimp only; omega)), (by first | exact Nat.le_of_ble_eq_true rfl | omega | (dsimp only; omega))⟩ (fun v w1 H locs hq hH => ?_)
      obtain ⟨r_32, rfl, rfl, hw⟩ := hq
      have hH : g_HS d A s [[(ob, .inr (0, [.ref hA, .ref tA, .ref lA, .ref gA, .ref q_19, va_rf oa]))], [(gA, .inr (2, [.int n, .ref gB]))], [(gB, .inl (d.2.1 0, 10, .inl near))], [(q_19, .inr (4, [.ref (n_20 q_27), .ref q_23, .ref q_25]))], (g_AL d q_23 q_24 n_20 n_28), (g_T d n_20 n_21 n_22 n_29), [(q_25, .inr (1, [.ref q_26, .int n_30]))], [(q_26, .inl (d.2.1 2, 10, .inl n_31))]] H locs := hH
      refine W.eq (g2 := (F0 m 28 ls [.long r_32])) rfl ?_
      refine lv_l2i (v := (r_32.toInt32)) hF.1.1 hF.1.2.1 dX0_treeRow_28 rfl ?_
      refine lv_goto (tgt := 34) hF.1.1 hF.1.2.1 dX0_treeRow_29 (by decide) ?_
      have hH := hH.sub (cs' := [[(q_19, .inr (4, [.ref (n_20 q_27), .ref q_23, .ref q_25]))], (g_AL d q_23 q_24 n_20 n_28), (g_T d n_20 n_21 n_22 n_29), [(q_25, .inr (1, [.ref q_26, .int n_30]))], [(q_26, .inl (d.2.1 2, 10, .inl n_31))], [(ob, .inr (0, [.ref hA, .ref tA, .ref lA, .ref gA, .ref q_19, va_rf oa]))], [(gA, .inr (2, [.int n, .ref gB]))], [(gB, .inl (d.2.1 0, 10, .inl near))]]) [3, 4, 5, 6, 7, 0, 1, 2] rfl rfl
      have hH := g_HS.closeF hH
      have hH : g_HS d A s [(g_FS d (g_ad5 q_19 q_23 q_25 q_24 q_26, n_20, n_21, n_22) (some (q_27, n_28, n_29, (n_30, n_31)))), [(ob, .inr (0, [.ref hA, .ref tA, .ref lA, .ref gA, .ref q_19, va_rf oa]))], [(gA, .inr (2, [.int n, .ref gB]))], [(gB, .inl (d.2.1 0, 10, .inl near))]] H _ := hH
      have hH := hH.sub (cs' := [[(ob, .inr (0, [.ref hA, .ref tA, .ref lA, .ref gA, .ref q_19, va_rf oa]))], [(gA, .inr (2, [.int n, .ref gB]))], [(gB, .inl (d.2.1 0, 10, .inl near))], (g_FS d (g_ad5 q_19 q_23 q_25 q_24 q_26, n_20, n_21, n_22) (some (q_27, n_28, n_29, (n_30, n_31))))]) [1, 2, 3, 0] rfl rfl
      exact g_iret hF hH ⟨(r_32.toInt32), (g_ad5 q_19 q_23 q_25 q_24 q_26, n_20, n_21, n_22), (some (q_27, n_28, n_29, (n_30, n_31))), rfl, rfl, hw⟩ dX0_treeRow_34
  · have hw := hw.2 c_17
    refine lv_iconst (v := (-1)) hF.1.1 hF.1.2.1 dX0_treeRow_4 (by decide) ?_
    refine W.widen (k := 226) (n := 2978) (by first | exact Nat.le_of_ble_eq_true rfl | omega | (dsimp only; omega)) (by first | exact Nat.le_of_ble_eq_true rfl | omega | (dsimp only; omega)) ?_
    exact g_iret hF hH ⟨(-1), af, fo, rfl, rfl, hw⟩ dX0_treeRow_5

def wp_X0_rows (n : Int32) (near : Nat → Int32) (fo : Option g_FC) (Q : Int32 → (Option g_FC) → Prop) : Prop := (wp_X0_forest n near fo (fun q_23 n_24 n_25 n_26 n_27 => (wp_X4_rows n_24 n_25 (fun r_28 => (Q r_28 (some (q_23, n_24, n_25, (n_26, n_27))))))))
set_option maxHeartbeats 4000000 in
set_option maxRecDepth 100000 in
theorem met_X0_rows (l : Launch) (hl0 : l.stackTraces = false) (d : g_D) (ob : Nat) (hA : Nat) (tA : Nat) (lA : Nat) (gA : Nat) (oa : Option Nat) (n : Int32) (gB : Nat) (near : Nat → Int32) (af : g_FA) (fo : Option g_FC) (Q : Int32 → (Option g_FC) → Prop) (hw : wp_X0_rows n near fo Q) : g_Met l d yX0_rows cX0_rows 1 (Option.some FieldType.int) ({ frames := 57, cells := 227, slots := 2982, locals := 14465 } : Room) [.ref ob] [[(ob, .inr (0, [.ref hA, .ref tA, .ref lA, .ref gA, va_rf (g_fa af fo), va_rf oa]))], [(gA, .inr (2, [.int n, .ref gB]))], [(gB, .inl (d.2.1 0, 10, .inl near))], (g_FS d af fo)] 227 2982 (fun v w1 => ∃ (r : Int32) (af2 : g_FA) (fo2 : Option g_FC), v = some (.int r) ∧ w1 = [[(ob, .inr (0, [.ref hA, .ref tA, .ref lA, .ref gA, va_rf (g_fa af2 fo2), va_rf oa]))], [(gA, .inr (2, [.int n, .ref gB]))], [(gB, .inl (d.2.1 0, 10, .inl near))], (g_FS d af2 fo2)] ∧ Q r fo2) := by
  refine g_enter (by decide) (Nat.le_of_ble_eq_true rfl) ?_
  intro p e s m args below meth c A ls hF hH hl hin
  have hF : g_F p m c cX0_rows 1 s args RX0 meth (Option.some FieldType.int) := hF
  have hl : lv_has ls 1 [(0, .ref ob)] := hl
  unfold wp_X0_rows at hw
  refine lv_aload_n hF.1.1 hF.1.2.1 dX0_rows_0 rfl (lv_at hl 0 rfl) ?_
  refine g_cV [] 0 rfl hF (met_X0_forest l hl0 d ob hA tA lA gA oa af fo n gB near _ hw) q402 q404 qs8 q92 q405 rfl rfl (by decide +kernel) ⟨Nat.le_of_ble_eq_true rfl, Nat.le_of_ble_eq_true rfl⟩ hH [0, 1, 2, 3] rfl rfl rfl 0 0 rfl rfl rfl hl.1 (Nat.le_of_ble_eq_true rfl) dX0_rows_1 ⟨(by first | exact Nat.le_of_ble_eq_true rfl | omega | (dsimp only; omega)), (by first | exact Nat.le_of_ble_eq_true rfl | omega | (dsimp only; omega))⟩ (fun v w1 H locs hq hH => ?_)
  obtain ⟨q_15, n_16, n_17, n_18, q_19, q_20, q_21, q_22, q_23, n_24, n_25, n_26, n_27, rfl, rfl, hw⟩ := hq
  have hH : g_HS d A s [[(ob, .inr (0, [.ref hA, .ref tA, .ref lA, .ref gA, .ref q_15, va_rf oa]))], [(gA, .inr (2, [.int n, .ref gB]))], [(gB, .inl (d.2.1 0, 10, .inl near))], [(q_15, .inr (4, [.ref (n_16 q_23), .ref q_19, .ref q_21]))], (g_AL d q_19 q_20 n_16 n_24), (g_T d n_16 n_17 n_18 n_25), [(q_21, .inr (1, [.ref q_22, .int n_26]))], [(q_22, .inl (d.2.1 2, 10, .inl n_27))]] H locs := hH
  refine W.eq (g2 := (F0 m 4 ls [.ref q_15])) rfl ?_
  refine W.widen (k := 226) (n := 2978) (by first | exact Nat.le_of_ble_eq_true rfl | omega | (dsimp only; omega)) (by first | exact Nat.le_of_ble_eq_true rfl | omega | (dsimp only; omega)) ?_
  refine g_cV [] 0 rfl hF (met_X4_rows l hl0 d q_15 n_16 q_23 q_19 q_21 q_20 n_24 n_17 n_18 n_25 _ hw) q976 q977 q978 q104 q979 rfl rfl (by decide +kernel) ⟨Nat.le_of_ble_eq_true rfl, Nat.le_of_ble_eq_true rfl⟩ hH [3, 4, 5] rfl rfl rfl 0 0 rfl rfl rfl hl.1 (Nat.le_of_ble_eq_true rfl) dX0_rows_4 ⟨(by first | exact Nat.le_of_ble_eq_true rfl | omega | (dsimp only; omega)), (by first | exact Nat.le_of_ble_eq_true rfl | omega | (dsimp only; omega))⟩ (fun v w1 H locs hq hH => ?_)
  obtain ⟨r_28, rfl, rfl, hw⟩ := hq
  have hH : g_HS d A s [[(ob, .inr (0, [.ref hA, .ref tA, .ref lA, .ref gA, .ref q_15, va_rf oa]))], [(gA, .inr (2, [.int n, .ref gB]))], [(gB, .inl (d.2.1 0, 10, .inl near))], [(q_21, .inr (1, [.ref q_22, .int n_26]))], [(q_22, .inl (d.2.1 2, 10, .inl n_27))], [(q_15, .inr (4, [.ref (n_16 q_23), .ref q_19, .ref q_21]))], (g_AL d q_19 q_20 n_16 n_24), (g_T d n_16 n_17 n_18 n_25)] H locs := hH
  refine W.eq (g2 := (F0 m 7 ls [.int r_28])) rfl ?_
  refine W.widen (k := 227) (n := 2982) (by first | exact Nat.le_of_ble_eq_true rfl | omega | (dsimp only; omega)) (by first | exact Nat.le_of_ble_eq_true rfl | omega | (dsimp only; omega)) ?_
  have hH := hH.sub (cs' := [[(q_15, .inr (4, [.ref (n_16 q_23), .ref q_19, .ref q_21]))], (g_AL d q_19 q_20 n_16 n_24), (g_T d n_16 n_17 n_18 n_25), [(q_21, .inr (1, [.ref q_22, .int n_26]))], [(q_22, .inl (d.2.1 2, 10, .inl n_27))], [(ob, .inr (0, [.ref hA, .ref tA, .ref lA, .ref gA, .ref q_15, va_rf oa]))], [(gA, .inr (2, [.int n, .ref gB]))], [(gB, .inl (d.2.1 0, 10, .inl near))]]) [5, 6, 7, 3, 4, 0, 1, 2] rfl rfl
  have hH := g_HS.closeF hH
  have hH : g_HS d A s [(g_FS d (g_ad5 q_15 q_19 q_21 q_20 q_22, n_16, n_17, n_18) (some (q_23, n_24, n_25, (n_26, n_27)))), [(ob, .inr (0, [.ref hA, .ref tA, .ref lA, .ref gA, .ref q_15, va_rf oa]))], [(gA, .inr (2, [.int n, .ref gB]))], [(gB, .inl (d.2.1 0, 10, .inl near))]] H _ := hH
  have hH := hH.sub (cs' := [[(ob, .inr (0, [.ref hA, .ref tA, .ref lA, .ref gA, .ref q_15, va_rf oa]))], [(gA, .inr (2, [.int n, .ref gB]))], [(gB, .inl (d.2.1 0, 10, .inl near))], (g_FS d (g_ad5 q_15 q_19 q_21 q_20 q_22, n_16, n_17, n_18) (some (q_23, n_24, n_25, (n_26, n_27))))]) [1, 2, 3, 0] rfl rfl
  exact g_iret hF hH ⟨r_28, (g_ad5 q_15 q_19 q_21 q_20 q_22, n_16, n_17, n_18), (some (q_23, n_24, n_25, (n_26, n_27))), rfl, rfl, hw⟩ dX0_rows_7
