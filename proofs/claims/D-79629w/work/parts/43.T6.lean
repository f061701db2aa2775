def wp_X4_init (n : Int32) (near : Nat → Int32) (Q : Nat → (List Nat) → g_TC → Int32 → (Nat → Int32) → Prop) : Prop := (wp_J10_init (wp_X1_init (wp_X2_all n (fun r_16 => (wp_X0_grow 12 37 r_16 n near (fun n_20 => (wp_X4_list 12 37 r_16.toNatClampNeg ([]) n_20 0 (fun _ => 0) (fun n_22 n_23 n_24 => (Q r_16.toNatClampNeg n_22 n_20 n_23 n_24)))))))))
set_option maxHeartbeats 4000000 in
set_option maxRecDepth 100000 in
theorem met_X4_init (l : Launch) (hl0 : l.stackTraces = false) (d : g_D) (ob : Nat) (gA : Nat) (n : Int32) (gB : Nat) (near : Nat → Int32) (Q : Nat → (List Nat) → g_TC → Int32 → (Nat → Int32) → Prop) (hw : wp_X4_init n near Q) : g_Met l d yX4_init cX4_init 2 none ({ frames := 55, cells := 225, slots := 2975, locals := 14424 } : Room) [.ref ob, .ref gA] [[(ob, .inr (4, [.null, .null, .null]))], [(gA, .inr (2, [.int n, .ref gB]))], [(gB, .inl (d.2.1 0, 10, .inl near))]] 225 2975 (fun v w1 => ∃ (tn : Nat → Nat) (tl : Nat → Nat) (tr : Nat → Nat) (na : Nat) (nb : Nat) (va : Nat) (vb : Nat) (rk : Nat) (ns : List Nat) (tc : g_TC) (vm : Int32) (vf : Nat → Int32), v = none ∧ w1 = [[(ob, .inr (4, [.ref (tn rk), .ref na, .ref va]))], (g_AL d na nb tn ns), (g_T d tn tl tr tc), [(va, .inr (1, [.ref vb, .int vm]))], [(vb, .inl (d.2.1 2, 10, .inl vf))], [(gA, .inr (2, [.int n, .ref gB]))], [(gB, .inl (d.2.1 0, 10, .inl near))]] ∧ Q rk ns tc vm vf) := by
  refine g_enter (by decide) (Nat.le_of_ble_eq_true rfl) ?_
  intro p e s m args below meth c A ls hF hH hl hin
  have hF : g_F p m c cX4_init 2 s args RX4 meth none := hF
  have hl : lv_has ls 2 [(0, .ref ob), (1, .ref gA)] := hl
  have hin : meth.name = "<init>" := hin rfl
  unfold wp_X4_init at hw
  refine lv_aload_n hF.1.1 hF.1.2.1 dX4_init_0 rfl (lv_at hl 0 rfl) ?_
  refine W.objInit hF.1.1 hF.1.2.1 hF.1.2.2.2.1 (hF.1.2.2.2.2 _ q411) (hF.1.2.2.2.2 _ q137) (hF.1.2.2.2.2 _ q138) rfl (by rw [hF.1.2.2.1]; exact hl.1) rfl dX4_init_1 (Nat.le_of_ble_eq_true rfl) (Nat.le_of_ble_eq_true rfl) ?_
  refine W.eq (g2 := (F0 m 4 ls [])) rfl ?_
  refine lv_aload_n hF.1.1 hF.1.2.1 dX4_init_4 rfl (lv_at hl 0 rfl) ?_
  refine g_new (ci := 11) (fs := [.int 0, .null, .int 0]) (C := RJ10) (T := TJ10) (N := 3) hF hH in_J10 rfl tyJ10 tyJ10_ok q412 q413 q107 (fun j hj => by rcases (show j = 0 ∨ j = 1 ∨ j = 2 by omega) with rfl | rfl | rfl <;> rfl) (by first | exact Nat.le_of_ble_eq_true rfl | omega | (dsimp only; omega)) (by first | exact Nat.le_of_ble_eq_true rfl | omega | (dsimp only; omega)) dX4_init_5 (fun q_13 H hH => ?_)
  have hH : g_HS d A s [[(ob, .inr (4, [.null, .null, .null]))], [(gA, .inr (2, [.int n, .ref gB]))], [(gB, .inl (d.2.1 0, 10, .inl near))], [(q_13, .inr (11, [.int 0, .null, .int 0]))]] H _ := hH
  refine W.widen (k := 1) (n := 3) (by first | exact Nat.le_of_ble_eq_true rfl | omega | (dsimp only; omega)) (by first | exact Nat.le_of_ble_eq_true rfl | omega | (dsimp only; omega)) ?_
  refine lv_dup hF.1.1 hF.1.2.1 dX4_init_8 rfl ?_
  refine g_cI [] 0 rfl hF (met_J10_init l hl0 d q_13 _ hw) q414 q415 q107 q416 rfl rfl rfl (by decide +kernel) ⟨Nat.le_of_ble_eq_true rfl, Nat.le_of_ble_eq_true rfl⟩ hH [3] rfl rfl rfl hl.1 (Nat.le_of_ble_eq_true rfl) dX4_init_9 ⟨(by first | exact Nat.le_of_ble_eq_true rfl | omega | (dsimp only; omega)), (by first | exact Nat.le_of_ble_eq_true rfl | omega | (dsimp only; omega))⟩ (fun v w1 H locs hq hH => ?_)
  obtain ⟨rfl, rfl, hw⟩ := hq
  have hH : g_HS d A s [[(ob, .inr (4, [.null, .null, .null]))], [(gA, .inr (2, [.int n, .ref gB]))], [(gB, .inl (d.2.1 0, 10, .inl near))], [(q_13, .inr (11, [.int 0, .ref (d.2.2 4), .int 0]))]] H locs := hH
  refine W.eq (g2 := (F0 m 12 ls [.ref q_13, .ref ob])) rfl ?_
  refine g_putF (cs' := [[(ob, .inr (4, [.null, .ref q_13, .null]))], [(gA, .inr (2, [.int n, .ref gB]))], [(gB, .inl (d.2.1 0, 10, .inl near))], [(q_13, .inr (11, [.int 0, .ref (d.2.2 4), .int 0]))]]) (ch' := [(ob, .inr (4, [.null, .ref q_13, .null]))]) (ty := (.object "java/util/ArrayList")) hF hin hH in_X4 rfl tyX4 tyX4_ok nmX4 0 0 rfl rfl 1 (by decide) q679 (fun _ h9 => h9) rfl rfl (by decide +kernel) rfl rfl (Nat.le_of_ble_eq_true rfl) dX4_init_12 rfl rfl (fun H locs hH => ?_)
  refine lv_aload_n hF.1.1 hF.1.2.1 dX4_init_15 rfl (lv_at hl 0 rfl) ?_
  refine g_new (ci := 1) (fs := [.null, .int 0]) (C := RX1) (T := TX1) (N := 2) hF hH in_X1 rfl tyX1 tyX1_ok q441 q140 q93 (fun j hj => by rcases (show j = 0 ∨ j = 1 by omega) with rfl | rfl <;> rfl) (by first | exact Nat.le_of_ble_eq_true rfl | omega | (dsimp only; omega)) (by first | exact Nat.le_of_ble_eq_true rfl | omega | (dsimp only; omega)) dX4_init_16 (fun q_14 H hH => ?_)
  have hH : g_HS d A s [[(ob, .inr (4, [.null, .ref q_13, .null]))], [(gA, .inr (2, [.int n, .ref gB]))], [(gB, .inl (d.2.1 0, 10, .inl near))], [(q_13, .inr (11, [.int 0, .ref (d.2.2 4), .int 0]))], [(q_14, .inr (1, [.null, .int 0]))]] H _ := hH
  refine W.widen (k := 2) (n := 5) (by first | exact Nat.le_of_ble_eq_true rfl | omega | (dsimp only; omega)) (by first | exact Nat.le_of_ble_eq_true rfl | omega | (dsimp only; omega)) ?_
  refine lv_dup hF.1.1 hF.1.2.1 dX4_init_19 rfl ?_
  refine lv_bipush (v := 10) hF.1.1 hF.1.2.1 dX4_init_20 (by decide) ?_
  refine g_newB (N' := 10) hF hH q179 (by decide) rfl (by decide) (by first | exact Nat.le_of_ble_eq_true rfl | omega | (dsimp only; omega)) (by first | exact Nat.le_of_ble_eq_true rfl | omega | (dsimp only; omega)) dX4_init_22 (fun q_15 H hH => ?_)
  have hH : g_HS d A s [[(ob, .inr (4, [.null, .ref q_13, .null]))], [(gA, .inr (2, [.int n, .ref gB]))], [(gB, .inl (d.2.1 0, 10, .inl near))], [(q_13, .inr (11, [.int 0, .ref (d.2.2 4), .int 0]))], [(q_14, .inr (1, [.null, .int 0]))], [(q_15, .inl (d.2.1 2, 10, .inl (fun _ => 0)))]] H _ := hH
  refine W.widen (k := 3) (n := 15) (by first | exact Nat.le_of_ble_eq_true rfl | omega | (dsimp only; omega)) (by first | exact Nat.le_of_ble_eq_true rfl | omega | (dsimp only; omega)) ?_
  refine g_cI [.ref q_15] 1 rfl hF (met_X1_init l hl0 d q_14 q_15 _ hw) q442 q142 q93 q143 rfl rfl rfl (by decide +kernel) ⟨Nat.le_of_ble_eq_true rfl, Nat.le_of_ble_eq_true rfl⟩ hH [4] rfl rfl rfl hl.1 (Nat.le_of_ble_eq_true rfl) dX4_init_24 ⟨(by first | exact Nat.le_of_ble_eq_true rfl | omega | (dsimp only; omega)), (by first | exact Nat.le_of_ble_eq_true rfl | omega | (dsimp only; omega))⟩ (fun v w1 H locs hq hH => ?_)
  obtain ⟨rfl, rfl, hw⟩ := hq
  have hH : g_HS d A s [[(ob, .inr (4, [.null, .ref q_13, .null]))], [(gA, .inr (2, [.int n, .ref gB]))], [(gB, .inl (d.2.1 0, 10, .inl near))], [(q_13, .inr (11, [.int 0, .ref (d.2.2 4), .int 0]))], [(q_15, .inl (d.2.1 2, 10, .inl (fun _ => 0)))], [(q_14, .inr (1, [.ref q_15, .int 0]))]] H locs := hH
  refine W.eq (g2 := (F0 m 27 ls [.ref q_14, .ref ob])) rfl ?_
  refine g_putF (cs' := [[(ob, .inr (4, [.null, .ref q_13, .ref q_14]))], [(gA, .inr (2, [.int n, .ref gB]))], [(gB, .inl (d.2.1 0, 10, .inl near))], [(q_13, .inr (11, [.int 0, .ref (d.2.2 4), .int 0]))], [(q_15, .inl (d.2.1 2, 10, .inl (fun _ => 0)))], [(q_14, .inr (1, [.ref q_15, .int 0]))]]) (ch' := [(ob, .inr (4, [.null, .ref q_13, .ref q_14]))]) (ty := (.object "GraphModules$Row")) hF hin hH in_X4 rfl tyX4 tyX4_ok nmX4 0 0 rfl rfl 2 (by decide) q681 (fun _ h9 => h9) rfl rfl (by decide +kernel) rfl rfl (Nat.le_of_ble_eq_true rfl) dX4_init_27 rfl rfl (fun H locs hH => ?_)
  refine lv_aload_n hF.1.1 hF.1.2.1 dX4_init_30 rfl (lv_at hl 0 rfl) ?_
  refine lv_aload_n hF.1.1 hF.1.2.1 dX4_init_31 rfl (lv_at hl 1 rfl) ?_
  refine lv_aload_n hF.1.1 hF.1.2.1 dX4_init_32 rfl (lv_at hl 1 rfl) ?_
  refine g_cV [] 0 rfl hF (met_X2_all l hl0 d gA n gB _ hw) q443 q444 q445 q94 q446 rfl rfl (by decide +kernel) ⟨Nat.le_of_ble_eq_true rfl, Nat.le_of_ble_eq_true rfl⟩ hH [1] rfl rfl rfl 0 0 rfl rfl rfl hl.1 (Nat.le_of_ble_eq_true rfl) dX4_init_33 ⟨(by first | exact Nat.le_of_ble_eq_true rfl | omega | (dsimp only; omega)), (by first | exact Nat.le_of_ble_eq_true rfl | omega | (dsimp only; omega))⟩ (fun v w1 H locs hq hH => ?_)
  obtain ⟨r_16, rfl, rfl, hw⟩ := hq
  have hH : g_HS d A s [[(ob, .inr (4, [.null, .ref q_13, .ref q_14]))], [(gB, .inl (d.2.1 0, 10, .inl near))], [(q_13, .inr (11, [.int 0, .ref (d.2.2 4), .int 0]))], [(q_15, .inl (d.2.1 2, 10, .inl (fun _ => 0)))], [(q_14, .inr (1, [.ref q_15, .int 0]))], [(gA, .inr (2, [.int n, .ref gB]))]] H locs := hH
  refine W.eq (g2 := (F0 m 36 ls [.int r_16, .ref gA, .ref ob])) rfl ?_
  refine g_cSN [.ref gA, .int r_16] 2 rfl hF (met_X0_grow l hl0 d 12 37 gA r_16 n gB near _ hw) q447 q448 q92 q449 rfl rfl (by decide +kernel) ⟨Nat.le_of_ble_eq_true rfl, Nat.le_of_ble_eq_true rfl⟩ hH [5, 1] rfl rfl rfl hl.1 (Nat.le_of_ble_eq_true rfl) dX4_init_36 ⟨(by first | exact Nat.le_of_ble_eq_true rfl | omega | (dsimp only; omega)), (by first | exact Nat.le_of_ble_eq_true rfl | omega | (dsimp only; omega))⟩ (fun v w1 H locs hq hH => ?_)
  obtain ⟨n_17, n_18, n_19, n_20, rfl, rfl, hw⟩ := hq
  have hH : g_HS d A s [[(ob, .inr (4, [.null, .ref q_13, .ref q_14]))], [(q_13, .inr (11, [.int 0, .ref (d.2.2 4), .int 0]))], [(q_15, .inl (d.2.1 2, 10, .inl (fun _ => 0)))], [(q_14, .inr (1, [.ref q_15, .int 0]))], [(gA, .inr (2, [.int n, .ref gB]))], [(gB, .inl (d.2.1 0, 10, .inl near))], (g_T d n_17 n_18 n_19 n_20)] H locs := hH
  refine W.eq (g2 := (F0 m 39 ls [.ref (n_17 r_16.toNatClampNeg), .ref ob])) rfl ?_
  refine W.widen (k := 114) (n := 1495) (by first | exact Nat.le_of_ble_eq_true rfl | omega | (dsimp only; omega)) (by first | exact Nat.le_of_ble_eq_true rfl | omega | (dsimp only; omega)) ?_
  refine g_putF (cs' := [[(ob, .inr (4, [.ref (n_17 r_16.toNatClampNeg), .ref q_13, .ref q_14]))], [(q_13, .inr (11, [.int 0, .ref (d.2.2 4), .int 0]))], [(q_15, .inl (d.2.1 2, 10, .inl (fun _ => 0)))], [(q_14, .inr (1, [.ref q_15, .int 0]))], [(gA, .inr (2, [.int n, .ref gB]))], [(gB, .inl (d.2.1 0, 10, .inl near))], (g_T d n_17 n_18 n_19 n_20)]) (ch' := [(ob, .inr (4, [.ref (n_17 r_16.toNatClampNeg), .ref q_13, .ref q_14]))]) (ty := (.object "GraphModules$Tree")) hF hin hH in_X4 rfl tyX4 tyX4_ok nmX4 0 0 rfl rfl 0 (by decide) q677 (fun _ h9 => h9) rfl rfl (by decide +kernel) rfl rfl (Nat.le_of_ble_eq_true rfl) dX4_init_39 rfl rfl (fun H locs hH => ?_)
  refine lv_aload_n hF.1.1 hF.1.2.1 dX4_init_42 rfl (lv_at hl 0 rfl) ?_
  refine lv_aload_n hF.1.1 hF.1.2.1 dX4_init_43 rfl (lv_at hl 0 rfl) ?_
  refine g_get (v := .ref (n_17 r_16.toNatClampNeg)) hF hH in_X4 rfl 0 0 rfl rfl 0 (by decide) q677 (fun _ h9 => h9) rfl dX4_init_44 ?_
  refine g_cV [.ref (n_17 r_16.toNatClampNeg)] 1 rfl hF (met_X4_list l hl0 d 12 37 ob n_17 r_16.toNatClampNeg r_16.toNatClampNeg q_13 q_14 0 ([]) n_18 n_19 n_20 q_15 0 (fun _ => 0) _ hw) q596 q598 qs12 q104 q599 rfl rfl (by decide +kernel) ⟨Nat.le_of_ble_eq_true rfl, Nat.le_of_ble_eq_true rfl⟩ hH [0, 1, 6, 3, 2] rfl rfl rfl 0 0 rfl rfl rfl hl.1 (Nat.le_of_ble_eq_true rfl) dX4_init_47 ⟨(by first | exact Nat.le_of_ble_eq_true rfl | omega | (dsimp only; omega)), (by first | exact Nat.le_of_ble_eq_true rfl | omega | (dsimp only; omega))⟩ (fun v w1 H locs hq hH => ?_)
  obtain ⟨q_21, n_22, n_23, n_24, rfl, rfl, hw⟩ := hq
  have hH : g_HS d A s [[(gA, .inr (2, [.int n, .ref gB]))], [(gB, .inl (d.2.1 0, 10, .inl near))], [(ob, .inr (4, [.ref (n_17 r_16.toNatClampNeg), .ref q_13, .ref q_14]))], (g_AL d q_13 q_21 n_17 n_22), (g_T d n_17 n_18 n_19 n_20), [(q_14, .inr (1, [.ref q_15, .int n_23]))], [(q_15, .inl (d.2.1 2, 10, .inl n_24))]] H locs := hH
  refine W.eq (g2 := (F0 m 50 ls [])) rfl ?_
  refine W.widen (k := 225) (n := 2975) (by first | exact Nat.le_of_ble_eq_true rfl | omega | (dsimp only; omega)) (by first | exact Nat.le_of_ble_eq_true rfl | omega | (dsimp only; omega)) ?_
  have hH := hH.sub (cs' := [[(ob, .inr (4, [.ref (n_17 r_16.toNatClampNeg), .ref q_13, .ref q_14]))], (g_AL d q_13 q_21 n_17 n_22), (g_T d n_17 n_18 n_19 n_20), [(q_14, .inr (1, [.ref q_15, .int n_23]))], [(q_15, .inl (d.2.1 2, 10, .inl n_24))], [(gA, .inr (2, [.int n, .ref gB]))], [(gB, .inl (d.2.1 0, 10, .inl near))]]) [2, 3, 4, 5, 6, 0, 1] rfl rfl
  exact g_vret hF hH ⟨n_17, n_18, n_19, q_13, q_21, q_14, q_15, r_16.toNatClampNeg, n_22, n_20, n_23, n_24, rfl, rfl, hw⟩ dX4_init_50

def wp_X0_forest_none (n : Int32) (near : Nat → Int32) (Q : Nat → (List Nat) → g_TC → Int32 → (Nat → Int32) → Prop) : Prop := (wp_X4_init n near (fun q_22 n_23 n_24 n_25 n_26 => (Q q_22 n_23 n_24 n_25 n_26)))
set_option maxHeartbeats 4000000 in
set_option maxRecDepth 100000 in
theorem met_X0_forest_none (l : Launch) (hl0 : l.stackTraces = false) (d : g_D) (ob : Nat) (hA : Nat) (tA : Nat) (lA : Nat) (gA : Nat) (oa : Option Nat) (n : Int32) (gB : Nat) (near : Nat → Int32) (Q : Nat → (List Nat) → g_TC → Int32 → (Nat → Int32) → Prop) (hw : wp_X0_forest_none n near Q) : g_Met l d yX0_forest cX0_forest 1 (Option.some (FieldType.object "GraphModules$Forest")) ({ frames := 56, cells := 226, slots := 2978, locals := 14445 } : Room) [.ref ob] [[(ob, .inr (0, [.ref hA, .ref tA, .ref lA, .ref gA, .null, va_rf oa]))], [(gA, .inr (2, [.int n, .ref gB]))], [(gB, .inl (d.2.1 0, 10, .inl near))]] 226 2978 (fun v w1 => ∃ (aF : Nat) (tn : Nat → Nat) (tl : Nat → Nat) (tr : Nat → Nat) (na : Nat) (nb : Nat) (va : Nat) (vb : Nat) (rk : Nat) (ns : List Nat) (tc : g_TC) (vm : Int32) (vf : Nat → Int32), v = some (.ref aF) ∧ w1 = [[(ob, .inr (0, [.ref hA, .ref tA, .ref lA, .ref gA, .ref aF, va_rf oa]))], [(gA, .inr (2, [.int n, .ref gB]))], [(gB, .inl (d.2.1 0, 10, .inl near))], [(aF, .inr (4, [.ref (tn rk), .ref na, .ref va]))], (g_AL d na nb tn ns), (g_T d tn tl tr tc), [(va, .inr (1, [.ref vb, .int vm]))], [(vb, .inl (d.2.1 2, 10, .inl vf))]] ∧ Q rk ns tc vm vf) := by
  refine g_enter (by decide) (Nat.le_of_ble_eq_true rfl) ?_
  intro p e s m args below meth c A ls hF hH hl hin
  have hF : g_F p m c cX0_forest 1 s args RX0 meth (Option.some (FieldType.object "GraphModules$Forest")) := hF
  have hl : lv_has ls 1 [(0, .ref ob)] := hl
  unfold wp_X0_forest_none at hw
  refine lv_aload_n hF.1.1 hF.1.2.1 dX0_forest_0 rfl (lv_at hl 0 rfl) ?_
  refine g_get (v := .null) hF hH in_X0 rfl 0 0 rfl rfl 4 (by decide) q187 (fun _ h9 => h9) rfl dX0_forest_1 ?_
  refine lv_ifnonnullN hF.1.1 hF.1.2.1 dX0_forest_4 ?_
  refine lv_aload_n hF.1.1 hF.1.2.1 dX0_forest_7 rfl (lv_at hl 0 rfl) ?_
  refine g_new (ci := 4) (fs := [.null, .null, .null]) (C := RX4) (T := TX4) (N := 3) hF hH in_X4 rfl tyX4 tyX4_ok q406 q407 q104 (fun j hj => by rcases (show j = 0 ∨ j = 1 ∨ j = 2 by omega) with rfl | rfl | rfl <;> rfl) (by first | exact Nat.le_of_ble_eq_true rfl | omega | (dsimp only; omega)) (by first | exact Nat.le_of_ble_eq_true rfl | omega | (dsimp only; omega)) dX0_forest_8 (fun q_14 H hH => ?_)
  have hH : g_HS d A s [[(ob, .inr (0, [.ref hA, .ref tA, .ref lA, .ref gA, .null, va_rf oa]))], [(gA, .inr (2, [.int n, .ref gB]))], [(gB, .inl (d.2.1 0, 10, .inl near))], [(q_14, .inr (4, [.null, .null, .null]))]] H _ := hH
  refine W.widen (k := 1) (n := 3) (by first | exact Nat.le_of_ble_eq_true rfl | omega | (dsimp only; omega)) (by first | exact Nat.le_of_ble_eq_true rfl | omega | (dsimp only; omega)) ?_
  refine lv_dup hF.1.1 hF.1.2.1 dX0_forest_11 rfl ?_
  refine lv_aload_n hF.1.1 hF.1.2.1 dX0_forest_12 rfl (lv_at hl 0 rfl) ?_
  refine g_get (v := .ref gA) hF hH in_X0 rfl 0 0 rfl rfl 3 (by decide) q186 (fun _ h9 => h9) rfl dX0_forest_13 ?_
  refine g_cI [.ref gA] 1 rfl hF (met_X4_init l hl0 d q_14 gA n gB near _ hw) q408 q409 q104 q410 rfl rfl rfl (by decide +kernel) ⟨Nat.le_of_ble_eq_true rfl, Nat.le_of_ble_eq_true rfl⟩ hH [3, 1, 2] rfl rfl rfl hl.1 (Nat.le_of_ble_eq_true rfl) dX0_forest_16 ⟨(by first | exact Nat.le_of_ble_eq_true rfl | omega | (dsimp only; omega)), (by first | exact Nat.le_of_ble_eq_true rfl | omega | (dsimp only; omega))⟩ (fun v w1 H locs hq hH => ?_)
  obtain ⟨n_15, n_16, n_17, q_18, q_19, q_20, q_21, q_22, n_23, n_24, n_25, n_26, rfl, rfl, hw⟩ := hq
  have hH : g_HS d A s [[(ob, .inr (0, [.ref hA, .ref tA, .ref lA, .ref gA, .null, va_rf oa]))], [(q_14, .inr (4, [.ref (n_15 q_22), .ref q_18, .ref q_20]))], (g_AL d q_18 q_19 n_15 n_23), (g_T d n_15 n_16 n_17 n_24), [(q_20, .inr (1, [.ref q_21, .int n_25]))], [(q_21, .inl (d.2.1 2, 10, .inl n_26))], [(gA, .inr (2, [.int n, .ref gB]))], [(gB, .inl (d.2.1 0, 10, .inl near))]] H locs := hH
  refine W.eq (g2 := (F0 m 19 ls [.ref q_14, .ref ob])) rfl ?_
  refine W.widen (k := 226) (n := 2978) (by first | exact Nat.le_of_ble_eq_true rfl | omega | (dsimp only; omega)) (by first | exact Nat.le_of_ble_eq_true rfl | omega | (dsimp only; omega)) ?_
  refine g_put (cs' := [[(ob, .inr (0, [.ref hA, .ref tA, .ref lA, .ref gA, .ref q_14, va_rf oa]))], [(q_14, .inr (4, [.ref (n_15 q_22), .ref q_18, .ref q_20]))], (g_AL d q_18 q_19 n_15 n_23), (g_T d n_15 n_16 n_17 n_24), [(q_20, .inr (1, [.ref q_21, .int n_25]))], [(q_21, .inl (d.2.1 2, 10, .inl n_26))], [(gA, .inr (2, [.int n, .ref gB]))], [(gB, .inl (d.2.1 0, 10, .inl near))]]) (ch' := [(ob, .inr (0, [.ref hA, .ref tA, .ref lA, .ref gA, .ref q_14, va_rf oa]))]) (ty := (.object "GraphModules$Forest")) hF hH in_X0 rfl tyX0 tyX0_ok nmX0 0 0 rfl rfl 4 (by decide) q187 (fun _ h9 => h9) rfl (by decide +kernel) rfl rfl (Nat.le_of_ble_eq_true rfl) dX0_forest_19 rfl rfl (fun H locs hH => ?_)
  refine lv_aload_n hF.1.1 hF.1.2.1 dX0_forest_22 rfl (lv_at hl 0 rfl) ?_
  refine g_get (v := .ref q_14) hF hH in_X0 rfl 0 0 rfl rfl 4 (by decide) q187 (fun _ h9 => h9) rfl dX0_forest_23 ?_
  have hH := hH.sub (cs' := [[(ob, .inr (0, [.ref hA, .ref tA, .ref lA, .ref gA, .ref q_14, va_rf oa]))], [(gA, .inr (2, [.int n, .ref gB]))], [(gB, .inl (d.2.1 0, 10, .inl near))], [(q_14, .inr (4, [.ref (n_15 q_22), .ref q_18, .ref q_20]))], (g_AL d q_18 q_19 n_15 n_23), (g_T d n_15 n_16 n_17 n_24), [(q_20, .inr (1, [.ref q_21, .int n_25]))], [(q_21, .inl (d.2.1 2, 10, .inl n_26))]]) [0, 6, 7, 1, 2, 3, 4, 5] rfl rfl
  exact g_aret hF (Or.inl ⟨_, rfl⟩) (Or.inr ⟨_, rfl⟩) hH ⟨q_14, n_15, n_16, n_17, q_18, q_19, q_20, q_21, q_22, n_23, n_24, n_25, n_26, rfl, rfl, hw⟩ dX0_forest_26

def wp_X0_forest_some (n : Int32) (near : Nat → Int32) (rk : Nat) (ns : List Nat) (tc : g_TC) (vm : Int32) (vf : Nat → Int32) (Q : Prop) : Prop := Q
set_option maxHeartbeats 4000000 in
set_option maxRecDepth 100000 in
theorem met_X0_forest_some (l : Launch) (hl0 : l.stackTraces = false) (d : g_D) (ob : Nat) (hA : Nat) (tA : Nat) (lA : Nat) (gA : Nat) (aF : Nat) (oa : Option Nat) (n : Int32) (gB : Nat) (near : Nat → Int32) (tn : Nat → Nat) (rk : Nat) (na : Nat) (va : Nat) (nb : Nat) (ns : List Nat) (tl : Nat → Nat) (tr : Nat → Nat) (tc : g_TC) (vb : Nat) (vm : Int32) (vf : Nat → Int32) (Q : Prop) (hw : wp_X0_forest_some n near rk ns tc vm vf Q) : g_Met l d yX0_forest cX0_forest 1 (Option.some (FieldType.object "GraphModules$Forest")) ({ frames := 56, cells := 226, slots := 2978, locals := 14445 } : Room) [.ref ob] [[(ob, .inr (0, [.ref hA, .ref tA, .ref lA, .ref gA, .ref aF, va_rf oa]))], [(gA, .inr (2, [.int n, .ref gB]))], [(gB, .inl (d.2.1 0, 10, .inl near))], [(aF, .inr (4, [.ref (tn rk), .ref na, .ref va]))], (g_AL d na nb tn ns), (g_T d tn tl tr tc), [(va, .inr (1, [.ref vb, .int vm]))], [(vb, .inl (d.2.1 2, 10, .inl vf))]] 226 2978 (fun v w1 => v = some (.ref aF) ∧ w1 = [[(ob, .inr (0, [.ref hA, .ref tA, .ref lA, .ref gA, .ref aF, va_rf oa]))], [(gA, .inr (2, [.int n, .ref gB]))], [(gB, .inl (d.2.1 0, 10, .inl near))], [(aF, .inr (4, [.ref (tn rk), .ref na, .ref va]))], (g_AL d na nb tn ns), (g_T d tn tl tr tc), [(va, .inr (1, [.ref vb, .int vm]))], [(vb, .inl (d.2.1 2, 10, .inl vf))]] ∧ Q) := by
  refine g_enter (by decide) (Nat.le_of_ble_eq_true rfl) ?_
  intro p e s m args below meth c A ls hF hH hl hin
  have hF : g_F p m c cX0_forest 1 s args RX0 meth (Option.some (FieldType.object "GraphModules$Forest")) := hF
  have hl : lv_has ls 1 [(0, .ref ob)] := hl
  unfold wp_X0_forest_some at hw
  refine lv_aload_n hF.1.1 hF.1.2.1 dX0_forest_0 rfl (lv_at hl 0 rfl) ?_
  refine g_get (v := .ref aF) hF hH in_X0 rfl 0 0 rfl rfl 4 (by decide) q187 (fun _ h9 => h9) rfl dX0_forest_1 ?_
  refine lv_ifnonnull (tgt := 22) hF.1.1 hF.1.2.1 dX0_forest_4 (by decide) ?_
  refine lv_aload_n hF.1.1 hF.1.2.1 dX0_forest_22 rfl (lv_at hl 0 rfl) ?_
  refine g_get (v := .ref aF) hF hH in_X0 rfl 0 0 rfl rfl 4 (by decide) q187 (fun _ h9 => h9) rfl dX0_forest_23 ?_
  refine W.widen (k := 226) (n := 2978) (by first | exact Nat.le_of_ble_eq_true rfl | omega | (dsimp only; omega)) (by first | exact Nat.le_of_ble_eq_true rfl | omega | (dsimp only; omega)) ?_
  exact g_aret hF (Or.inl ⟨_, rfl⟩) (Or.inr ⟨_, rfl⟩) hH ⟨rfl, rfl, hw⟩ dX0_forest_26
