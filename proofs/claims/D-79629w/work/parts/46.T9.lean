def wb_X0_kept_54 (lm : Int32) (lf : Nat → Int32) (n : Int32) (near : Nat → Int32) (v_root : Nat) (v_n_6 : g_TC) (v_many : Int32) (v_q_12 : Nat → Int32) (v_q_9 : List Nat) (Q : Int32 → (Option g_FC) → Prop) : Nat → Int32 → Nat → Prop
  | 0, _, _ => False
  | fu + 1, x2, v_q_18 => (wp_J16_hasNext_B v_q_18 v_q_9 (fun r_29 => ((r_29 = 0 → (Q x2 (some (v_root, v_q_9, v_n_6, (v_many, v_q_12))))) ∧ (¬ r_29 = 0 → (wp_J16_next_A v_q_18 v_q_9 (fun q_31 => (q_31 ∈ v_n_6.1 ∧ (q_31 ∈ v_n_6.1 ∧ (wp_X0_isTogether (nI q_31) lm lf (fun r_36 => ((r_36 = 0 → (wb_X0_kept_54 lm lf n near v_root v_n_6 v_many v_q_12 v_q_9 Q fu) (x2 + 1) (v_q_18 + 1)) ∧ (¬ r_36 = 0 → (wb_X0_kept_54 lm lf n near v_root v_n_6 v_many v_q_12 v_q_9 Q fu) (x2 + 0) (v_q_18 + 1)))))))))))))
def wp_X0_kept (a1 : Int32) (n : Int32) (near : Nat → Int32) (fo : Option g_FC) (lm : Int32) (lf : Nat → Int32) (Q : Int32 → (Option g_FC) → Prop) : Prop := (wp_X0_inRange a1 0 1 (fun r_38 => ((¬ r_38 = 0 → ((n ≤ lm → ((¬ a1 = 1 → (wp_X0_forest n near fo (fun q_50 n_51 n_52 n_53 n_54 => (wp_J10_iterator_A n_51 (∃ f54, wb_X0_kept_54 lm lf n near q_50 n_52 n_53 n_54 n_51 Q f54 0 0))))) ∧ (a1 = 1 → (wp_X0_modulesInRow lm lf n near (fun r_57 => (Q r_57 fo)))))) ∧ (¬ n ≤ lm → (Q (-2) fo)))) ∧ (r_38 = 0 → (Q (-1) fo)))))
set_option maxHeartbeats 4000000 in
set_option maxRecDepth 100000 in
theorem met_X0_kept (l : Launch) (hl0 : l.stackTraces = false) (d : g_D) (ob : Nat) (a1 : Int32) (hA : Nat) (tA : Nat) (lA : Nat) (gA : Nat) (oa : Option Nat) (n : Int32) (gB : Nat) (near : Nat → Int32) (af : g_FA) (fo : Option g_FC) (lB : Nat) (lm : Int32) (lf : Nat → Int32) (Q : Int32 → (Option g_FC) → Prop) (hw : wp_X0_kept a1 n near fo lm lf Q) : g_Met l d yX0_kept cX0_kept 5 (Option.some FieldType.int) ({ frames := 57, cells := 227, slots := 2982, locals := 14465 } : Room) [.ref ob, .int a1] [[(ob, .inr (0, [.ref hA, .ref tA, .ref lA, .ref gA, va_rf (g_fa af fo), va_rf oa]))], [(gA, .inr (2, [.int n, .ref gB]))], [(gB, .inl (d.2.1 0, 10, .inl near))], (g_FS d af fo), [(lA, .inr (1, [.ref lB, .int lm]))], [(lB, .inl (d.2.1 2, 10, .inl lf))]] 227 2982 (fun v w1 => ∃ (r : Int32) (af2 : g_FA) (fo2 : Option g_FC), v = some (.int r) ∧ w1 = [[(ob, .inr (0, [.ref hA, .ref tA, .ref lA, .ref gA, va_rf (g_fa af2 fo2), va_rf oa]))], [(gA, .inr (2, [.int n, .ref gB]))], [(gB, .inl (d.2.1 0, 10, .inl near))], (g_FS d af2 fo2), [(lA, .inr (1, [.ref lB, .int lm]))], [(lB, .inl (d.2.1 2, 10, .inl lf))]] ∧ Q r fo2) := by
  refine g_enter (by decide) (Nat.le_of_ble_eq_true rfl) ?_
  intro p e s m args below meth c A ls hF hH hl hin
  have hF : g_F p m c cX0_kept 5 s args RX0 meth (Option.some FieldType.int) := hF
  have hl : lv_has ls 5 [(0, .ref ob), (1, .int a1)] := hl
  have bk_54 : ∀ (v_root : Nat) (v_n_6 : g_TC) (v_many : Int32) (v_q_12 : Nat → Int32) (v_q_9 : List Nat) (fu : Nat) (q_18 : Nat) (q_5 : Nat) (q_9 : Nat) (q_11 : Nat) (n_6 : Nat → Nat) (n_7 : Nat → Nat) (n_8 : Nat → Nat) (q_12 : Nat) (q_10 : Nat) (x2 : Int32) (v_q_18 : Nat) (H : Heap) (locs : List Loc) (ls : Array Slot), g_HS d A s [[(lA, .inr (1, [.ref lB, .int lm]))], [(lB, .inl (d.2.1 2, 10, .inl lf))], [(ob, .inr (0, [.ref hA, .ref tA, .ref lA, .ref gA, .ref q_5, va_rf oa]))], [(gA, .inr (2, [.int n, .ref gB]))], [(gB, .inl (d.2.1 0, 10, .inl near))], [(q_5, .inr (4, [.ref (n_6 v_root), .ref q_9, .ref q_11]))], (g_T d n_6 n_7 n_8 v_n_6), [(q_11, .inr (1, [.ref q_12, .int v_many]))], [(q_12, .inl (d.2.1 2, 10, .inl v_q_12))], (g_AL d q_9 q_10 n_6 v_q_9), (g_IT d q_18 q_9 v_q_18 v_q_9.length)] H locs → lv_has ls 5 [(0, .ref ob), (2, .int x2), (3, .ref q_18)] → wb_X0_kept_54 lm lf n near v_root v_n_6 v_many v_q_12 v_q_9 Q fu x2 v_q_18 → W p l e ({ frames := 57, cells := 227, slots := 2982, locals := 14465 } : Room) s m args below meth c H locs 227 2982 (g_E d (fun v w1 => ∃ (r : Int32) (af2 : g_FA) (fo2 : Option g_FC), v = some (.int r) ∧ w1 = [[(ob, .inr (0, [.ref hA, .ref tA, .ref lA, .ref gA, va_rf (g_fa af2 fo2), va_rf oa]))], [(gA, .inr (2, [.int n, .ref gB]))], [(gB, .inl (d.2.1 0, 10, .inl near))], (g_FS d af2 fo2), [(lA, .inr (1, [.ref lB, .int lm]))], [(lB, .inl (d.2.1 2, 10, .inl lf))]] ∧ Q r fo2) A below args s 227 2982) (F0 m 54 ls []) := by
    intro v_root v_n_6 v_many v_q_12 v_q_9 fu
    induction fu with
    | zero => intro q_18 q_5 q_9 q_11 n_6 n_7 n_8 q_12 q_10 x2 v_q_18 H locs ls hH hl hw; rw [wb_X0_kept_54] at hw; exact hw.elim
    | succ fu ih =>
      intro q_18 q_5 q_9 q_11 n_6 n_7 n_8 q_12 q_10 x2 v_q_18 H locs ls hH hl hw
      rw [wb_X0_kept_54] at hw
      refine lv_aload_n hF.1.1 hF.1.2.1 dX0_kept_54 rfl (lv_at hl 2 rfl) ?_
      refine g_cF (x := ⟨"java/util/Iterator", "hasNext", "()Z"⟩) (C := "java/util/ArrayList$Itr") [] 0 rfl hF (met_J16_hasNext_A l hl0 d q_18 v_q_18 q_9 q_10 n_6 v_q_9 _ hw) q961 (g_fwH hH) q657 q659 q118 q661 rfl rfl (by decide +kernel) ⟨Nat.le_of_ble_eq_true rfl, Nat.le_of_ble_eq_true rfl⟩ hH [10, 9] rfl rfl rfl 0 0 rfl rfl rfl hl.1 (Nat.le_of_ble_eq_true rfl) dX0_kept_55 ⟨(by first | exact Nat.le_of_ble_eq_true rfl | omega | (dsimp only; omega)), (by first | exact Nat.le_of_ble_eq_true rfl | omega | (dsimp only; omega))⟩ (fun v w1 H locs hq hH => ?_)
      obtain ⟨r_29, rfl, rfl, hw⟩ := hq
      have hH : g_HS d A s [[(lA, .inr (1, [.ref lB, .int lm]))], [(lB, .inl (d.2.1 2, 10, .inl lf))], [(ob, .inr (0, [.ref hA, .ref tA, .ref lA, .ref gA, .ref q_5, va_rf oa]))], [(gA, .inr (2, [.int n, .ref gB]))], [(gB, .inl (d.2.1 0, 10, .inl near))], [(q_5, .inr (4, [.ref (n_6 v_root), .ref q_9, .ref q_11]))], (g_T d n_6 n_7 n_8 v_n_6), [(q_11, .inr (1, [.ref q_12, .int v_many]))], [(q_12, .inl (d.2.1 2, 10, .inl v_q_12))], (g_IT d q_18 q_9 v_q_18 v_q_9.length), (g_AL d q_9 q_10 n_6 v_q_9)] H locs := hH
      refine W.eq (g2 := (F0 m 60 ls [.int r_29])) rfl ?_
      refine lv_if_eq (tgt := 97) hF.1.1 hF.1.2.1 dX0_kept_60 (by decide) (fun c_30 => ?_) (fun c_30 => ?_)
      · have hw := hw.1 c_30
        refine lv_iload_n hF.1.1 hF.1.2.1 dX0_kept_97 rfl (lv_at hl 1 rfl) ?_
        have hH := hH.sub (cs' := [[(q_5, .inr (4, [.ref (n_6 v_root), .ref q_9, .ref q_11]))], (g_AL d q_9 q_10 n_6 v_q_9), (g_T d n_6 n_7 n_8 v_n_6), [(q_11, .inr (1, [.ref q_12, .int v_many]))], [(q_12, .inl (d.2.1 2, 10, .inl v_q_12))], [(lA, .inr (1, [.ref lB, .int lm]))], [(lB, .inl (d.2.1 2, 10, .inl lf))], [(ob, .inr (0, [.ref hA, .ref tA, .ref lA, .ref gA, .ref q_5, va_rf oa]))], [(gA, .inr (2, [.int n, .ref gB]))], [(gB, .inl (d.2.1 0, 10, .inl near))], (g_IT d q_18 q_9 v_q_18 v_q_9.length)]) [5, 10, 6, 7, 8, 0, 1, 2, 3, 4, 9] rfl rfl
        have hH := g_HS.closeF hH
        have hH : g_HS d A s [(g_FS d (g_ad5 q_5 q_9 q_11 q_10 q_12, n_6, n_7, n_8) (some (v_root, v_q_9, v_n_6, (v_many, v_q_12)))), [(lA, .inr (1, [.ref lB, .int lm]))], [(lB, .inl (d.2.1 2, 10, .inl lf))], [(ob, .inr (0, [.ref hA, .ref tA, .ref lA, .ref gA, .ref q_5, va_rf oa]))], [(gA, .inr (2, [.int n, .ref gB]))], [(gB, .inl (d.2.1 0, 10, .inl near))], (g_IT d q_18 q_9 v_q_18 v_q_9.length)] H _ := hH
        have hH := hH.sub (cs' := [[(ob, .inr (0, [.ref hA, .ref tA, .ref lA, .ref gA, .ref q_5, va_rf oa]))], [(gA, .inr (2, [.int n, .ref gB]))], [(gB, .inl (d.2.1 0, 10, .inl near))], (g_FS d (g_ad5 q_5 q_9 q_11 q_10 q_12, n_6, n_7, n_8) (some (v_root, v_q_9, v_n_6, (v_many, v_q_12)))), [(lA, .inr (1, [.ref lB, .int lm]))], [(lB, .inl (d.2.1 2, 10, .inl lf))]]) [3, 4, 5, 0, 1, 2] rfl rfl
        exact g_iret hF hH ⟨x2, (g_ad5 q_5 q_9 q_11 q_10 q_12, n_6, n_7, n_8), (some (v_root, v_q_9, v_n_6, (v_many, v_q_12))), rfl, rfl, hw⟩ dX0_kept_98
      · have hw := hw.2 c_30
        refine lv_aload_n hF.1.1 hF.1.2.1 dX0_kept_63 rfl (lv_at hl 2 rfl) ?_
        refine g_cF (x := ⟨"java/util/Iterator", "next", "()Ljava/lang/Object;"⟩) (C := "java/util/ArrayList$Itr") [] 0 rfl hF (met_J16_next_A l hl0 d q_18 v_q_18 q_9 q_10 n_6 v_q_9 _ hw) q963 (g_fwN hH) q666 q668 q118 q670 rfl rfl (by decide +kernel) ⟨Nat.le_of_ble_eq_true rfl, Nat.le_of_ble_eq_true rfl⟩ hH [9, 10] rfl rfl rfl 0 0 rfl rfl rfl hl.1 (Nat.le_of_ble_eq_true rfl) dX0_kept_64 ⟨(by first | exact Nat.le_of_ble_eq_true rfl | omega | (dsimp only; omega)), (by first | exact Nat.le_of_ble_eq_true rfl | omega | (dsimp only; omega))⟩ (fun v w1 H locs hq hH => ?_)
        obtain ⟨q_31, rfl, rfl, hw⟩ := hq
        have hH : g_HS d A s [[(lA, .inr (1, [.ref lB, .int lm]))], [(lB, .inl (d.2.1 2, 10, .inl lf))], [(ob, .inr (0, [.ref hA, .ref tA, .ref lA, .ref gA, .ref q_5, va_rf oa]))], [(gA, .inr (2, [.int n, .ref gB]))], [(gB, .inl (d.2.1 0, 10, .inl near))], [(q_5, .inr (4, [.ref (n_6 v_root), .ref q_9, .ref q_11]))], (g_T d n_6 n_7 n_8 v_n_6), [(q_11, .inr (1, [.ref q_12, .int v_many]))], [(q_12, .inl (d.2.1 2, 10, .inl v_q_12))], (g_IT d q_18 q_9 (v_q_18 + 1) v_q_9.length), (g_AL d q_9 q_10 n_6 v_q_9)] H locs := hH
        refine W.eq (g2 := (F0 m 69 ls [.ref (n_6 q_31)])) rfl ?_
        obtain ⟨hk_32, hw⟩ := hw
        refine g_tcT hF hH 6 rfl hk_32 q835 dX0_kept_69 ?_
        refine lv_astore (lv' := [(4, .ref (n_6 q_31)), (0, .ref ob), (2, .int x2), (3, .ref q_18)]) hF.1.1 hF.1.2.1 dX0_kept_72 hl (by decide) rfl (fun ls hl => ?_)
        refine lv_iload_n hF.1.1 hF.1.2.1 dX0_kept_74 rfl (lv_at hl 2 rfl) ?_
        refine lv_aload_n hF.1.1 hF.1.2.1 dX0_kept_75 rfl (lv_at hl 1 rfl) ?_
        refine lv_aload hF.1.1 hF.1.2.1 dX0_kept_76 (lv_at hl 0 rfl) ?_
        obtain ⟨hk_34, hw⟩ := hw
        refine g_tset hF hH 6 rfl hk_34 q463 dX0_kept_78 ?_
        refine g_cV [.int (nI q_31)] 1 rfl hF (met_X0_isTogether l hl0 d ob (nI q_31) hA tA lA gA (some q_5) oa lB lm lf _ hw) q964 q966 qs26 q92 q967 rfl rfl (by decide +kernel) ⟨Nat.le_of_ble_eq_true rfl, Nat.le_of_ble_eq_true rfl⟩ hH [2, 0, 1] rfl rfl rfl 0 0 rfl rfl rfl hl.1 (Nat.le_of_ble_eq_true rfl) dX0_kept_81 ⟨(by first | exact Nat.le_of_ble_eq_true rfl | omega | (dsimp only; omega)), (by first | exact Nat.le_of_ble_eq_true rfl | omega | (dsimp only; omega))⟩ (fun v w1 H locs hq hH => ?_)
        obtain ⟨r_36, rfl, rfl, hw⟩ := hq
        have hH : g_HS d A s [[(gA, .inr (2, [.int n, .ref gB]))], [(gB, .inl (d.2.1 0, 10, .inl near))], [(q_5, .inr (4, [.ref (n_6 v_root), .ref q_9, .ref q_11]))], (g_T d n_6 n_7 n_8 v_n_6), [(q_11, .inr (1, [.ref q_12, .int v_many]))], [(q_12, .inl (d.2.1 2, 10, .inl v_q_12))], (g_IT d q_18 q_9 (v_q_18 + 1) v_q_9.length), (g_AL d q_9 q_10 n_6 v_q_9), [(ob, .inr (0, [.ref hA, .ref tA, .ref lA, .ref gA, va_rf (some q_5), va_rf oa]))], [(lA, .inr (1, [.ref lB, .int lm]))], [(lB, .inl (d.2.1 2, 10, .inl lf))]] H locs := hH
        refine W.eq (g2 := (F0 m 84 ls [.int r_36, .int x2])) rfl ?_
        refine lv_if_eq (tgt := 91) hF.1.1 hF.1.2.1 dX0_kept_84 (by decide) (fun c_37 => ?_) (fun c_37 => ?_)
        · have hw := hw.1 c_37
          refine lv_iconst (v := 1) hF.1.1 hF.1.2.1 dX0_kept_91 (by decide) ?_
          refine lv_iadd hF.1.1 hF.1.2.1 dX0_kept_92 ?_
          refine lv_istore_n (lv' := [(2, .int (x2 + 1)), (4, .ref (n_6 q_31)), (0, .ref ob), (3, .ref q_18)]) hF.1.1 hF.1.2.1 dX0_kept_93 rfl hl (by decide) rfl (fun ls hl => ?_)
          refine lv_goto (tgt := 54) hF.1.1 hF.1.2.1 dX0_kept_94 (by decide) ?_
          have hH := hH.sub (cs' := [[(lA, .inr (1, [.ref lB, .int lm]))], [(lB, .inl (d.2.1 2, 10, .inl lf))], [(ob, .inr (0, [.ref hA, .ref tA, .ref lA, .ref gA, va_rf (some q_5), va_rf oa]))], [(gA, .inr (2, [.int n, .ref gB]))], [(gB, .inl (d.2.1 0, 10, .inl near))], [(q_5, .inr (4, [.ref (n_6 v_root), .ref q_9, .ref q_11]))], (g_T d n_6 n_7 n_8 v_n_6), [(q_11, .inr (1, [.ref q_12, .int v_many]))], [(q_12, .inl (d.2.1 2, 10, .inl v_q_12))], (g_AL d q_9 q_10 n_6 v_q_9), (g_IT d q_18 q_9 (v_q_18 + 1) v_q_9.length)]) [9, 10, 8, 0, 1, 2, 3, 4, 5, 7, 6] rfl rfl
          have hl := lv_sub hl (l' := [(0, .ref ob), (2, .int (x2 + 1)), (3, .ref q_18)]) [2, 0, 3] rfl
          exact ih q_18 q_5 q_9 q_11 n_6 n_7 n_8 q_12 q_10 (x2 + 1) (v_q_18 + 1) _ _ _ hH hl hw
        · have hw := hw.2 c_37
          refine lv_iconst (v := 0) hF.1.1 hF.1.2.1 dX0_kept_87 (by decide) ?_
          refine lv_goto (tgt := 92) hF.1.1 hF.1.2.1 dX0_kept_88 (by decide) ?_
          refine lv_iadd hF.1.1 hF.1.2.1 dX0_kept_92 ?_
          refine lv_istore_n (lv' := [(2, .int (x2 + 0)), (4, .ref (n_6 q_31)), (0, .ref ob), (3, .ref q_18)]) hF.1.1 hF.1.2.1 dX0_kept_93 rfl hl (by decide) rfl (fun ls hl => ?_)
          refine lv_goto (tgt := 54) hF.1.1 hF.1.2.1 dX0_kept_94 (by decide) ?_
          have hH := hH.sub (cs' := [[(lA, .inr (1, [.ref lB, .int lm]))], [(lB, .inl (d.2.1 2, 10, .inl lf))], [(ob, .inr (0, [.ref hA, .ref tA, .ref lA, .ref gA, va_rf (some q_5), va_rf oa]))], [(gA, .inr (2, [.int n, .ref gB]))], [(gB, .inl (d.2.1 0, 10, .inl near))], [(q_5, .inr (4, [.ref (n_6 v_root), .ref q_9, .ref q_11]))], (g_T d n_6 n_7 n_8 v_n_6), [(q_11, .inr (1, [.ref q_12, .int v_many]))], [(q_12, .inl (d.2.1 2, 10, .inl v_q_12))], (g_AL d q_9 q_10 n_6 v_q_9), (g_IT d q_18 q_9 (v_q_18 + 1) v_q_9.length)]) [9, 10, 8, 0, 1, 2, 3, 4, 5, 7, 6] rfl rfl
          have hl := lv_sub hl (l' := [(0, .ref ob), (2, .int (x2 + 0)), (3, .ref q_18)]) [2, 0, 3] rfl
          exact ih q_18 q_5 q_9 q_11 n_6 n_7 n_8 q_12 q_10 (x2 + 0) (v_q_18 + 1) _ _ _ hH hl hw
  unfold wp_X0_kept at hw
  refine lv_iload_n hF.1.1 hF.1.2.1 dX0_kept_0 rfl (lv_at hl 1 rfl) ?_
  refine lv_iconst (v := 0) hF.1.1 hF.1.2.1 dX0_kept_1 (by decide) ?_
  refine lv_iconst (v := 1) hF.1.1 hF.1.2.1 dX0_kept_2 (by decide) ?_
  refine g_cS [.int a1, .int 0, .int 1] 3 rfl hF (met_X0_inRange l hl0 d a1 0 1 _ hw) q206 q207 q92 q208 rfl rfl (by decide +kernel) ⟨Nat.le_of_ble_eq_true rfl, Nat.le_of_ble_eq_true rfl⟩ hH [] rfl rfl rfl hl.1 (Nat.le_of_ble_eq_true rfl) dX0_kept_3 ⟨(by first | exact Nat.le_of_ble_eq_true rfl | omega | (dsimp only; omega)), (by first | exact Nat.le_of_ble_eq_true rfl | omega | (dsimp only; omega))⟩ (fun v w1 H locs hq hH => ?_)
  obtain ⟨r_38, rfl, rfl, hw⟩ := hq
  have hH : g_HS d A s [[(ob, .inr (0, [.ref hA, .ref tA, .ref lA, .ref gA, va_rf (g_fa af fo), va_rf oa]))], [(gA, .inr (2, [.int n, .ref gB]))], [(gB, .inl (d.2.1 0, 10, .inl near))], (g_FS d af fo), [(lA, .inr (1, [.ref lB, .int lm]))], [(lB, .inl (d.2.1 2, 10, .inl lf))]] H locs := hH
  refine W.eq (g2 := (F0 m 6 ls [.int r_38])) rfl ?_
  refine lv_if_ne (tgt := 11) hF.1.1 hF.1.2.1 dX0_kept_6 (by decide) (fun c_39 => ?_) (fun c_39 => ?_)
  · have hw := hw.1 c_39
    refine lv_aload_n hF.1.1 hF.1.2.1 dX0_kept_11 rfl (lv_at hl 0 rfl) ?_
    refine g_get (v := .ref lA) hF hH in_X0 rfl 0 0 rfl rfl 2 (by decide) q185 (fun _ h9 => h9) rfl dX0_kept_12 ?_
    refine g_getN (v := .int lm) hF hH in_X1 rfl 4 0 rfl rfl 1 (by decide) q149 (fun _ h9 => h9) rfl dX0_kept_15 ?_
    refine lv_aload_n hF.1.1 hF.1.2.1 dX0_kept_18 rfl (lv_at hl 0 rfl) ?_
    refine g_get (v := .ref gA) hF hH in_X0 rfl 0 0 rfl rfl 3 (by decide) q186 (fun _ h9 => h9) rfl dX0_kept_19 ?_
    refine g_getN (v := .int n) hF hH in_X2 rfl 1 0 rfl rfl 0 (by decide) q169 (fun _ h9 => h9) rfl dX0_kept_22 ?_
    refine lv_icmp_ge (tgt := 31) hF.1.1 hF.1.2.1 dX0_kept_25 (by decide) (fun c_40 => ?_) (fun c_40 => ?_)
    · have hw := hw.1 c_40
      refine lv_iload_n hF.1.1 hF.1.2.1 dX0_kept_31 rfl (lv_at hl 1 rfl) ?_
      refine lv_iconst (v := 1) hF.1.1 hF.1.2.1 dX0_kept_32 (by decide) ?_
      refine lv_icmp_ne (tgt := 41) hF.1.1 hF.1.2.1 dX0_kept_33 (by decide) (fun c_41 => ?_) (fun c_41 => ?_)
      · have hw := hw.1 c_41
        refine lv_iconst (v := 0) hF.1.1 hF.1.2.1 dX0_kept_41 (by decide) ?_
        refine lv_istore_n (lv' := [(2, .int 0), (0, .ref ob), (1, .int a1)]) hF.1.1 hF.1.2.1 dX0_kept_42 rfl hl (by decide) rfl (fun ls hl => ?_)
        refine lv_aload_n hF.1.1 hF.1.2.1 dX0_kept_43 rfl (lv_at hl 1 rfl) ?_
        refine g_cV [] 0 rfl hF (met_X0_forest l hl0 d ob hA tA lA gA oa af fo n gB near _ hw) q402 q404 qs8 q92 q405 rfl rfl (by decide +kernel) ⟨Nat.le_of_ble_eq_true rfl, Nat.le_of_ble_eq_true rfl⟩ hH [0, 1, 2, 3] rfl rfl rfl 0 0 rfl rfl rfl hl.1 (Nat.le_of_ble_eq_true rfl) dX0_kept_44 ⟨(by first | exact Nat.le_of_ble_eq_true rfl | omega | (dsimp only; omega)), (by first | exact Nat.le_of_ble_eq_true rfl | omega | (dsimp only; omega))⟩ (fun v w1 H locs hq hH => ?_)
        obtain ⟨q_42, n_43, n_44, n_45, q_46, q_47, q_48, q_49, q_50, n_51, n_52, n_53, n_54, rfl, rfl, hw⟩ := hq
        have hH : g_HS d A s [[(lA, .inr (1, [.ref lB, .int lm]))], [(lB, .inl (d.2.1 2, 10, .inl lf))], [(ob, .inr (0, [.ref hA, .ref tA, .ref lA, .ref gA, .ref q_42, va_rf oa]))], [(gA, .inr (2, [.int n, .ref gB]))], [(gB, .inl (d.2.1 0, 10, .inl near))], [(q_42, .inr (4, [.ref (n_43 q_50), .ref q_46, .ref q_48]))], (g_AL d q_46 q_47 n_43 n_51), (g_T d n_43 n_44 n_45 n_52), [(q_48, .inr (1, [.ref q_49, .int n_53]))], [(q_49, .inl (d.2.1 2, 10, .inl n_54))]] H locs := hH
        refine W.eq (g2 := (F0 m 47 ls [.ref q_42])) rfl ?_
        refine W.widen (k := 226) (n := 2978) (by first | exact Nat.le_of_ble_eq_true rfl | omega | (dsimp only; omega)) (by first | exact Nat.le_of_ble_eq_true rfl | omega | (dsimp only; omega)) ?_
        refine g_getN (v := .ref q_46) hF hH in_X4 rfl 5 0 rfl rfl 1 (by decide) q680 (fun _ h9 => h9) rfl dX0_kept_47 ?_
        refine g_cVr [] 0 rfl hF (met_J10_iterator_B l hl0 d q_46 q_47 n_43 n_51 _ hw) q959 q630 q631 q107 q632 rfl rfl (by decide +kernel) ⟨Nat.le_of_ble_eq_true rfl, Nat.le_of_ble_eq_true rfl⟩ hH [6] rfl rfl rfl (g_lrec hH 6 rfl) hl.1 (Nat.le_of_ble_eq_true rfl) dX0_kept_50 ⟨(by first | exact Nat.le_of_ble_eq_true rfl | omega | (dsimp only; omega)), (by first | exact Nat.le_of_ble_eq_true rfl | omega | (dsimp only; omega))⟩ (fun v w1 H locs hq hH => ?_)
        obtain ⟨q_55, rfl, rfl, hw⟩ := hq
        have hH : g_HS d A s [[(lA, .inr (1, [.ref lB, .int lm]))], [(lB, .inl (d.2.1 2, 10, .inl lf))], [(ob, .inr (0, [.ref hA, .ref tA, .ref lA, .ref gA, .ref q_42, va_rf oa]))], [(gA, .inr (2, [.int n, .ref gB]))], [(gB, .inl (d.2.1 0, 10, .inl near))], [(q_42, .inr (4, [.ref (n_43 q_50), .ref q_46, .ref q_48]))], (g_T d n_43 n_44 n_45 n_52), [(q_48, .inr (1, [.ref q_49, .int n_53]))], [(q_49, .inl (d.2.1 2, 10, .inl n_54))], (g_AL d q_46 q_47 n_43 n_51), (g_IT d q_55 q_46 0 n_51.length)] H locs := hH
        refine W.eq (g2 := (F0 m 53 ls [.ref q_55])) rfl ?_
        refine W.widen (k := 227) (n := 2982) (by first | exact Nat.le_of_ble_eq_true rfl | omega | (dsimp only; omega)) (by first | exact Nat.le_of_ble_eq_true rfl | omega | (dsimp only; omega)) ?_
        refine lv_astore_n (lv' := [(3, .ref q_55), (2, .int 0), (0, .ref ob), (1, .int a1)]) hF.1.1 hF.1.2.1 dX0_kept_53 rfl hl (by decide) rfl (fun ls hl => ?_)
        obtain ⟨f_56, hw⟩ := hw
        have hl := lv_sub hl (l' := [(0, .ref ob), (2, .int 0), (3, .ref q_55)]) [2, 1, 0] rfl
        exact bk_54 q_50 n_52 n_53 n_54 n_51 f_56 q_55 q_42 q_46 q_48 n_43 n_44 n_45 q_49 q_47 0 0 _ _ _ hH hl hw
      · have hw := hw.2 c_41
        refine lv_aload_n hF.1.1 hF.1.2.1 dX0_kept_36 rfl (lv_at hl 0 rfl) ?_
        refine g_cV [] 0 rfl hF (met_X0_modulesInRow l hl0 d ob hA tA lA gA (g_fa af fo) oa lB lm lf n gB near _ hw) q955 q957 qs25 q92 q958 rfl rfl (by decide +kernel) ⟨Nat.le_of_ble_eq_true rfl, Nat.le_of_ble_eq_true rfl⟩ hH [0, 4, 5, 1, 2] rfl rfl rfl 0 0 rfl rfl rfl hl.1 (Nat.le_of_ble_eq_true rfl) dX0_kept_37 ⟨(by first | exact Nat.le_of_ble_eq_true rfl | omega | (dsimp only; omega)), (by first | exact Nat.le_of_ble_eq_true rfl | omega | (dsimp only; omega))⟩ (fun v w1 H locs hq hH => ?_)
        obtain ⟨r_57, rfl, rfl, hw⟩ := hq
        have hH : g_HS d A s [(g_FS d af fo), [(ob, .inr (0, [.ref hA, .ref tA, .ref lA, .ref gA, va_rf (g_fa af fo), va_rf oa]))], [(lA, .inr (1, [.ref lB, .int lm]))], [(lB, .inl (d.2.1 2, 10, .inl lf))], [(gA, .inr (2, [.int n, .ref gB]))], [(gB, .inl (d.2.1 0, 10, .inl near))]] H locs := hH
        refine W.eq (g2 := (F0 m 40 ls [.int r_57])) rfl ?_
        refine W.widen (k := 227) (n := 2982) (by first | exact Nat.le_of_ble_eq_true rfl | omega | (dsimp only; omega)) (by first | exact Nat.le_of_ble_eq_true rfl | omega | (dsimp only; omega)) ?_
        have hH := hH.sub (cs' := [[(ob, .inr (0, [.ref hA, .ref tA, .ref lA, .ref gA, va_rf (g_fa af fo), va_rf oa]))], [(gA, .inr (2, [.int n, .ref gB]))], [(gB, .inl (d.2.1 0, 10, .inl near))], (g_FS d af fo), [(lA, .inr (1, [.ref lB, .int lm]))], [(lB, .inl (d.2.1 2, 10, .inl lf))]]) [1, 4, 5, 0, 2, 3] rfl rfl
        exact g_iret hF hH ⟨r_57, af, fo, rfl, rfl, hw⟩ dX0_kept_40
    · have hw := hw.2 c_40
      refine lv_bipush (v := (-2)) hF.1.1 hF.1.2.1 dX0_kept_28 (by decide) ?_
      refine W.widen (k := 227) (n := 2982) (by first | exact Nat.le_of_ble_eq_true rfl | omega | (dsimp only; omega)) (by first | exact Nat.le_of_ble_eq_true rfl | omega | (dsimp only; omega)) ?_
      exact g_iret hF hH ⟨(-2), af, fo, rfl, rfl, hw⟩ dX0_kept_30
  · have hw := hw.2 c_39
    refine lv_iconst (v := (-1)) hF.1.1 hF.1.2.1 dX0_kept_9 (by decide) ?_
    refine W.widen (k := 227) (n := 2982) (by first | exact Nat.le_of_ble_eq_true rfl | omega | (dsimp only; omega)) (by first | exact Nat.le_of_ble_eq_true rfl | omega | (dsimp only; omega)) ?_
    exact g_iret hF hH ⟨(-1), af, fo, rfl, rfl, hw⟩ dX0_kept_10

def wp_X0_count (a1 : Int32) (n : Int32) (near : Nat → Int32) (fo : Option g_FC) (lm : Int32) (hm : Int32) (tm : Int32) (Q : Int32 → (Option g_FC) → Prop) : Prop := ((a1 = 0 → (Q n fo)) ∧ (a1 = 1 → (wp_X2_edges n near (fun r_111 => (Q r_111 fo)))) ∧ (a1 = 2 → (wp_X0_forest n near fo (fun q_120 n_121 n_122 n_123 n_124 => (wp_X4_modules 0 n_121 n_122 (fun r_125 => (Q r_125 (some (q_120, n_121, n_122, (n_123, n_124))))))))) ∧ (a1 = 3 → (wp_X0_forest n near fo (fun q_134 n_135 n_136 n_137 n_138 => (wp_J10_size_A n_135 (fun r_139 => (Q r_139 (some (q_134, n_135, n_136, (n_137, n_138))))))))) ∧ (a1 = 4 → (wp_X0_forest n near fo (fun q_148 n_149 n_150 n_151 n_152 => (wp_X4_many 1 n_149 n_150 (fun r_153 => (Q r_153 (some (q_148, n_149, n_150, (n_151, n_152))))))))) ∧ (a1 = 5 → (wp_X0_forest n near fo (fun q_162 n_163 n_164 n_165 n_166 => (wp_X4_many 2 n_163 n_164 (fun r_167 => (Q r_167 (some (q_162, n_163, n_164, (n_165, n_166))))))))) ∧ (a1 = 6 → (wp_X0_forest n near fo (fun q_176 n_177 n_178 n_179 n_180 => (wp_X4_many 3 n_177 n_178 (fun r_181 => (Q r_181 (some (q_176, n_177, n_178, (n_179, n_180))))))))) ∧ (a1 = 7 → (wp_X0_forest n near fo (fun q_190 n_191 n_192 n_193 n_194 => (wp_X4_depth n_191 n_192 (fun r_195 => (Q r_195 (some (q_190, n_191, n_192, (n_193, n_194))))))))) ∧ (a1 = 8 → (wp_X0_classes n near (fun r_196 => (Q r_196 fo)))) ∧ (a1 = 9 → (Q hm fo)) ∧ (a1 = 10 → (Q tm fo)) ∧ (a1 = 11 → (Q lm fo)) ∧ ((¬ a1 = 0 ∧ ¬ a1 = 1 ∧ ¬ a1 = 2 ∧ ¬ a1 = 3 ∧ ¬ a1 = 4 ∧ ¬ a1 = 5 ∧ ¬ a1 = 6 ∧ ¬ a1 = 7 ∧ ¬ a1 = 8 ∧ ¬ a1 = 9 ∧ ¬ a1 = 10 ∧ ¬ a1 = 11) → (Q (-1) fo)))
set_option maxHeartbeats 4000000 in
set_option maxRecDepth 100000 in
theorem met_X0_count (l : Launch) (hl0 : l.stackTraces = false) (d : g_D) (ob : Nat) (a1 : Int32) (hA : Nat) (tA : Nat) (lA : Nat) (gA : Nat) (oa : Option Nat) (n : Int32) (gB : Nat) (near : Nat → Int32) (af : g_FA) (fo : Option g_FC) (lB : Nat) (lm : Int32) (hB : Nat) (hm : Int32) (tB : Nat) (tm : Int32) (Q : Int32 → (Option g_FC) → Prop) (hw : wp_X0_count a1 n near fo lm hm tm Q) : g_Met l d yX0_count cX0_count 2 (Option.some FieldType.int) ({ frames := 57, cells := 320, slots := 21000, locals := 14465 } : Room) [.ref ob, .int a1] [[(ob, .inr (0, [.ref hA, .ref tA, .ref lA, .ref gA, va_rf (g_fa af fo), va_rf oa]))], [(gA, .inr (2, [.int n, .ref gB]))], [(gB, .inl (d.2.1 0, 10, .inl near))], (g_FS d af fo), [(lA, .inr (1, [.ref lB, .int lm]))], [(hA, .inr (1, [.ref hB, .int hm]))], [(tA, .inr (1, [.ref tB, .int tm]))]] 320 21000 (fun v w1 => ∃ (r : Int32) (af2 : g_FA) (fo2 : Option g_FC), v = some (.int r) ∧ w1 = [[(ob, .inr (0, [.ref hA, .ref tA, .ref lA, .ref gA, va_rf (g_fa af2 fo2), va_rf oa]))], [(gA, .inr (2, [.int n, .ref gB]))], [(gB, .inl (d.2.1 0, 10, .inl near))], (g_FS d af2 fo2), [(lA, .inr (1, [.ref lB, .int lm]))], [(hA, .inr (1, [.ref hB, .int hm]))], [(tA, .inr (1, [.ref tB, .int tm]))]] ∧ Q r fo2) := by
  refine g_enter (by decide) (Nat.le_of_ble_eq_true rfl) ?_
  intro p e s m args below meth c A ls hF hH hl hin
  have hF : g_F p m c cX0_count 2 s args RX0 meth (Option.some FieldType.int) := hF
  have hl : lv_has ls 2 [(0, .ref ob), (1, .int a1)] := hl
  unfold wp_X0_count at hw
  refine lv_iload_n hF.1.1 hF.1.2.1 dX0_count_0 rfl (lv_at hl 1 rfl) ?_
  by_cases c_99 : a1 = 0
  · have hw := hw.1 c_99
    refine lv_tableIn (tgt := 64) (off := 63) hF.1.1 hF.1.2.1 dX0_count_1 (by rw [c_99]; decide) (by rw [c_99]; decide) (by rw [c_99]; rfl) (by decide) ?_
    refine lv_aload_n hF.1.1 hF.1.2.1 dX0_count_64 rfl (lv_at hl 0 rfl) ?_
    refine g_get (v := .ref gA) hF hH in_X0 rfl 0 0 rfl rfl 3 (by decide) q186 (fun _ h9 => h9) rfl dX0_count_65 ?_
    refine g_getN (v := .int n) hF hH in_X2 rfl 1 0 rfl rfl 0 (by decide) q169 (fun _ h9 => h9) rfl dX0_count_68 ?_
    refine lv_goto (tgt := 195) hF.1.1 hF.1.2.1 dX0_count_71 (by decide) ?_
    refine W.widen (k := 320) (n := 21000) (by first | exact Nat.le_of_ble_eq_true rfl | omega | (dsimp only; omega)) (by first | exact Nat.le_of_ble_eq_true rfl | omega | (dsimp only; omega)) ?_
    exact g_iret hF hH ⟨n, af, fo, rfl, rfl, hw⟩ dX0_count_195
  by_cases c_100 : a1 = 1
  · have hw := hw.2.1 c_100
    refine lv_tableIn (tgt := 74) (off := 73) hF.1.1 hF.1.2.1 dX0_count_1 (by rw [c_100]; decide) (by rw [c_100]; decide) (by rw [c_100]; rfl) (by decide) ?_
    refine lv_aload_n hF.1.1 hF.1.2.1 dX0_count_74 rfl (lv_at hl 0 rfl) ?_
    refine g_get (v := .ref gA) hF hH in_X0 rfl 0 0 rfl rfl 3 (by decide) q186 (fun _ h9 => h9) rfl dX0_count_75 ?_
    refine g_cV [] 0 rfl hF (met_X2_edges l hl0 d gA n gB near _ hw) q368 q369 q370 q94 q371 rfl rfl (by decide +kernel) ⟨Nat.le_of_ble_eq_true rfl, Nat.le_of_ble_eq_true rfl⟩ hH [1, 2] rfl rfl rfl 0 0 rfl rfl rfl hl.1 (Nat.le_of_ble_eq_true rfl) dX0_count_78 ⟨(by first | exact Nat.le_of_ble_eq_true rfl | omega | (dsimp only; omega)), (by first | exact Nat.le_of_ble_eq_true rfl | omega | (dsimp only; omega))⟩ (fun v w1 H locs hq hH => ?_)
    obtain ⟨r_111, rfl, rfl, hw⟩ := hq
    have hH : g_HS d A s [[(ob, .inr (0, [.ref hA, .ref tA, .ref lA, .ref gA, va_rf (g_fa af fo), va_rf oa]))], (g_FS d af fo), [(lA, .inr (1, [.ref lB, .int lm]))], [(hA, .inr (1, [.ref hB, .int hm]))], [(tA, .inr (1, [.ref tB, .int tm]))], [(gA, .inr (2, [.int n, .ref gB]))], [(gB, .inl (d.2.1 0, 10, .inl near))]] H locs := hH
    refine W.eq (g2 := (F0 m 81 ls [.int r_111])) rfl ?_
    refine lv_goto (tgt := 195) hF.1.1 hF.1.2.1 dX0_count_81 (by decide) ?_
    refine W.widen (k := 320) (n := 21000) (by first | exact Nat.le_of_ble_eq_true rfl | omega | (dsimp only; omega)) (by first | exact Nat.le_of_ble_eq_true rfl | omega | (dsimp only; omega)) ?_
    have hH := hH.sub (cs' := [[(ob, .inr (0, [.ref hA, .ref tA, .ref lA, .ref gA, va_rf (g_fa af fo), va_rf oa]))], [(gA, .inr (2, [.int n, .ref gB]))], [(gB, .inl (d.2.1 0, 10, .inl near))], (g_FS d af fo), [(lA, .inr (1, [.ref lB, .int lm]))], [(hA, .inr (1, [.ref hB, .int hm]))], [(tA, .inr (1, [.ref tB, .int tm]))]]) [0, 5, 6, 1, 2, 3, 4] rfl rfl
    exact g_iret hF hH ⟨r_111, af, fo, rfl, rfl, hw⟩ dX0_count_195
  by_cases c_101 : a1 = 2
  · have hw := hw.2.2.1 c_101
    refine lv_tableIn (tgt := 84) (off := 83) hF.1.1 hF.1.2.1 dX0_count_1 (by rw [c_101]; decide) (by rw [c_101]; decide) (by rw [c_101]; rfl) (by decide) ?_
    refine lv_aload_n hF.1.1 hF.1.2.1 dX0_count_84 rfl (lv_at hl 0 rfl) ?_
    refine g_cV [] 0 rfl hF (met_X0_forest l hl0 d ob hA tA lA gA oa af fo n gB near _ hw) q402 q404 qs8 q92 q405 rfl rfl (by decide +kernel) ⟨Nat.le_of_ble_eq_true rfl, Nat.le_of_ble_eq_true rfl⟩ hH [0, 1, 2, 3] rfl rfl rfl 0 0 rfl rfl rfl hl.1 (Nat.le_of_ble_eq_true rfl) dX0_count_85 ⟨(by first | exact Nat.le_of_ble_eq_true rfl | omega | (dsimp only; omega)), (by first | exact Nat.le_of_ble_eq_true rfl | omega | (dsimp only; omega))⟩ (fun v w1 H locs hq hH => ?_)
    obtain ⟨q_112, n_113, n_114, n_115, q_116, q_117, q_118, q_119, q_120, n_121, n_122, n_123, n_124, rfl, rfl, hw⟩ := hq
    have hH : g_HS d A s [[(lA, .inr (1, [.ref lB, .int lm]))], [(hA, .inr (1, [.ref hB, .int hm]))], [(tA, .inr (1, [.ref tB, .int tm]))], [(ob, .inr (0, [.ref hA, .ref tA, .ref lA, .ref gA, .ref q_112, va_rf oa]))], [(gA, .inr (2, [.int n, .ref gB]))], [(gB, .inl (d.2.1 0, 10, .inl near))], [(q_112, .inr (4, [.ref (n_113 q_120), .ref q_116, .ref q_118]))], (g_AL d q_116 q_117 n_113 n_121), (g_T d n_113 n_114 n_115 n_122), [(q_118, .inr (1, [.ref q_119, .int n_123]))], [(q_119, .inl (d.2.1 2, 10, .inl n_124))]] H locs := hH
    refine W.eq (g2 := (F0 m 88 ls [.ref q_112])) rfl ?_
    refine W.widen (k := 226) (n := 2978) (by first | exact Nat.le_of_ble_eq_true rfl | omega | (dsimp only; omega)) (by first | exact Nat.le_of_ble_eq_true rfl | omega | (dsimp only; omega)) ?_
    refine lv_iconst (v := 0) hF.1.1 hF.1.2.1 dX0_count_88 (by decide) ?_
    refine g_cV [.int 0] 1 rfl hF (met_X4_modules l hl0 d q_112 0 n_113 q_120 q_116 q_118 q_117 n_121 n_114 n_115 n_122 _ hw) q690 q691 q692 q104 q693 rfl rfl (by decide +kernel) ⟨Nat.le_of_ble_eq_true rfl, Nat.le_of_ble_eq_true rfl⟩ hH [6, 7, 8] rfl rfl rfl 0 0 rfl rfl rfl hl.1 (Nat.le_of_ble_eq_true rfl) dX0_count_89 ⟨(by first | exact Nat.le_of_ble_eq_true rfl | omega | (dsimp only; omega)), (by first | exact Nat.le_of_ble_eq_true rfl | omega | (dsimp only; omega))⟩ (fun v w1 H locs hq hH => ?_)
    obtain ⟨r_125, rfl, rfl, hw⟩ := hq
    have hH : g_HS d A s [[(lA, .inr (1, [.ref lB, .int lm]))], [(hA, .inr (1, [.ref hB, .int hm]))], [(tA, .inr (1, [.ref tB, .int tm]))], [(ob, .inr (0, [.ref hA, .ref tA, .ref lA, .ref gA, .ref q_112, va_rf oa]))], [(gA, .inr (2, [.int n, .ref gB]))], [(gB, .inl (d.2.1 0, 10, .inl near))], [(q_118, .inr (1, [.ref q_119, .int n_123]))], [(q_119, .inl (d.2.1 2, 10, .inl n_124))], [(q_112, .inr (4, [.ref (n_113 q_120), .ref q_116, .ref q_118]))], (g_AL d q_116 q_117 n_113 n_121), (g_T d n_113 n_114 n_115 n_122)] H locs := hH
    refine W.eq (g2 := (F0 m 92 ls [.int r_125])) rfl ?_
    refine W.widen (k := 227) (n := 2982) (by first | exact Nat.le_of_ble_eq_true rfl | omega | (dsimp only; omega)) (by first | exact Nat.le_of_ble_eq_true rfl | omega | (dsimp only; omega)) ?_
    refine lv_goto (tgt := 195) hF.1.1 hF.1.2.1 dX0_count_92 (by decide) ?_
    have hH := hH.sub (cs' := [[(q_112, .inr (4, [.ref (n_113 q_120), .ref q_116, .ref q_118]))], (g_AL d q_116 q_117 n_113 n_121), (g_T d n_113 n_114 n_115 n_122), [(q_118, .inr (1, [.ref q_119, .int n_123]))], [(q_119, .inl (d.2.1 2, 10, .inl n_124))], [(lA, .inr (1, [.ref lB, .int lm]))], [(hA, .inr (1, [.ref hB, .int hm]))], [(tA, .inr (1, [.ref tB, .int tm]))], [(ob, .inr (0, [.ref hA, .ref tA, .ref lA, .ref gA, .ref q_112, va_rf oa]))], [(gA, .inr (2, [.int n, .ref gB]))], [(gB, .inl (d.2.1 0, 10, .inl near))]]) [8, 9, 10, 6, 7, 0, 1, 2, 3, 4, 5] rfl rfl
    have hH := g_HS.closeF hH
    have hH : g_HS d A s [(g_FS d (g_ad5 q_112 q_116 q_118 q_117 q_119, n_113, n_114, n_115) (some (q_120, n_121, n_122, (n_123, n_124)))), [(lA, .inr (1, [.ref lB, .int lm]))], [(hA, .inr (1, [.ref hB, .int hm]))], [(tA, .inr (1, [.ref tB, .int tm]))], [(ob, .inr (0, [.ref hA, .ref tA, .ref lA, .ref gA, .ref q_112, va_rf oa]))], [(gA, .inr (2, [.int n, .ref gB]))], [(gB, .inl (d.2.1 0, 10, .inl near))]] H _ := hH
    refine W.widen (k := 320) (n := 21000) (by first | exact Nat.le_of_ble_eq_true rfl | omega | (dsimp only; omega)) (by first | exact Nat.le_of_ble_eq_true rfl | omega | (dsimp only; omega)) ?_
    have hH := hH.sub (cs' := [[(ob, .inr (0, [.ref hA, .ref tA, .ref lA, .ref gA, .ref q_112, va_rf oa]))], [(gA, .inr (2, [.int n, .ref gB]))], [(gB, .inl (d.2.1 0, 10, .inl near))], (g_FS d (g_ad5 q_112 q_116 q_118 q_117 q_119, n_113, n_114, n_115) (some (q_120, n_121, n_122, (n_123, n_124)))), [(lA, .inr (1, [.ref lB, .int lm]))], [(hA, .inr (1, [.ref hB, .int hm]))], [(tA, .inr (1, [.ref tB, .int tm]))]]) [4, 5, 6, 0, 1, 2, 3] rfl rfl
    exact g_iret hF hH ⟨r_125, (g_ad5 q_112 q_116 q_118 q_117 q_119, n_113, n_114, n_115), (some (q_120, n_121, n_122, (n_123, n_124))), rfl, rfl, hw⟩ dX0_count_195
  by_cases c_102 : a1 = 3
  · have hw := hw.2.2.2.1 c_102
    refine lv_tableIn (tgt := 95) (off := 94) hF.1.1 hF.1.2.1 dX0_count_1 (by rw [c_102]; decide) (by rw [c_102]; decide) (by rw [c_102]; rfl) (by decide) ?_
    refine lv_aload_n hF.1.1 hF.1.2.1 dX0_count_95 rfl (lv_at hl 0 rfl) ?_
    refine g_cV [] 0 rfl hF (met_X0_forest l hl0 d ob hA tA lA gA oa af fo n gB near _ hw) q402 q404 qs8 q92 q405 rfl rfl (by decide +kernel) ⟨Nat.le_of_ble_eq_true rfl, Nat.le_of_ble_eq_true rfl⟩ hH [0, 1, 2, 3] rfl rfl rfl 0 0 rfl rfl rfl hl.1 (Nat.le_of_ble_eq_true rfl) dX0_count_96 ⟨(by first | exact Nat.le_of_ble_eq_true rfl | omega | (dsimp only; omega)), (by first | exact Nat.le_of_ble_eq_true rfl | omega | (dsimp only; omega))⟩ (fun v w1 H locs hq hH => ?_)
    obtain ⟨q_126, n_127, n_128, n_129, q_130, q_131, q_132, q_133, q_134, n_135, n_136, n_137, n_138, rfl, rfl, hw⟩ := hq
    have hH : g_HS d A s [[(lA, .inr (1, [.ref lB, .int lm]))], [(hA, .inr (1, [.ref hB, .int hm]))], [(tA, .inr (1, [.ref tB, .int tm]))], [(ob, .inr (0, [.ref hA, .ref tA, .ref lA, .ref gA, .ref q_126, va_rf oa]))], [(gA, .inr (2, [.int n, .ref gB]))], [(gB, .inl (d.2.1 0, 10, .inl near))], [(q_126, .inr (4, [.ref (n_127 q_134), .ref q_130, .ref q_132]))], (g_AL d q_130 q_131 n_127 n_135), (g_T d n_127 n_128 n_129 n_136), [(q_132, .inr (1, [.ref q_133, .int n_137]))], [(q_133, .inl (d.2.1 2, 10, .inl n_138))]] H locs := hH
    refine W.eq (g2 := (F0 m 99 ls [.ref q_126])) rfl ?_
    refine W.widen (k := 226) (n := 2978) (by first | exact Nat.le_of_ble_eq_true rfl | omega | (dsimp only; omega)) (by first | exact Nat.le_of_ble_eq_true rfl | omega | (dsimp only; omega)) ?_
    refine g_getN (v := .ref q_130) hF hH in_X4 rfl 6 0 rfl rfl 1 (by decide) q680 (fun _ h9 => h9) rfl dX0_count_99 ?_
    refine g_cVr [] 0 rfl hF (met_J10_size_B l hl0 d q_130 q_131 n_127 n_135 _ hw) q723 q601 q602 q107 q603 rfl rfl (by decide +kernel) ⟨Nat.le_of_ble_eq_true rfl, Nat.le_of_ble_eq_true rfl⟩ hH [7] rfl rfl rfl (g_lrec hH 7 rfl) hl.1 (Nat.le_of_ble_eq_true rfl) dX0_count_102 ⟨(by first | exact Nat.le_of_ble_eq_true rfl | omega | (dsimp only; omega)), (by first | exact Nat.le_of_ble_eq_true rfl | omega | (dsimp only; omega))⟩ (fun v w1 H locs hq hH => ?_)
    obtain ⟨r_139, rfl, rfl, hw⟩ := hq
    have hH : g_HS d A s [[(lA, .inr (1, [.ref lB, .int lm]))], [(hA, .inr (1, [.ref hB, .int hm]))], [(tA, .inr (1, [.ref tB, .int tm]))], [(ob, .inr (0, [.ref hA, .ref tA, .ref lA, .ref gA, .ref q_126, va_rf oa]))], [(gA, .inr (2, [.int n, .ref gB]))], [(gB, .inl (d.2.1 0, 10, .inl near))], [(q_126, .inr (4, [.ref (n_127 q_134), .ref q_130, .ref q_132]))], (g_T d n_127 n_128 n_129 n_136), [(q_132, .inr (1, [.ref q_133, .int n_137]))], [(q_133, .inl (d.2.1 2, 10, .inl n_138))], (g_AL d q_130 q_131 n_127 n_135)] H locs := hH
    refine W.eq (g2 := (F0 m 105 ls [.int r_139])) rfl ?_
    refine lv_goto (tgt := 195) hF.1.1 hF.1.2.1 dX0_count_105 (by decide) ?_
    have hH := hH.sub (cs' := [[(q_126, .inr (4, [.ref (n_127 q_134), .ref q_130, .ref q_132]))], (g_AL d q_130 q_131 n_127 n_135), (g_T d n_127 n_128 n_129 n_136), [(q_132, .inr (1, [.ref q_133, .int n_137]))], [(q_133, .inl (d.2.1 2, 10, .inl n_138))], [(lA, .inr (1, [.ref lB, .int lm]))], [(hA, .inr (1, [.ref hB, .int hm]))], [(tA, .inr (1, [.ref tB, .int tm]))], [(ob, .inr (0, [.ref hA, .ref tA, .ref lA, .ref gA, .ref q_126, va_rf oa]))], [(gA, .inr (2, [.int n, .ref gB]))], [(gB, .inl (d.2.1 0, 10, .inl near))]]) [6, 10, 7, 8, 9, 0, 1, 2, 3, 4, 5] rfl rfl
    have hH := g_HS.closeF hH
    have hH : g_HS d A s [(g_FS d (g_ad5 q_126 q_130 q_132 q_131 q_133, n_127, n_128, n_129) (some (q_134, n_135, n_136, (n_137, n_138)))), [(lA, .inr (1, [.ref lB, .int lm]))], [(hA, .inr (1, [.ref hB, .int hm]))], [(tA, .inr (1, [.ref tB, .int tm]))], [(ob, .inr (0, [.ref hA, .ref tA, .ref lA, .ref gA, .ref q_126, va_rf oa]))], [(gA, .inr (2, [.int n, .ref gB]))], [(gB, .inl (d.2.1 0, 10, .inl near))]] H _ := hH
    refine W.widen (k := 320) (n := 21000) (by first | exact Nat.le_of_ble_eq_true rfl | omega | (dsimp only; omega)) (by first | exact Nat.le_of_ble_eq_true rfl | omega | (dsimp only; omega)) ?_
    have hH := hH.sub (cs' := [[(ob, .inr (0, [.ref hA, .ref tA, .ref lA, .ref gA, .ref q_126, va_rf oa]))], [(gA, .inr (2, [.int n, .ref gB]))], [(gB, .inl (d.2.1 0, 10, .inl near))], (g_FS d (g_ad5 q_126 q_130 q_132 q_131 q_133, n_127, n_128, n_129) (some (q_134, n_135, n_136, (n_137, n_138)))), [(lA, .inr (1, [.ref lB, .int lm]))], [(hA, .inr (1, [.ref hB, .int hm]))], [(tA, .inr (1, [.ref tB, .int tm]))]]) [4, 5, 6, 0, 1, 2, 3] rfl rfl
    exact g_iret hF hH ⟨r_139, (g_ad5 q_126 q_130 q_132 q_131 q_133, n_127, n_128, n_129), (some (q_134, n_135, n_136, (n_137, n_138))), rfl, rfl, hw⟩ dX0_count_195
  by_cases c_103 : a1 = 4
  · have hw := hw.2.2.2.2.1 c_103
    refine lv_tableIn (tgt := 108) (off := 107) hF.1.1 hF.1.2.1 dX0_count_1 (by rw [c_103]; decide) (by rw [c_103]; decide) (by rw [c_103]; rfl) (by decide) ?_
    refine lv_aload_n hF.1.1 hF.1.2.1 dX0_count_108 rfl (lv_at hl 0 rfl) ?_
    refine g_cV [] 0 rfl hF (met_X0_forest l hl0 d ob hA tA lA gA oa af fo n gB near _ hw) q402 q404 qs8 q92 q405 rfl rfl (by decide +kernel) ⟨Nat.le_of_ble_eq_true rfl, Nat.le_of_ble_eq_true rfl⟩ hH [0, 1, 2, 3] rfl rfl rfl 0 0 rfl rfl rfl hl.1 (Nat.le_of_ble_eq_true rfl) dX0_count_109 ⟨(by first | exact Nat.le_of_ble_eq_true rfl | omega | (dsimp only; omega)), (by first | exact Nat.le_of_ble_eq_true rfl | omega | (dsimp only; omega))⟩ (fun v w1 H locs hq hH => ?_)
    obtain ⟨q_140, n_141, n_142, n_143, q_144, q_145, q_146, q_147, q_148, n_149, n_150, n_151, n_152, rfl, rfl, hw⟩ := hq
    have hH : g_HS d A s [[(lA, .inr (1, [.ref lB, .int lm]))], [(hA, .inr (1, [.ref hB, .int hm]))], [(tA, .inr (1, [.ref tB, .int tm]))], [(ob, .inr (0, [.ref hA, .ref tA, .ref lA, .ref gA, .ref q_140, va_rf oa]))], [(gA, .inr (2, [.int n, .ref gB]))], [(gB, .inl (d.2.1 0, 10, .inl near))], [(q_140, .inr (4, [.ref (n_141 q_148), .ref q_144, .ref q_146]))], (g_AL d q_144 q_145 n_141 n_149), (g_T d n_141 n_142 n_143 n_150), [(q_146, .inr (1, [.ref q_147, .int n_151]))], [(q_147, .inl (d.2.1 2, 10, .inl n_152))]] H locs := hH
    refine W.eq (g2 := (F0 m 112 ls [.ref q_140])) rfl ?_
    refine W.widen (k := 226) (n := 2978) (by first | exact Nat.le_of_ble_eq_true rfl | omega | (dsimp only; omega)) (by first | exact Nat.le_of_ble_eq_true rfl | omega | (dsimp only; omega)) ?_
    refine g_gets (v := .ref (d.2.2 1)) hF hH (g_zk hH (i := 1) (by decide)).1 q488 (fun _ h9 => h9) dX0_count_112 ?_
    refine g_cV [.ref (d.2.2 1)] 1 rfl hF (met_X4_many l hl0 d q_140 1 n_141 q_148 q_144 q_146 q_145 n_149 n_142 n_143 n_150 _ hw) q724 q725 q726 q104 q727 rfl rfl (by decide +kernel) ⟨Nat.le_of_ble_eq_true rfl, Nat.le_of_ble_eq_true rfl⟩ hH [6, 7, 8] rfl rfl rfl 0 0 rfl rfl rfl hl.1 (Nat.le_of_ble_eq_true rfl) dX0_count_115 ⟨(by first | exact Nat.le_of_ble_eq_true rfl | omega | (dsimp only; omega)), (by first | exact Nat.le_of_ble_eq_true rfl | omega | (dsimp only; omega))⟩ (fun v w1 H locs hq hH => ?_)
    obtain ⟨r_153, rfl, rfl, hw⟩ := hq
    have hH : g_HS d A s [[(lA, .inr (1, [.ref lB, .int lm]))], [(hA, .inr (1, [.ref hB, .int hm]))], [(tA, .inr (1, [.ref tB, .int tm]))], [(ob, .inr (0, [.ref hA, .ref tA, .ref lA, .ref gA, .ref q_140, va_rf oa]))], [(gA, .inr (2, [.int n, .ref gB]))], [(gB, .inl (d.2.1 0, 10, .inl near))], [(q_146, .inr (1, [.ref q_147, .int n_151]))], [(q_147, .inl (d.2.1 2, 10, .inl n_152))], [(q_140, .inr (4, [.ref (n_141 q_148), .ref q_144, .ref q_146]))], (g_AL d q_144 q_145 n_141 n_149), (g_T d n_141 n_142 n_143 n_150)] H locs := hH
    refine W.eq (g2 := (F0 m 118 ls [.int r_153])) rfl ?_
    refine W.widen (k := 227) (n := 2982) (by first | exact Nat.le_of_ble_eq_true rfl | omega | (dsimp only; omega)) (by first | exact Nat.le_of_ble_eq_true rfl | omega | (dsimp only; omega)) ?_
    refine lv_goto (tgt := 195) hF.1.1 hF.1.2.1 dX0_count_118 (by decide) ?_
    have hH := hH.sub (cs' := [[(q_140, .inr (4, [.ref (n_141 q_148), .ref q_144, .ref q_146]))], (g_AL d q_144 q_145 n_141 n_149), (g_T d n_141 n_142 n_143 n_150), [(q_146, .inr (1, [.ref q_147, .int n_151]))], [(q_147, .inl (d.2.1 2, 10, .inl n_152))], [(lA, .inr (1, [.ref lB, .int lm]))], [(hA, .inr (1, [.ref hB, .int hm]))], [(tA, .inr (1, [.ref tB, .int tm]))], [(ob, .inr (0, [.ref hA, .ref tA, .ref lA, .ref gA, .ref q_140, va_rf oa]))], [(gA, .inr (2, [.int n, .ref gB]))], [(gB, .inl (d.2.1 0, 10, .inl near))]]) [8, 9, 10, 6, 7, 0, 1, 2, 3, 4, 5] rfl rfl
    have hH := g_HS.closeF hH
    have hH : g_HS d A s [(g_FS d (g_ad5 q_140 q_144 q_146 q_145 q_147, n_141, n_142, n_143) (some (q_148, n_149, n_150, (n_151, n_152)))), [(lA, .inr (1, [.ref lB, .int lm]))], [(hA, .inr (1, [.ref hB, .int hm]))], [(tA, .inr (1, [.ref tB, .int tm]))], [(ob, .inr (0, [.ref hA, .ref tA, .ref lA, .ref gA, .ref q_140, va_rf oa]))], [(gA, .inr (2, [.int n, .ref gB]))], [(gB, .inl (d.2.1 0, 10, .inl near))]] H _ := hH
    refine W.widen (k := 320) (n := 21000) (by first | exact Nat.le_of_ble_eq_true rfl | omega | (dsimp only; omega)) (by first | exact Nat.le_of_ble_eq_true rfl | omega | (dsimp only; omega)) ?_
    have hH := hH.sub (cs' := [[(ob, .inr (0, [.ref hA, .ref tA, .ref lA, .ref gA, .ref q_140, va_rf oa]))], [(gA, .inr (2, [.int n, .ref gB]))], [(gB, .inl (d.2.1 0, 10, .inl near))], (g_FS d (g_ad5 q_140 q_144 q_146 q_145 q_147, n_141, n_142, n_143) (some (q_148, n_149, n_150, (n_151, n_152)))), [(lA, .inr (1, [.ref lB, .int lm]))], [(hA, .inr (1, [.ref hB, .int hm]))], [(tA, .inr (1, [.ref tB, .int tm]))]]) [4, 5, 6, 0, 1, 2, 3] rfl rfl
    exact g_iret hF hH ⟨r_153, (g_ad5 q_140 q_144 q_146 q_145 q_147, n_141, n_142, n_143), (some (q_148, n_149, n_150, (n_151, n_152))), rfl, rfl, hw⟩ dX0_count_195
  by_cases c_104 : a1 = 5
  · have hw := hw.2.2.2.2.2.1 c_104
    refine lv_tableIn (tgt := 121) (off := 120) hF.1.1 hF.1.2.1 dX0_count_1 (by rw [c_104]; decide) (by rw [c_104]; decide) (by rw [c_104]; rfl) (by decide) ?_
    refine lv_aload_n hF.1.1 hF.1.2.1 dX0_count_121 rfl (lv_at hl 0 rfl) ?_
    refine g_cV [] 0 rfl hF (met_X0_forest l hl0 d ob hA tA lA gA oa af fo n gB near _ hw) q402 q404 qs8 q92 q405 rfl rfl (by decide +kernel) ⟨Nat.le_of_ble_eq_true rfl, Nat.le_of_ble_eq_true rfl⟩ hH [0, 1, 2, 3] rfl rfl rfl 0 0 rfl rfl rfl hl.1 (Nat.le_of_ble_eq_true rfl) dX0_count_122 ⟨(by first | exact Nat.le_of_ble_eq_true rfl | omega | (dsimp only; omega)), (by first | exact Nat.le_of_ble_eq_true rfl | omega | (dsimp only; omega))⟩ (fun v w1 H locs hq hH => ?_)
    obtain ⟨q_154, n_155, n_156, n_157, q_158, q_159, q_160, q_161, q_162, n_163, n_164, n_165, n_166, rfl, rfl, hw⟩ := hq
    have hH : g_HS d A s [[(lA, .inr (1, [.ref lB, .int lm]))], [(hA, .inr (1, [.ref hB, .int hm]))], [(tA, .inr (1, [.ref tB, .int tm]))], [(ob, .inr (0, [.ref hA, .ref tA, .ref lA, .ref gA, .ref q_154, va_rf oa]))], [(gA, .inr (2, [.int n, .ref gB]))], [(gB, .inl (d.2.1 0, 10, .inl near))], [(q_154, .inr (4, [.ref (n_155 q_162), .ref q_158, .ref q_160]))], (g_AL d q_158 q_159 n_155 n_163), (g_T d n_155 n_156 n_157 n_164), [(q_160, .inr (1, [.ref q_161, .int n_165]))], [(q_161, .inl (d.2.1 2, 10, .inl n_166))]] H locs := hH
    refine W.eq (g2 := (F0 m 125 ls [.ref q_154])) rfl ?_
    refine W.widen (k := 226) (n := 2978) (by first | exact Nat.le_of_ble_eq_true rfl | omega | (dsimp only; omega)) (by first | exact Nat.le_of_ble_eq_true rfl | omega | (dsimp only; omega)) ?_
    refine g_gets (v := .ref (d.2.2 2)) hF hH (g_zk hH (i := 2) (by decide)).1 q490 (fun _ h9 => h9) dX0_count_125 ?_
    refine g_cV [.ref (d.2.2 2)] 1 rfl hF (met_X4_many l hl0 d q_154 2 n_155 q_162 q_158 q_160 q_159 n_163 n_156 n_157 n_164 _ hw) q724 q725 q726 q104 q727 rfl rfl (by decide +kernel) ⟨Nat.le_of_ble_eq_true rfl, Nat.le_of_ble_eq_true rfl⟩ hH [6, 7, 8] rfl rfl rfl 0 0 rfl rfl rfl hl.1 (Nat.le_of_ble_eq_true rfl) dX0_count_128 ⟨(by first | exact Nat.le_of_ble_eq_true rfl | omega | (dsimp only; omega)), (by first | exact Nat.le_of_ble_eq_true rfl | omega | (dsimp only; omega))⟩ (fun v w1 H locs hq hH => ?_)
    obtain ⟨r_167, rfl, rfl, hw⟩ := hq
    have hH : g_HS d A s [[(lA, .inr (1, [.ref lB, .int lm]))], [(hA, .inr (1, [.ref hB, .int hm]))], [(tA, .inr (1, [.ref tB, .int tm]))], [(ob, .inr (0, [.ref hA, .ref tA, .ref lA, .ref gA, .ref q_154, va_rf oa]))], [(gA, .inr (2, [.int n, .ref gB]))], [(gB, .inl (d.2.1 0, 10, .inl near))], [(q_160, .inr (1, [.ref q_161, .int n_165]))], [(q_161, .inl (d.2.1 2, 10, .inl n_166))], [(q_154, .inr (4, [.ref (n_155 q_162), .ref q_158, .ref q_160]))], (g_AL d q_158 q_159 n_155 n_163), (g_T d n_155 n_156 n_157 n_164)] H locs := hH
    refine W.eq (g2 := (F0 m 131 ls [.int r_167])) rfl ?_
    refine W.widen (k := 227) (n := 2982) (by first | exact Nat.le_of_ble_eq_true rfl | omega | (dsimp only; omega)) (by first | exact Nat.le_of_ble_eq_true rfl | omega | (dsimp only; omega)) ?_
    refine lv_goto (tgt := 195) hF.1.1 hF.1.2.1 dX0_count_131 (by decide) ?_
    have hH := hH.sub (cs' := [[(q_154, .inr (4, [.ref (n_155 q_162), .ref q_158, .ref q_160]))], (g_AL d q_158 q_159 n_155 n_163), (g_T d n_155 n_156 n_157 n_164), [(q_160, .inr (1, [.ref q_161, .int n_165]))], [(q_161, .inl (d.2.1 2, 10, .inl n_166))], [(lA, .inr (1, [.ref lB, .int lm]))], [(hA, .inr (1, [.ref hB, .int hm]))], [(tA, .inr (1, [.ref tB, .int tm]))], [(ob, .inr (0, [.ref hA, .ref tA, .ref lA, .ref gA, .ref q_154, va_rf oa]))], [(gA, .inr (2, [.int n, .ref gB]))], [(gB, .inl (d.2.1 0, 10, .inl near))]]) [8, 9, 10, 6, 7, 0, 1, 2, 3, 4, 5] rfl rfl
    have hH := g_HS.closeF hH
    have hH : g_HS d A s [(g_FS d (g_ad5 q_154 q_158 q_160 q_159 q_161, n_155, n_156, n_157) (some (q_162, n_163, n_164, (n_165, n_166)))), [(lA, .inr (1, [.ref lB, .int lm]))], [(hA, .inr (1, [.ref hB, .int hm]))], [(tA, .inr (1, [.ref tB, .int tm]))], [(ob, .inr (0, [.ref hA, .ref tA, .ref lA, .ref gA, .ref q_154, va_rf oa]))], [(gA, .inr (2, [.int n, .ref gB]))], [(gB, .inl (d.2.1 0, 10, .inl near))]] H _ := hH
    refine W.widen (k := 320) (n := 21000) (by first | exact Nat.le_of_ble_eq_true rfl | omega | (dsimp only; omega)) (by first | exact Nat.le_of_ble_eq_true rfl | omega | (dsimp only; omega)) ?_
    have hH := hH.sub (cs' := [[(ob, .inr (0, [.ref hA, .ref tA, .ref lA, .ref gA, .ref q_154, va_rf oa]))], [(gA, .inr (2, [.int n, .ref gB]))], [(gB, .inl (d.2.1 0, 10, .inl near))], (g_FS d (g_ad5 q_154 q_158 q_160 q_159 q_161, n_155, n_156, n_157) (some (q_162, n_163, n_164, (n_165, n_166)))), [(lA, .inr (1, [.ref lB, .int lm]))], [(hA, .inr (1, [.ref hB, .int hm]))], [(tA, .inr (1, [.ref tB, .int tm]))]]) [4, 5, 6, 0, 1, 2, 3] rfl rfl
    exact g_iret hF hH ⟨r_167, (g_ad5 q_154 q_158 q_160 q_159 q_161, n_155, n_156, n_157), (some (q_162, n_163, n_164, (n_165, n_166))), rfl, rfl, hw⟩ dX0_count_195
  by_cases c_105 : a1 = 6
  · have hw := hw.2.2.2.2.2.2.1 c_105
    refine lv_tableIn (tgt := 134) (off := 133) hF.1.1 hF.1.2.1 dX0_count_1 (by rw [c_105]; decide) (by rw [c_105]; decide) (by rw [c_105]; rfl) (by decide) ?_
    refine lv_aload_n hF.1.1 hF.1.2.1 dX0_count_134 rfl (lv_at hl 0 rfl) ?_
    refine g_cV [] 0 rfl hF (met_X0_forest l hl0 d ob hA tA lA gA oa af fo n gB near _ hw) q402 q404 qs8 q92 q405 rfl rfl (by decide +kernel) ⟨Nat.le_of_ble_eq_true rfl, Nat.le_of_ble_eq_true rfl⟩ hH [0, 1, 2, 3] rfl rfl rfl 0 0 rfl rfl rfl hl.1 (Nat.le_of_ble_eq_true rfl) dX0_count_135 ⟨(by first | exact Nat.le_of_ble_eq_true rfl | omega | (dsimp only; omega)), (by first | exact Nat.le_of_ble_eq_true rfl | omega | (dsimp only; omega))⟩ (fun v w1 H locs hq hH => ?_)
    obtain ⟨q_168, n_169, n_170, n_171, q_172, q_173, q_174, q_175, q_176, n_177, n_178, n_179, n_180, rfl, rfl, hw⟩ := hq
    have hH : g_HS d A s [[(lA, .inr (1, [.ref lB, .int lm]))], [(hA, .inr (1, [.ref hB, .int hm]))], [(tA, .inr (1, [.ref tB, .int tm]))], [(ob, .inr (0, [.ref hA, .ref tA, .ref lA, .ref gA, .ref q_168, va_rf oa]))], [(gA, .inr (2, [.int n, .ref gB]))], [(gB, .inl (d.2.1 0, 10, .inl near))], [(q_168, .inr (4, [.ref (n_169 q_176), .ref q_172, .ref q_174]))], (g_AL d q_172 q_173 n_169 n_177), (g_T d n_169 n_170 n_171 n_178), [(q_174, .inr (1, [.ref q_175, .int n_179]))], [(q_175, .inl (d.2.1 2, 10, .inl n_180))]] H locs := hH
    refine W.eq (g2 := (F0 m 138 ls [.ref q_168])) rfl ?_
    refine W.widen (k := 226) (n := 2978) (by first | exact Nat.le_of_ble_eq_true rfl | omega | (dsimp only; omega)) (by first | exact Nat.le_of_ble_eq_true rfl | omega | (dsimp only; omega)) ?_
    refine g_gets (v := .ref (d.2.2 3)) hF hH (g_zk hH (i := 3) (by decide)).1 q492 (fun _ h9 => h9) dX0_count_138 ?_
    refine g_cV [.ref (d.2.2 3)] 1 rfl hF (met_X4_many l hl0 d q_168 3 n_169 q_176 q_172 q_174 q_173 n_177 n_170 n_171 n_178 _ hw) q724 q725 q726 q104 q727 rfl rfl (by decide +kernel) ⟨Nat.le_of_ble_eq_true rfl, Nat.le_of_ble_eq_true rfl⟩ hH [6, 7, 8] rfl rfl rfl 0 0 rfl rfl rfl hl.1 (Nat.le_of_ble_eq_true rfl) dX0_count_141 ⟨(by first | exact Nat.le_of_ble_eq_true rfl | omega | (dsimp only; omega)), (by first | exact Nat.le_of_ble_eq_true rfl | omega | (dsimp only; omega))⟩ (fun v w1 H locs hq hH => ?_)
    obtain ⟨r_181, rfl, rfl, hw⟩ := hq
    have hH : g_HS d A s [[(lA, .inr (1, [.ref lB, .int lm]))], [(hA, .inr (1, [.ref hB, .int hm]))], [(tA, .inr (1, [.ref tB, .int tm]))], [(ob, .inr (0, [.ref hA, .ref tA, .ref lA, .ref gA, .ref q_168, va_rf oa]))], [(gA, .inr (2, [.int n, .ref gB]))], [(gB, .inl (d.2.1 0, 10, .inl near))], [(q_174, .inr (1, [.ref q_175, .int n_179]))], [(q_175, .inl (d.2.1 2, 10, .inl n_180))], [(q_168, .inr (4, [.ref (n_169 q_176), .ref q_172, .ref q_174]))], (g_AL d q_172 q_173 n_169 n_177), (g_T d n_169 n_170 n_171 n_178)] H locs := hH
    refine W.eq (g2 := (F0 m 144 ls [.int r_181])) rfl ?_
    refine W.widen (k := 227) (n := 2982) (by first | exact Nat.le_of_ble_eq_true rfl | omega | (dsimp only; omega)) (by first | exact Nat.le_of_ble_eq_true rfl | omega | (dsimp only; omega)) ?_
    refine lv_goto (tgt := 195) hF.1.1 hF.1.2.1 dX0_count_144 (by decide) ?_
    have hH := hH.sub (cs' := [[(q_168, .inr (4, [.ref (n_169 q_176), .ref q_172, .ref q_174]))], (g_AL d q_172 q_173 n_169 n_177), (g_T d n_169 n_170 n_171 n_178), [(q_174, .inr (1, [.ref q_175, .int n_179]))], [(q_175, .inl (d.2.1 2, 10, .inl n_180))], [(lA, .inr (1, [.ref lB, .int lm]))], [(hA, .inr (1, [.ref hB, .int hm]))], [(tA, .inr (1, [.ref tB, .int tm]))], [(ob, .inr (0, [.ref hA, .ref tA, .ref lA, .ref gA, .ref q_168, va_rf oa]))], [(gA, .inr (2, [.int n, .ref gB]))], [(gB, .inl (d.2.1 0, 10, .inl near))]]) [8, 9, 10, 6, 7, 0, 1, 2, 3, 4, 5] rfl rfl
    have hH := g_HS.closeF hH
    have hH : g_HS d A s [(g_FS d (g_ad5 q_168 q_172 q_174 q_173 q_175, n_169, n_170, n_171) (some (q_176, n_177, n_178, (n_179, n_180)))), [(lA, .inr (1, [.ref lB, .int lm]))], [(hA, .inr (1, [.ref hB, .int hm]))], [(tA, .inr (1, [.ref tB, .int tm]))], [(ob, .inr (0, [.ref hA, .ref tA, .ref lA, .ref gA, .ref q_168, va_rf oa]))], [(gA, .inr (2, [.int n, .ref gB]))], [(gB, .inl (d.2.1 0, 10, .inl near))]] H _ := hH
    refine W.widen (k := 320) (n := 21000) (by first | exact Nat.le_of_ble_eq_true rfl | omega | (dsimp only; omega)) (by first | exact Nat.le_of_ble_eq_true rfl | omega | (dsimp only; omega)) ?_
    have hH := hH.sub (cs' := [[(ob, .inr (0, [.ref hA, .ref tA, .ref lA, .ref gA, .ref q_168, va_rf oa]))], [(gA, .inr (2, [.int n, .ref gB]))], [(gB, .inl (d.2.1 0, 10, .inl near))], (g_FS d (g_ad5 q_168 q_172 q_174 q_173 q_175, n_169, n_170, n_171) (some (q_176, n_177, n_178, (n_179, n_180)))), [(lA, .inr (1, [.ref lB, .int lm]))], [(hA, .inr (1, [.ref hB, .int hm]))], [(tA, .inr (1, [.ref tB, .int tm]))]]) [4, 5, 6, 0, 1, 2, 3] rfl rfl
    exact g_iret hF hH ⟨r_181, (g_ad5 q_168 q_172 q_174 q_173 q_175, n_169, n_170, n_171), (some (q_176, n_177, n_178, (n_179, n_180))), rfl, rfl, hw⟩ dX0_count_195
  by_cases c_106 : a1 = 7
  · have hw := hw.2.2.2.2.2.2.2.1 c_106
    refine lv_tableIn (tgt := 147) (off := 146) hF.1.1 hF.1.2.1 dX0_count_1 (by rw [c_106]; decide) (by rw [c_106]; decide) (by rw [c_106]; rfl) (by decide) ?_
    refine lv_aload_n hF.1.1 hF.1.2.1 dX0_count_147 rfl (lv_at hl 0 rfl) ?_
    refine g_cV [] 0 rfl hF (met_X0_forest l hl0 d ob hA tA lA gA oa af fo n gB near _ hw) q402 q404 qs8 q92 q405 rfl rfl (by decide +kernel) ⟨Nat.le_of_ble_eq_true rfl, Nat.le_of_ble_eq_true rfl⟩ hH [0, 1, 2, 3] rfl rfl rfl 0 0 rfl rfl rfl hl.1 (Nat.le_of_ble_eq_true rfl) dX0_count_148 ⟨(by first | exact Nat.le_of_ble_eq_true rfl | omega | (dsimp only; omega)), (by first | exact Nat.le_of_ble_eq_true rfl | omega | (dsimp only; omega))⟩ (fun v w1 H locs hq hH => ?_)
    obtain ⟨q_182, n_183, n_184, n_185, q_186, q_187, q_188, q_189, q_190, n_191, n_192, n_193, n_194, rfl, rfl, hw⟩ := hq
    have hH : g_HS d A s [[(lA, .inr (1, [.ref lB, .int lm]))], [(hA, .inr (1, [.ref hB, .int hm]))], [(tA, .inr (1, [.ref tB, .int tm]))], [(ob, .inr (0, [.ref hA, .ref tA, .ref lA, .ref gA, .ref q_182, va_rf oa]))], [(gA, .inr (2, [.int n, .ref gB]))], [(gB, .inl (d.2.1 0, 10, .inl near))], [(q_182, .inr (4, [.ref (n_183 q_190), .ref q_186, .ref q_188]))], (g_AL d q_186 q_187 n_183 n_191), (g_T d n_183 n_184 n_185 n_192), [(q_188, .inr (1, [.ref q_189, .int n_193]))], [(q_189, .inl (d.2.1 2, 10, .inl n_194))]] H locs := hH
    refine W.eq (g2 := (F0 m 151 ls [.ref q_182])) rfl ?_
    refine W.widen (k := 226) (n := 2978) (by first | exact Nat.le_of_ble_eq_true rfl | omega | (dsimp only; omega)) (by first | exact Nat.le_of_ble_eq_true rfl | omega | (dsimp only; omega)) ?_
    refine g_cV [] 0 rfl hF (met_X4_depth l hl0 d q_182 n_183 q_190 q_186 q_188 q_187 n_191 n_184 n_185 n_192 _ hw) q738 q739 q740 q104 q741 rfl rfl (by decide +kernel) ⟨Nat.le_of_ble_eq_true rfl, Nat.le_of_ble_eq_true rfl⟩ hH [6, 7, 8] rfl rfl rfl 0 0 rfl rfl rfl hl.1 (Nat.le_of_ble_eq_true rfl) dX0_count_151 ⟨(by first | exact Nat.le_of_ble_eq_true rfl | omega | (dsimp only; omega)), (by first | exact Nat.le_of_ble_eq_true rfl | omega | (dsimp only; omega))⟩ (fun v w1 H locs hq hH => ?_)
    obtain ⟨r_195, rfl, rfl, hw⟩ := hq
    have hH : g_HS d A s [[(lA, .inr (1, [.ref lB, .int lm]))], [(hA, .inr (1, [.ref hB, .int hm]))], [(tA, .inr (1, [.ref tB, .int tm]))], [(ob, .inr (0, [.ref hA, .ref tA, .ref lA, .ref gA, .ref q_182, va_rf oa]))], [(gA, .inr (2, [.int n, .ref gB]))], [(gB, .inl (d.2.1 0, 10, .inl near))], [(q_188, .inr (1, [.ref q_189, .int n_193]))], [(q_189, .inl (d.2.1 2, 10, .inl n_194))], [(q_182, .inr (4, [.ref (n_183 q_190), .ref q_186, .ref q_188]))], (g_AL d q_186 q_187 n_183 n_191), (g_T d n_183 n_184 n_185 n_192)] H locs := hH
    refine W.eq (g2 := (F0 m 154 ls [.int r_195])) rfl ?_
    refine W.widen (k := 227) (n := 2982) (by first | exact Nat.le_of_ble_eq_true rfl | omega | (dsimp only; omega)) (by first | exact Nat.le_of_ble_eq_true rfl | omega | (dsimp only; omega)) ?_
    refine lv_goto (tgt := 195) hF.1.1 hF.1.2.1 dX0_count_154 (by decide) ?_
    have hH := hH.sub (cs' := [[(q_182, .inr (4, [.ref (n_183 q_190), .ref q_186, .ref q_188]))], (g_AL d q_186 q_187 n_183 n_191), (g_T d n_183 n_184 n_185 n_192), [(q_188, .inr (1, [.ref q_189, .int n_193]))], [(q_189, .inl (d.2.1 2, 10, .inl n_194))], [(lA, .inr (1, [.ref lB, .int lm]))], [(hA, .inr (1, [.ref hB, .int hm]))], [(tA, .inr (1, [.ref tB, .int tm]))], [(ob, .inr (0, [.ref hA, .ref tA, .ref lA, .ref gA, .ref q_182, va_rf oa]))], [(gA, .inr (2, [.int n, .ref gB]))], [(gB, .inl (d.2.1 0, 10, .inl near))]]) [8, 9, 10, 6, 7, 0, 1, 2, 3, 4, 5] rfl rfl
    have hH := g_HS.closeF hH
    have hH : g_HS d A s [(g_FS d (g_ad5 q_182 q_186 q_188 q_187 q_189, n_183, n_184, n_185) (some (q_190, n_191, n_192, (n_193, n_194)))), [(lA, .inr (1, [.ref lB, .int lm]))], [(hA, .inr (1, [.ref hB, .int hm]))], [(tA, .inr (1, [.ref tB, .int tm]))], [(ob, .inr (0, [.ref hA, .ref tA, .ref lA, .ref gA, .ref q_182, va_rf oa]))], [(gA, .inr (2, [.int n, .ref gB]))], [(gB, .inl (d.2.1 0, 10, .inl near))]] H _ := hH
    refine W.widen (k := 320) (n := 21000) (by first | exact Nat.le_of_ble_eq_true rfl | omega | (dsimp only; omega)) (by first | exact Nat.le_of_ble_eq_true rfl | omega | (dsimp only; omega)) ?_
    have hH := hH.sub (cs' := [[(ob, .inr (0, [.ref hA, .ref tA, .ref lA, .ref gA, .ref q_182, va_rf oa]))], [(gA, .inr (2, [.int n, .ref gB]))], [(gB, .inl (d.2.1 0, 10, .inl near))], (g_FS d (g_ad5 q_182 q_186 q_188 q_187 q_189, n_183, n_184, n_185) (some (q_190, n_191, n_192, (n_193, n_194)))), [(lA, .inr (1, [.ref lB, .int lm]))], [(hA, .inr (1, [.ref hB, .int hm]))], [(tA, .inr (1, [.ref tB, .int tm]))]]) [4, 5, 6, 0, 1, 2, 3] rfl rfl
    exact g_iret hF hH ⟨r_195, (g_ad5 q_182 q_186 q_188 q_187 q_189, n_183, n_184, n_185), (some (q_190, n_191, n_192, (n_193, n_194))), rfl, rfl, hw⟩ dX0_count_195
  by_cases c_107 : a1 = 8
  · have hw := hw.2.2.2.2.2.2.2.2.1 c_107
    refine lv_tableIn (tgt := 157) (off := 156) hF.1.1 hF.1.2.1 dX0_count_1 (by rw [c_107]; decide) (by rw [c_107]; decide) (by rw [c_107]; rfl) (by decide) ?_
    refine lv_aload_n hF.1.1 hF.1.2.1 dX0_count_157 rfl (lv_at hl 0 rfl) ?_
    refine g_cV [] 0 rfl hF (met_X0_classes l hl0 d ob hA tA lA gA (g_fa af fo) oa n gB near _ hw) q749 q751 qs15 q92 q752 rfl rfl (by decide +kernel) ⟨Nat.le_of_ble_eq_true rfl, Nat.le_of_ble_eq_true rfl⟩ hH [0, 1, 2] rfl rfl rfl 0 0 rfl rfl rfl hl.1 (Nat.le_of_ble_eq_true rfl) dX0_count_158 ⟨(by first | exact Nat.le_of_ble_eq_true rfl | omega | (dsimp only; omega)), (by first | exact Nat.le_of_ble_eq_true rfl | omega | (dsimp only; omega))⟩ (fun v w1 H locs hq hH => ?_)
    obtain ⟨r_196, rfl, rfl, hw⟩ := hq
    have hH : g_HS d A s [(g_FS d af fo), [(lA, .inr (1, [.ref lB, .int lm]))], [(hA, .inr (1, [.ref hB, .int hm]))], [(tA, .inr (1, [.ref tB, .int tm]))], [(ob, .inr (0, [.ref hA, .ref tA, .ref lA, .ref gA, va_rf (g_fa af fo), va_rf oa]))], [(gA, .inr (2, [.int n, .ref gB]))], [(gB, .inl (d.2.1 0, 10, .inl near))]] H locs := hH
    refine W.eq (g2 := (F0 m 161 ls [.int r_196])) rfl ?_
    refine W.widen (k := 320) (n := 21000) (by first | exact Nat.le_of_ble_eq_true rfl | omega | (dsimp only; omega)) (by first | exact Nat.le_of_ble_eq_true rfl | omega | (dsimp only; omega)) ?_
    refine lv_goto (tgt := 195) hF.1.1 hF.1.2.1 dX0_count_161 (by decide) ?_
    have hH := hH.sub (cs' := [[(ob, .inr (0, [.ref hA, .ref tA, .ref lA, .ref gA, va_rf (g_fa af fo), va_rf oa]))], [(gA, .inr (2, [.int n, .ref gB]))], [(gB, .inl (d.2.1 0, 10, .inl near))], (g_FS d af fo), [(lA, .inr (1, [.ref lB, .int lm]))], [(hA, .inr (1, [.ref hB, .int hm]))], [(tA, .inr (1, [.ref tB, .int tm]))]]) [4, 5, 6, 0, 1, 2, 3] rfl rfl
    exact g_iret hF hH ⟨r_196, af, fo, rfl, rfl, hw⟩ dX0_count_195
  by_cases c_108 : a1 = 9
  · have hw := hw.2.2.2.2.2.2.2.2.2.1 c_108
    refine lv_tableIn (tgt := 164) (off := 163) hF.1.1 hF.1.2.1 dX0_count_1 (by rw [c_108]; decide) (by rw [c_108]; decide) (by rw [c_108]; rfl) (by decide) ?_
    refine lv_aload_n hF.1.1 hF.1.2.1 dX0_count_164 rfl (lv_at hl 0 rfl) ?_
    refine g_get (v := .ref hA) hF hH in_X0 rfl 0 0 rfl rfl 0 (by decide) q182 (fun _ h9 => h9) rfl dX0_count_165 ?_
    refine g_getN (v := .int hm) hF hH in_X1 rfl 5 0 rfl rfl 1 (by decide) q149 (fun _ h9 => h9) rfl dX0_count_168 ?_
    refine lv_goto (tgt := 195) hF.1.1 hF.1.2.1 dX0_count_171 (by decide) ?_
    refine W.widen (k := 320) (n := 21000) (by first | exact Nat.le_of_ble_eq_true rfl | omega | (dsimp only; omega)) (by first | exact Nat.le_of_ble_eq_true rfl | omega | (dsimp only; omega)) ?_
    exact g_iret hF hH ⟨hm, af, fo, rfl, rfl, hw⟩ dX0_count_195
  by_cases c_109 : a1 = 10
  · have hw := hw.2.2.2.2.2.2.2.2.2.2.1 c_109
    refine lv_tableIn (tgt := 174) (off := 173) hF.1.1 hF.1.2.1 dX0_count_1 (by rw [c_109]; decide) (by rw [c_109]; decide) (by rw [c_109]; rfl) (by decide) ?_
    refine lv_aload_n hF.1.1 hF.1.2.1 dX0_count_174 rfl (lv_at hl 0 rfl) ?_
    refine g_get (v := .ref tA) hF hH in_X0 rfl 0 0 rfl rfl 1 (by decide) q184 (fun _ h9 => h9) rfl dX0_count_175 ?_
    refine g_getN (v := .int tm) hF hH in_X1 rfl 6 0 rfl rfl 1 (by decide) q149 (fun _ h9 => h9) rfl dX0_count_178 ?_
    refine lv_goto (tgt := 195) hF.1.1 hF.1.2.1 dX0_count_181 (by decide) ?_
    refine W.widen (k := 320) (n := 21000) (by first | exact Nat.le_of_ble_eq_true rfl | omega | (dsimp only; omega)) (by first | exact Nat.le_of_ble_eq_true rfl | omega | (dsimp only; omega)) ?_
    exact g_iret hF hH ⟨tm, af, fo, rfl, rfl, hw⟩ dX0_count_195
  by_cases c_110 : a1 = 11
  · have hw := hw.2.2.2.2.2.2.2.2.2.2.2.1 c_110
    refine lv_tableIn (tgt := 184) (off := 183) hF.1.1 hF.1.2.1 dX0_count_1 (by rw [c_110]; decide) (by rw [c_110]; decide) (by rw [c_110]; rfl) (by decide) ?_
    refine lv_aload_n hF.1.1 hF.1.2.1 dX0_count_184 rfl (lv_at hl 0 rfl) ?_
    refine g_get (v := .ref lA) hF hH in_X0 rfl 0 0 rfl rfl 2 (by decide) q185 (fun _ h9 => h9) rfl dX0_count_185 ?_
    refine g_getN (v := .int lm) hF hH in_X1 rfl 4 0 rfl rfl 1 (by decide) q149 (fun _ h9 => h9) rfl dX0_count_188 ?_
    refine lv_goto (tgt := 195) hF.1.1 hF.1.2.1 dX0_count_191 (by decide) ?_
    refine W.widen (k := 320) (n := 21000) (by first | exact Nat.le_of_ble_eq_true rfl | omega | (dsimp only; omega)) (by first | exact Nat.le_of_ble_eq_true rfl | omega | (dsimp only; omega)) ?_
    exact g_iret hF hH ⟨lm, af, fo, rfl, rfl, hw⟩ dX0_count_195
  have hw := hw.2.2.2.2.2.2.2.2.2.2.2.2 ⟨c_99, c_100, c_101, c_102, c_103, c_104, c_105, c_106, c_107, c_108, c_109, c_110⟩
  refine lv_tableOut (tgt := 194) hF.1.1 hF.1.2.1 dX0_count_1 (by have := lv_neT (a := 0) c_99 rfl; have := lv_neT (a := 1) c_100 rfl; have := lv_neT (a := 2) c_101 rfl; have := lv_neT (a := 3) c_102 rfl; have := lv_neT (a := 4) c_103 rfl; have := lv_neT (a := 5) c_104 rfl; have := lv_neT (a := 6) c_105 rfl; have := lv_neT (a := 7) c_106 rfl; have := lv_neT (a := 8) c_107 rfl; have := lv_neT (a := 9) c_108 rfl; have := lv_neT (a := 10) c_109 rfl; have := lv_neT (a := 11) c_110 rfl; omega) (by decide) ?_
  refine lv_iconst (v := (-1)) hF.1.1 hF.1.2.1 dX0_count_194 (by decide) ?_
  refine W.widen (k := 320) (n := 21000) (by first | exact Nat.le_of_ble_eq_true rfl | omega | (dsimp only; omega)) (by first | exact Nat.le_of_ble_eq_true rfl | omega | (dsimp only; omega)) ?_
  exact g_iret hF hH ⟨(-1), af, fo, rfl, rfl, hw⟩ dX0_count_195

def wb_X0_endOf_S_44 (k : Nat) (n : Int32) (near : Nat → Int32) (rk : Nat) (ns : List Nat) (tc : g_TC) (vm : Int32) (vf : Nat → Int32) (K15 : Int32 → Int32 → Int32 → Prop) (Q : Int32 → Prop) (x2 : Int32) (x4 : Int32) (x5 : Int32) (y0 : Int32) (y1 : Int32) : Prop := ((¬ x5 = 1 → K15 x2 (y0 &&& y1) (x4 + (-1))) ∧ (x5 = 1 → K15 x4 (y0 &&& y1) (x4 + (-1))))
def wb_X0_endOf_S_15 (k : Nat) (n : Int32) (near : Nat → Int32) (rk : Nat) (ns : List Nat) (vm : Int32) (vf : Nat → Int32) (tc : g_TC) (Q : Int32 → Prop) : Nat → Int32 → Int32 → Int32 → Prop
  | 0, _, _, _ => False
  | fu + 1, x2, x3, x4 => ((x4 < 0 → ((x3 = 0 → (Q (-1))) ∧ (¬ x3 = 0 → (Q x2)))) ∧ (¬ x4 < 0 → (wp_X0_linkedWith_S k x4 n near rk ns tc vm vf (fun r_13 => (wp_J7_bitCount r_13 (fun r_14 => ((3 ≤ r_14 → (wb_X0_endOf_S_44 k n near rk ns tc vm vf (wb_X0_endOf_S_15 k n near rk ns vm vf tc Q fu) Q x2 x4 r_14 x3 0)) ∧ (¬ 3 ≤ r_14 → (wb_X0_endOf_S_44 k n near rk ns tc vm vf (wb_X0_endOf_S_15 k n near rk ns vm vf tc Q fu) Q x2 x4 r_14 x3 1)))))))))
def wp_X0_endOf_S (k : Nat) (n : Int32) (near : Nat → Int32) (rk : Nat) (ns : List Nat) (tc : g_TC) (vm : Int32) (vf : Nat → Int32) (Q : Int32 → Prop) : Prop := (k ∈ tc.1 ∧ tc.2.2.1 k ≠ 0 ∧ (wp_J10_size_T tc k (fun r_18 => (∃ f15, wb_X0_endOf_S_15 k n near rk ns vm vf tc Q f15 (-1) 1 (r_18 - 1)))))
set_option maxHeartbeats 4000000 in
set_option maxRecDepth 100000 in
theorem met_X0_endOf_S (l : Launch) (hl0 : l.stackTraces = false) (d : g_D) (ob : Nat) (tn : Nat → Nat) (k : Nat) (hA : Nat) (tA : Nat) (lA : Nat) (gA : Nat) (aF : Nat) (oa : Option Nat) (n : Int32) (gB : Nat) (near : Nat → Int32) (rk : Nat) (na : Nat) (va : Nat) (nb : Nat) (ns : List Nat) (tl : Nat → Nat) (tr : Nat → Nat) (tc : g_TC) (vb : Nat) (vm : Int32) (vf : Nat → Int32) (Q : Int32 → Prop) (hw : wp_X0_endOf_S k n near rk ns tc vm vf Q) : g_Met l d yX0_endOf cX0_endOf 6 (Option.some FieldType.int) ({ frames := 5, cells := 0, slots := 0, locals := 110 } : Room) [.ref ob, .ref (tn k)] [[(ob, .inr (0, [.ref hA, .ref tA, .ref lA, .ref gA, .ref aF, va_rf oa]))], [(gA, .inr (2, [.int n, .ref gB]))], [(gB, .inl (d.2.1 0, 10, .inl near))], [(aF, .inr (4, [.ref (tn rk), .ref na, .ref va]))], (g_AL d na nb tn ns), (g_T d tn tl tr tc), [(va, .inr (1, [.ref vb, .int vm]))], [(vb, .inl (d.2.1 2, 10, .inl vf))]] 0 0 (fun v w1 => ∃ (r : Int32), v = some (.int r) ∧ w1 = [[(ob, .inr (0, [.ref hA, .ref tA, .ref lA, .ref gA, .ref aF, va_rf oa]))], [(gA, .inr (2, [.int n, .ref gB]))], [(gB, .inl (d.2.1 0, 10, .inl near))], [(aF, .inr (4, [.ref (tn rk), .ref na, .ref va]))], (g_AL d na nb tn ns), (g_T d tn tl tr tc), [(va, .inr (1, [.ref vb, .int vm]))], [(vb, .inl (d.2.1 2, 10, .inl vf))]] ∧ Q r) := by
  refine g_enter (by decide) (Nat.le_of_ble_eq_true rfl) ?_
  intro p e s m args below meth c A ls hF hH hl hin
  have hF : g_F p m c cX0_endOf 6 s args RX0 meth (Option.some FieldType.int) := hF
  have hl : lv_has ls 6 [(0, .ref ob), (1, .ref (tn k))] := hl
  have bk_44 : ∀ (K15 : Int32 → Int32 → Int32 → Prop) (hK15 : ∀ (x2 : Int32) (x3 : Int32) (x4 : Int32) (H : Heap) (locs : List Loc) (ls : Array Slot), g_HS d A s [[(ob, .inr (0, [.ref hA, .ref tA, .ref lA, .ref gA, .ref aF, va_rf oa]))], [(gA, .inr (2, [.int n, .ref gB]))], [(gB, .inl (d.2.1 0, 10, .inl near))], [(aF, .inr (4, [.ref (tn rk), .ref na, .ref va]))], (g_AL d na nb tn ns), [(va, .inr (1, [.ref vb, .int vm]))], [(vb, .inl (d.2.1 2, 10, .inl vf))], (g_T d tn tl tr tc)] H locs → lv_has ls 6 [(0, .ref ob), (1, .ref (tn k)), (2, .int x2), (3, .int x3), (4, .int x4)] → K15 x2 x3 x4 → W p l e ({ frames := 5, cells := 0, slots := 0, locals := 110 } : Room) s m args below meth c H locs 0 0 (g_E d (fun v w1 => ∃ (r : Int32), v = some (.int r) ∧ w1 = [[(ob, .inr (0, [.ref hA, .ref tA, .ref lA, .ref gA, .ref aF, va_rf oa]))], [(gA, .inr (2, [.int n, .ref gB]))], [(gB, .inl (d.2.1 0, 10, .inl near))], [(aF, .inr (4, [.ref (tn rk), .ref na, .ref va]))], (g_AL d na nb tn ns), (g_T d tn tl tr tc), [(va, .inr (1, [.ref vb, .int vm]))], [(vb, .inl (d.2.1 2, 10, .inl vf))]] ∧ Q r) A below args s 0 0) (F0 m 15 ls [])) (x2 : Int32) (x4 : Int32) (x5 : Int32) (y0 : Int32) (y1 : Int32) (H : Heap) (locs : List Loc) (ls : Array Slot), g_HS d A s [[(ob, .inr (0, [.ref hA, .ref tA, .ref lA, .ref gA, .ref aF, va_rf oa]))], [(gA, .inr (2, [.int n, .ref gB]))], [(gB, .inl (d.2.1 0, 10, .inl near))], [(aF, .inr (4, [.ref (tn rk), .ref na, .ref va]))], (g_AL d na nb tn ns), (g_T d tn tl tr tc), [(va, .inr (1, [.ref vb, .int vm]))], [(vb, .inl (d.2.1 2, 10, .inl vf))]] H locs → lv_has ls 6 [(0, .ref ob), (1, .ref (tn k)), (2, .int x2), (4, .int x4), (5, .int x5)] → wb_X0_endOf_S_44 k n near rk ns tc vm vf K15 Q x2 x4 x5 y0 y1 → W p l e ({ frames := 5, cells := 0, slots := 0, locals := 110 } : Room) s m args below meth c H locs 0 0 (g_E d (fun v w1 => ∃ (r : Int32), v = some (.int r) ∧ w1 = [[(ob, .inr (0, [.ref hA, .ref tA, .ref lA, .ref gA, .ref aF, va_rf oa]))], [(gA, .inr (2, [.int n, .ref gB]))], [(gB, .inl (d.2.1 0, 10, .inl near))], [(aF, .inr (4, [.ref (tn rk), .ref na, .ref va]))], (g_AL d na nb tn ns), (g_T d tn tl tr tc), [(va, .inr (1, [.ref vb, .int vm]))], [(vb, .inl (d.2.1 2, 10, .inl vf))]] ∧ Q r) A below args s 0 0) (F0 m 44 ls [.int y1, .int y0]) := by
    intro K15 hK15 x2 x4 x5 y0 y1 H locs ls hH hl hw
    unfold wb_X0_endOf_S_44 at hw
    refine lv_iand hF.1.1 hF.1.2.1 dX0_endOf_44 ?_
    refine lv_istore_n (lv' := [(3, .int (y0 &&& y1)), (0, .ref ob), (1, .ref (tn k)), (2, .int x2), (4, .int x4), (5, .int x5)]) hF.1.1 hF.1.2.1 dX0_endOf_45 rfl hl (by decide) rfl (fun ls hl => ?_)
    refine lv_iload hF.1.1 hF.1.2.1 dX0_endOf_46 (lv_at hl 5 rfl) ?_
    refine lv_iconst (v := 1) hF.1.1 hF.1.2.1 dX0_endOf_48 (by decide) ?_
    refine lv_icmp_ne (tgt := 57) hF.1.1 hF.1.2.1 dX0_endOf_49 (by decide) (fun c_10 => ?_) (fun c_10 => ?_)
    · have hw := hw.1 c_10
      refine lv_iload_n hF.1.1 hF.1.2.1 dX0_endOf_57 rfl (lv_at hl 3 rfl) ?_
      refine lv_istore_n (lv' := [(2, .int x2), (3, .int (y0 &&& y1)), (0, .ref ob), (1, .ref (tn k)), (4, .int x4), (5, .int x5)]) hF.1.1 hF.1.2.1 dX0_endOf_58 rfl hl (by decide) rfl (fun ls hl => ?_)
      refine lv_iinc (v := (x4 + (-1))) (lv' := [(4, .int (x4 + (-1))), (2, .int x2), (3, .int (y0 &&& y1)), (0, .ref ob), (1, .ref (tn k)), (5, .int x5)]) hF.1.1 hF.1.2.1 dX0_endOf_59 hl (k := 4) rfl rfl (by decide) rfl (fun ls hl => ?_)
      refine lv_goto (tgt := 15) hF.1.1 hF.1.2.1 dX0_endOf_62 (by decide) ?_
      have hH := hH.sub (cs' := [[(ob, .inr (0, [.ref hA, .ref tA, .ref lA, .ref gA, .ref aF, va_rf oa]))], [(gA, .inr (2, [.int n, .ref gB]))], [(gB, .inl (d.2.1 0, 10, .inl near))], [(aF, .inr (4, [.ref (tn rk), .ref na, .ref va]))], (g_AL d na nb tn ns), [(va, .inr (1, [.ref vb, .int vm]))], [(vb, .inl (d.2.1 2, 10, .inl vf))], (g_T d tn tl tr tc)]) [0, 1, 2, 3, 4, 6, 7, 5] rfl rfl
      have hl := lv_sub hl (l' := [(0, .ref ob), (1, .ref (tn k)), (2, .int x2), (3, .int (y0 &&& y1)), (4, .int (x4 + (-1)))]) [3, 4, 1, 2, 0] rfl
      exact hK15 x2 (y0 &&& y1) (x4 + (-1)) _ _ _ hH hl hw
    · have hw := hw.2 c_10
      refine lv_iload hF.1.1 hF.1.2.1 dX0_endOf_52 (lv_at hl 4 rfl) ?_
      refine lv_goto (tgt := 58) hF.1.1 hF.1.2.1 dX0_endOf_54 (by decide) ?_
      refine lv_istore_n (lv' := [(2, .int x4), (3, .int (y0 &&& y1)), (0, .ref ob), (1, .ref (tn k)), (4, .int x4), (5, .int x5)]) hF.1.1 hF.1.2.1 dX0_endOf_58 rfl hl (by decide) rfl (fun ls hl => ?_)
      refine lv_iinc (v := (x4 + (-1))) (lv' := [(4, .int (x4 + (-1))), (2, .int x4), (3, .int (y0 &&& y1)), (0, .ref ob), (1, .ref (tn k)), (5, .int x5)]) hF.1.1 hF.1.2.1 dX0_endOf_59 hl (k := 4) rfl rfl (by decide) rfl (fun ls hl => ?_)
      refine lv_goto (tgt := 15) hF.1.1 hF.1.2.1 dX0_endOf_62 (by decide) ?_
      have hH := hH.sub (cs' := [[(ob, .inr (0, [.ref hA, .ref tA, .ref lA, .ref gA, .ref aF, va_rf oa]))], [(gA, .inr (2, [.int n, .ref gB]))], [(gB, .inl (d.2.1 0, 10, .inl near))], [(aF, .inr (4, [.ref (tn rk), .ref na, .ref va]))], (g_AL d na nb tn ns), [(va, .inr (1, [.ref vb, .int vm]))], [(vb, .inl (d.2.1 2, 10, .inl vf))], (g_T d tn tl tr tc)]) [0, 1, 2, 3, 4, 6, 7, 5] rfl rfl
      have hl := lv_sub hl (l' := [(0, .ref ob), (1, .ref (tn k)), (2, .int x4), (3, .int (y0 &&& y1)), (4, .int (x4 + (-1)))]) [3, 4, 1, 2, 0] rfl
      exact hK15 x4 (y0 &&& y1) (x4 + (-1)) _ _ _ hH hl hw
  have bk_15 : ∀ (fu : Nat) (x2 : Int32) (x3 : Int32) (x4 : Int32) (H : Heap) (locs : List Loc) (ls : Array Slot), g_HS d A s [[(ob, .inr (0, [.ref hA, .ref tA, .ref lA, .ref gA, .ref aF, va_rf oa]))], [(gA, .inr (2, [.int n, .ref gB]))], [(gB, .inl (d.2.1 0, 10, .inl near))], [(aF, .inr (4, [.ref (tn rk), .ref na, .ref va]))], (g_AL d na nb tn ns), [(va, .inr (1, [.ref vb, .int vm]))], [(vb, .inl (d.2.1 2, 10, .inl vf))], (g_T d tn tl tr tc)] H locs → lv_has ls 6 [(0, .ref ob), (1, .ref (tn k)), (2, .int x2), (3, .int x3), (4, .int x4)] → wb_X0_endOf_S_15 k n near rk ns vm vf tc Q fu x2 x3 x4 → W p l e ({ frames := 5, cells := 0, slots := 0, locals := 110 } : Room) s m args below meth c H locs 0 0 (g_E d (fun v w1 => ∃ (r : Int32), v = some (.int r) ∧ w1 = [[(ob, .inr (0, [.ref hA, .ref tA, .ref lA, .ref gA, .ref aF, va_rf oa]))], [(gA, .inr (2, [.int n, .ref gB]))], [(gB, .inl (d.2.1 0, 10, .inl near))], [(aF, .inr (4, [.ref (tn rk), .ref na, .ref va]))], (g_AL d na nb tn ns), (g_T d tn tl tr tc), [(va, .inr (1, [.ref vb, .int vm]))], [(vb, .inl (d.2.1 2, 10, .inl vf))]] ∧ Q r) A below args s 0 0) (F0 m 15 ls []) := by
    intro fu
    induction fu with
    | zero => intro x2 x3 x4 H locs ls hH hl hw; rw [wb_X0_endOf_S_15] at hw; exact hw.elim
    | succ fu ih =>
      intro x2 x3 x4 H locs ls hH hl hw
      rw [wb_X0_endOf_S_15] at hw
      refine lv_iload hF.1.1 hF.1.2.1 dX0_endOf_15 (lv_at hl 4 rfl) ?_
      refine lv_if_lt (tgt := 65) hF.1.1 hF.1.2.1 dX0_endOf_17 (by decide) (fun c_11 => ?_) (fun c_11 => ?_)
      · have hw := hw.1 c_11
        refine lv_iload_n hF.1.1 hF.1.2.1 dX0_endOf_65 rfl (lv_at hl 3 rfl) ?_
        refine lv_if_eq (tgt := 73) hF.1.1 hF.1.2.1 dX0_endOf_66 (by decide) (fun c_12 => ?_) (fun c_12 => ?_)
        · have hw := hw.1 c_12
          refine lv_iconst (v := (-1)) hF.1.1 hF.1.2.1 dX0_endOf_73 (by decide) ?_
          have hH := hH.sub (cs' := [[(ob, .inr (0, [.ref hA, .ref tA, .ref lA, .ref gA, .ref aF, va_rf oa]))], [(gA, .inr (2, [.int n, .ref gB]))], [(gB, .inl (d.2.1 0, 10, .inl near))], [(aF, .inr (4, [.ref (tn rk), .ref na, .ref va]))], (g_AL d na nb tn ns), (g_T d tn tl tr tc), [(va, .inr (1, [.ref vb, .int vm]))], [(vb, .inl (d.2.1 2, 10, .inl vf))]]) [0, 1, 2, 3, 4, 7, 5, 6] rfl rfl
          exact g_iret hF hH ⟨(-1), rfl, rfl, hw⟩ dX0_endOf_74
        · have hw := hw.2 c_12
          refine lv_iload_n hF.1.1 hF.1.2.1 dX0_endOf_69 rfl (lv_at hl 2 rfl) ?_
          refine lv_goto (tgt := 74) hF.1.1 hF.1.2.1 dX0_endOf_70 (by decide) ?_
          have hH := hH.sub (cs' := [[(ob, .inr (0, [.ref hA, .ref tA, .ref lA, .ref gA, .ref aF, va_rf oa]))], [(gA, .inr (2, [.int n, .ref gB]))], [(gB, .inl (d.2.1 0, 10, .inl near))], [(aF, .inr (4, [.ref (tn rk), .ref na, .ref va]))], (g_AL d na nb tn ns), (g_T d tn tl tr tc), [(va, .inr (1, [.ref vb, .int vm]))], [(vb, .inl (d.2.1 2, 10, .inl vf))]]) [0, 1, 2, 3, 4, 7, 5, 6] rfl rfl
          exact g_iret hF hH ⟨x2, rfl, rfl, hw⟩ dX0_endOf_74
      · have hw := hw.2 c_11
        refine lv_aload_n hF.1.1 hF.1.2.1 dX0_endOf_20 rfl (lv_at hl 0 rfl) ?_
        refine lv_aload_n hF.1.1 hF.1.2.1 dX0_endOf_21 rfl (lv_at hl 1 rfl) ?_
        refine lv_iload hF.1.1 hF.1.2.1 dX0_endOf_22 (lv_at hl 4 rfl) ?_
        refine g_cV [.ref (tn k), .int x4] 2 rfl hF (met_X0_linkedWith_S l hl0 d ob tn k x4 hA tA lA gA aF oa n gB near rk na va nb ns tl tr tc vb vm vf _ hw) q906 q908 qs21 q92 q909 rfl rfl (by decide +kernel) ⟨Nat.le_of_ble_eq_true rfl, Nat.le_of_ble_eq_true rfl⟩ hH [0, 1, 2, 3, 4, 7, 5, 6] rfl rfl rfl 0 0 rfl rfl rfl hl.1 (Nat.le_of_ble_eq_true rfl) dX0_endOf_24 ⟨(by first | exact Nat.le_of_ble_eq_true rfl | omega | (dsimp only; omega)), (by first | exact Nat.le_of_ble_eq_true rfl | omega | (dsimp only; omega))⟩ (fun v w1 H locs hq hH => ?_)
        obtain ⟨r_13, rfl, rfl, hw⟩ := hq
        have hH : g_HS d A s [[(ob, .inr (0, [.ref hA, .ref tA, .ref lA, .ref gA, .ref aF, va_rf oa]))], [(gA, .inr (2, [.int n, .ref gB]))], [(gB, .inl (d.2.1 0, 10, .inl near))], [(aF, .inr (4, [.ref (tn rk), .ref na, .ref va]))], (g_AL d na nb tn ns), (g_T d tn tl tr tc), [(va, .inr (1, [.ref vb, .int vm]))], [(vb, .inl (d.2.1 2, 10, .inl vf))]] H locs := hH
        refine W.eq (g2 := (F0 m 27 ls [.int r_13])) rfl ?_
        refine g_cS [.int r_13] 1 rfl hF (met_J7_bitCount l hl0 d r_13 _ hw) q450 q373 q103 q374 rfl rfl (by decide +kernel) ⟨Nat.le_of_ble_eq_true rfl, Nat.le_of_ble_eq_true rfl⟩ hH [] rfl rfl rfl hl.1 (Nat.le_of_ble_eq_true rfl) dX0_endOf_27 ⟨(by first | exact Nat.le_of_ble_eq_true rfl | omega | (dsimp only; omega)), (by first | exact Nat.le_of_ble_eq_true rfl | omega | (dsimp only; omega))⟩ (fun v w1 H locs hq hH => ?_)
        obtain ⟨r_14, rfl, rfl, hw⟩ := hq
        have hH : g_HS d A s [[(ob, .inr (0, [.ref hA, .ref tA, .ref lA, .ref gA, .ref aF, va_rf oa]))], [(gA, .inr (2, [.int n, .ref gB]))], [(gB, .inl (d.2.1 0, 10, .inl near))], [(aF, .inr (4, [.ref (tn rk), .ref na, .ref va]))], (g_AL d na nb tn ns), (g_T d tn tl tr tc), [(va, .inr (1, [.ref vb, .int vm]))], [(vb, .inl (d.2.1 2, 10, .inl vf))]] H locs := hH
        refine W.eq (g2 := (F0 m 30 ls [.int r_14])) rfl ?_
        refine lv_istore (lv' := [(5, .int r_14), (0, .ref ob), (1, .ref (tn k)), (2, .int x2), (3, .int x3), (4, .int x4)]) hF.1.1 hF.1.2.1 dX0_endOf_30 hl (by decide) rfl (fun ls hl => ?_)
        refine lv_iload_n hF.1.1 hF.1.2.1 dX0_endOf_32 rfl (lv_at hl 4 rfl) ?_
        refine lv_iload hF.1.1 hF.1.2.1 dX0_endOf_33 (lv_at hl 0 rfl) ?_
        refine lv_iconst (v := 3) hF.1.1 hF.1.2.1 dX0_endOf_35 (by decide) ?_
        refine lv_icmp_ge (tgt := 43) hF.1.1 hF.1.2.1 dX0_endOf_36 (by decide) (fun c_15 => ?_) (fun c_15 => ?_)
        · have hw := hw.1 c_15
          refine lv_iconst (v := 0) hF.1.1 hF.1.2.1 dX0_endOf_43 (by decide) ?_
          have hl := lv_sub hl (l' := [(0, .ref ob), (1, .ref (tn k)), (2, .int x2), (4, .int x4), (5, .int r_14)]) [1, 2, 3, 5, 0] rfl
          exact bk_44 (wb_X0_endOf_S_15 k n near rk ns vm vf tc Q fu) ih x2 x4 r_14 x3 0 _ _ _ hH hl hw
        · have hw := hw.2 c_15
          refine lv_iconst (v := 1) hF.1.1 hF.1.2.1 dX0_endOf_39 (by decide) ?_
          refine lv_goto (tgt := 44) hF.1.1 hF.1.2.1 dX0_endOf_40 (by decide) ?_
          have hl := lv_sub hl (l' := [(0, .ref ob), (1, .ref (tn k)), (2, .int x2), (4, .int x4), (5, .int r_14)]) [1, 2, 3, 5, 0] rfl
          exact bk_44 (wb_X0_endOf_S_15 k n near rk ns vm vf tc Q fu) ih x2 x4 r_14 x3 1 _ _ _ hH hl hw
  unfold wp_X0_endOf_S at hw
  refine lv_iconst (v := (-1)) hF.1.1 hF.1.2.1 dX0_endOf_0 (by decide) ?_
  refine lv_istore_n (lv' := [(2, .int (-1)), (0, .ref ob), (1, .ref (tn k))]) hF.1.1 hF.1.2.1 dX0_endOf_1 rfl hl (by decide) rfl (fun ls hl => ?_)
  refine lv_iconst (v := 1) hF.1.1 hF.1.2.1 dX0_endOf_2 (by decide) ?_
  refine lv_istore_n (lv' := [(3, .int 1), (2, .int (-1)), (0, .ref ob), (1, .ref (tn k))]) hF.1.1 hF.1.2.1 dX0_endOf_3 rfl hl (by decide) rfl (fun ls hl => ?_)
  refine lv_aload_n hF.1.1 hF.1.2.1 dX0_endOf_4 rfl (lv_at hl 3 rfl) ?_
  obtain ⟨hk_16, hk_17, hw⟩ := hw
  refine g_tchN hF hH 5 rfl hk_16 hk_17 q505 dX0_endOf_5 ?_
  refine g_cVr [] 0 rfl hF (met_J10_size_T l hl0 d tn tl tr tc k _ hw) q723 q601 q602 q107 q603 rfl rfl (by decide +kernel) ⟨Nat.le_of_ble_eq_true rfl, Nat.le_of_ble_eq_true rfl⟩ hH [5] rfl rfl rfl (g_trecC hH 5 rfl hw.1 hw.2.1) hl.1 (Nat.le_of_ble_eq_true rfl) dX0_endOf_8 ⟨(by first | exact Nat.le_of_ble_eq_true rfl | omega | (dsimp only; omega)), (by first | exact Nat.le_of_ble_eq_true rfl | omega | (dsimp only; omega))⟩ (fun v w1 H locs hq hH => ?_)
  obtain ⟨r_18, rfl, rfl, hw⟩ := hq
  have hH : g_HS d A s [[(ob, .inr (0, [.ref hA, .ref tA, .ref lA, .ref gA, .ref aF, va_rf oa]))], [(gA, .inr (2, [.int n, .ref gB]))], [(gB, .inl (d.2.1 0, 10, .inl near))], [(aF, .inr (4, [.ref (tn rk), .ref na, .ref va]))], (g_AL d na nb tn ns), [(va, .inr (1, [.ref vb, .int vm]))], [(vb, .inl (d.2.1 2, 10, .inl vf))], (g_T d tn tl tr tc)] H locs := hH
  refine W.eq (g2 := (F0 m 11 ls [.int r_18])) rfl ?_
  refine lv_iconst (v := 1) hF.1.1 hF.1.2.1 dX0_endOf_11 (by decide) ?_
  refine lv_isub hF.1.1 hF.1.2.1 dX0_endOf_12 ?_
  refine lv_istore (lv' := [(4, .int (r_18 - 1)), (3, .int 1), (2, .int (-1)), (0, .ref ob), (1, .ref (tn k))]) hF.1.1 hF.1.2.1 dX0_endOf_13 hl (by decide) rfl (fun ls hl => ?_)
  obtain ⟨f_19, hw⟩ := hw
  have hl := lv_sub hl (l' := [(0, .ref ob), (1, .ref (tn k)), (2, .int (-1)), (3, .int 1), (4, .int (r_18 - 1))]) [3, 4, 2, 1, 0] rfl
  exact bk_15 f_19 (-1) 1 (r_18 - 1) _ _ _ hH hl hw
