def wb_X4_list_B_68 (PR : Nat → Nat → (List Nat) → g_TC → Int32 → (Nat → Int32) → ((List Nat) → Int32 → (Nat → Int32) → Prop) → Prop) (tc : g_TC) (k : Nat) (Q : (List Nat) → Int32 → (Nat → Int32) → Prop) : Nat → Int32 → (Nat → Int32) → (List Nat) → Nat → Nat → Prop
  | 0, _, _, _, _, _ => False
  | fu + 1, vm_, vf_, ns_, v_q_25, kl => (wp_J16_hasNext_T v_q_25 tc k (fun r_37 => ((r_37 = 0 → (Q ns_ vm_ vf_)) ∧ (¬ r_37 = 0 → (wp_J16_next_T v_q_25 tc k (fun q_39 => (q_39 ∈ tc.1 ∧ (∃ k_42, k_42 + 2 ≤ kl ∧ (PR k_42 q_39 ns_ tc vm_ vf_ (fun n_45 n_46 n_47 => (wb_X4_list_B_68 PR tc k Q fu) n_46 n_47 n_45 (v_q_25 + 1) (kl - (k_42 + 1))))))))))))
def wb_X4_list_B_41 (PR : Nat → Nat → (List Nat) → g_TC → Int32 → (Nat → Int32) → ((List Nat) → Int32 → (Nat → Int32) → Prop) → Prop) (k : Nat) (tc : g_TC) (Q : (List Nat) → Int32 → (Nat → Int32) → Prop) (x2 : Int32) (vm_ : Int32) (vf_ : Nat → Int32) (ns_ : List Nat) (kl : Nat) : Prop := (wp_J10_addI_T x2 k ns_ tc (fun n_49 => (k ∈ tc.1 ∧ (tc.2.2.1 k = 0 → (k ∈ tc.1 ∧ (wp_X0_lowest (nI k) (fun r_54 => (wp_X1_add_B (r_54.toInt64) vm_ vf_ (fun r_55 n_56 n_57 => (Q n_49 n_56 n_57))))))) ∧ (tc.2.2.1 k ≠ 0 → (k ∈ tc.1 ∧ tc.2.2.1 k ≠ 0 ∧ (k ∈ tc.1 ∧ tc.2.2.1 k ≠ 0 ∧ (wp_J10_iterator_T tc k (∃ f68, wb_X4_list_B_68 PR tc k Q f68 vm_ vf_ n_49 0 kl))))))))
def wb_X4_list_B_8 (PR : Nat → Nat → (List Nat) → g_TC → Int32 → (Nat → Int32) → ((List Nat) → Int32 → (Nat → Int32) → Prop) → Prop) (k : Nat) (tc : g_TC) (vm_ : Int32) (vf_ : Nat → Int32) (Q : (List Nat) → Int32 → (Nat → Int32) → Prop) : Nat → Int32 → (List Nat) → Nat → Prop
  | 0, _, _, _ => False
  | fu + 1, x2, ns_, kl => ((x2 ≤ 0 → (wb_X4_list_B_41 PR k tc Q x2 vm_ vf_ ns_ kl)) ∧ (¬ x2 ≤ 0 → (wp_J10_get_A (x2 - 1) ns_ (fun q_65 => (q_65 ∈ tc.1 ∧ (q_65 ∈ tc.1 ∧ (k ∈ tc.1 ∧ (((nI q_65) ≤ (nI k) → (wb_X4_list_B_41 PR k tc Q x2 vm_ vf_ ns_ kl)) ∧ (¬ (nI q_65) ≤ (nI k) → (wb_X4_list_B_8 PR k tc vm_ vf_ Q fu) (x2 + (-1)) ns_ kl)))))))))
def wp_X4_list_B (PR : Nat → Nat → (List Nat) → g_TC → Int32 → (Nat → Int32) → ((List Nat) → Int32 → (Nat → Int32) → Prop) → Prop) (kb : Nat) (k : Nat) (ns : List Nat) (tc : g_TC) (vm : Int32) (vf : Nat → Int32) (Q : (List Nat) → Int32 → (Nat → Int32) → Prop) : Prop := (1 ≤ kb ∧ (wp_J10_size_A ns (fun r_73 => (∃ f8, wb_X4_list_B_8 PR k tc vm vf Q f8 r_73 ns kb))))
set_option maxHeartbeats 4000000 in
set_option maxRecDepth 100000 in
theorem met_X4_list_B (l : Launch) (hl0 : l.stackTraces = false) (d : g_D) (D : Nat) (PR : Nat → Nat → (List Nat) → g_TC → Int32 → (Nat → Int32) → ((List Nat) → Int32 → (Nat → Int32) → Prop) → Prop) (kb : Nat) (ob : Nat) (tn : Nat → Nat) (k : Nat) (rk : Nat) (na : Nat) (va : Nat) (nb : Nat) (ns : List Nat) (tl : Nat → Nat) (tr : Nat → Nat) (tc : g_TC) (vb : Nat) (vm : Int32) (vf : Nat → Int32) (hPR : ∀ (kb : Nat) (ob : Nat) (tn : Nat → Nat) (k : Nat) (rk : Nat) (na : Nat) (va : Nat) (nb : Nat) (ns : List Nat) (tl : Nat → Nat) (tr : Nat → Nat) (tc : g_TC) (vb : Nat) (vm : Int32) (vf : Nat → Int32) (Q : (List Nat) → Int32 → (Nat → Int32) → Prop), PR kb k ns tc vm vf Q → g_Met l d yX4_list cX4_list 5 none ({ frames := 2 * D + 30, cells := 3 * kb, slots := 40 * kb, locals := 300 * D + 10800 } : Room) [.ref ob, .ref (tn k)] [[(ob, .inr (4, [.ref (tn rk), .ref na, .ref va]))], (g_AL d na nb tn ns), (g_T d tn tl tr tc), [(va, .inr (1, [.ref vb, .int vm]))], [(vb, .inl (d.2.1 2, 10, .inl vf))]] (3 * kb) (40 * kb) (fun v w1 => ∃ (nb2 : Nat) (ns2 : List Nat) (vm2 : Int32) (vf2 : Nat → Int32), v = none ∧ w1 = [[(ob, .inr (4, [.ref (tn rk), .ref na, .ref va]))], (g_AL d na nb2 tn ns2), (g_T d tn tl tr tc), [(va, .inr (1, [.ref vb, .int vm2]))], [(vb, .inl (d.2.1 2, 10, .inl vf2))]] ∧ Q ns2 vm2 vf2)) (Q : (List Nat) → Int32 → (Nat → Int32) → Prop) (hw : wp_X4_list_B PR kb k ns tc vm vf Q) : g_Met l d yX4_list cX4_list 5 none ({ frames := 2 * (D + 1) + 30, cells := 3 * kb, slots := 40 * kb, locals := 300 * (D + 1) + 10800 } : Room) [.ref ob, .ref (tn k)] [[(ob, .inr (4, [.ref (tn rk), .ref na, .ref va]))], (g_AL d na nb tn ns), (g_T d tn tl tr tc), [(va, .inr (1, [.ref vb, .int vm]))], [(vb, .inl (d.2.1 2, 10, .inl vf))]] (3 * kb) (40 * kb) (fun v w1 => ∃ (nb2 : Nat) (ns2 : List Nat) (vm2 : Int32) (vf2 : Nat → Int32), v = none ∧ w1 = [[(ob, .inr (4, [.ref (tn rk), .ref na, .ref va]))], (g_AL d na nb2 tn ns2), (g_T d tn tl tr tc), [(va, .inr (1, [.ref vb, .int vm2]))], [(vb, .inl (d.2.1 2, 10, .inl vf2))]] ∧ Q ns2 vm2 vf2) := by
  refine g_enter (by decide) (Nat.le_of_ble_eq_true rfl) ?_
  intro p e s m args below meth c A ls hF hH hl hin
  have hF : g_F p m c cX4_list 5 s args RX4 meth none := hF
  have hl : lv_has ls 5 [(0, .ref ob), (1, .ref (tn k))] := hl
  have bk_68 : ∀ (fu : Nat) (q_25 : Nat) (q_11 : Nat) (vm_ : Int32) (vf_ : Nat → Int32) (ns_ : List Nat) (v_q_25 : Nat) (kl : Nat) (hkl : 1 ≤ kl ∧ kl ≤ kb) (H : Heap) (locs : List Loc) (ls : Array Slot), g_HS d A s [[(ob, .inr (4, [.ref (tn rk), .ref na, .ref va]))], [(va, .inr (1, [.ref vb, .int vm_]))], [(vb, .inl (d.2.1 2, 10, .inl vf_))], (g_AL d na q_11 tn ns_), (g_T d tn tl tr tc), (g_IT d q_25 (tl k) v_q_25 ((tc.2.2.2 k).length))] H locs → lv_has ls 5 [(0, .ref ob), (3, .ref q_25)] → wb_X4_list_B_68 PR tc k Q fu vm_ vf_ ns_ v_q_25 kl → W p l e ({ frames := 2 * (D + 1) + 30, cells := 3 * kb, slots := 40 * kb, locals := 300 * (D + 1) + 10800 } : Room) s m args below meth c H locs ((3 * (kb - kl)) + 2) ((40 * (kb - kl)) + 26) (g_E d (fun v w1 => ∃ (nb2 : Nat) (ns2 : List Nat) (vm2 : Int32) (vf2 : Nat → Int32), v = none ∧ w1 = [[(ob, .inr (4, [.ref (tn rk), .ref na, .ref va]))], (g_AL d na nb2 tn ns2), (g_T d tn tl tr tc), [(va, .inr (1, [.ref vb, .int vm2]))], [(vb, .inl (d.2.1 2, 10, .inl vf2))]] ∧ Q ns2 vm2 vf2) A below args s (3 * kb) (40 * kb)) (F0 m 68 ls []) := by
    intro fu
    induction fu with
    | zero => intro q_25 q_11 vm_ vf_ ns_ v_q_25 kl hkl H locs ls hH hl hw; rw [wb_X4_list_B_68] at hw; exact hw.elim
    | succ fu ih =>
      intro q_25 q_11 vm_ vf_ ns_ v_q_25 kl hkl H locs ls hH hl hw
      rw [wb_X4_list_B_68] at hw
      refine lv_aload_n hF.1.1 hF.1.2.1 dX4_list_68 rfl (lv_at hl 1 rfl) ?_
      refine g_cF (x := ⟨"java/util/Iterator", "hasNext", "()Z"⟩) (C := "java/util/ArrayList$Itr") [] 0 rfl hF (met_J16_hasNext_T l hl0 d q_25 v_q_25 tn tl tr tc k _ hw) q653 (g_fwH hH) q657 q659 q118 q661 rfl rfl (by decide +kernel) ⟨(by first | exact Nat.le_of_ble_eq_true rfl | (dsimp only; omega)), (by first | exact Nat.le_of_ble_eq_true rfl | (dsimp only; omega))⟩ hH [5, 4] rfl rfl rfl 0 0 rfl rfl rfl hl.1 (by first | exact Nat.le_of_ble_eq_true rfl | (dsimp only; omega)) dX4_list_69 ⟨(by first | exact Nat.le_of_ble_eq_true rfl | omega | (dsimp only; omega)), (by first | exact Nat.le_of_ble_eq_true rfl | omega | (dsimp only; omega))⟩ (fun v w1 H locs hq hH => ?_)
      obtain ⟨r_37, rfl, rfl, hw⟩ := hq
      have hH : g_HS d A s [[(ob, .inr (4, [.ref (tn rk), .ref na, .ref va]))], [(va, .inr (1, [.ref vb, .int vm_]))], [(vb, .inl (d.2.1 2, 10, .inl vf_))], (g_AL d na q_11 tn ns_), (g_IT d q_25 (tl k) v_q_25 ((tc.2.2.2 k).length)), (g_T d tn tl tr tc)] H locs := hH
      refine W.eq (g2 := (F0 m 74 ls [.int r_37])) rfl ?_
      refine lv_if_eq (tgt := 97) hF.1.1 hF.1.2.1 dX4_list_74 (by decide) (fun c_38 => ?_) (fun c_38 => ?_)
      · have hw := hw.1 c_38
        refine lv_goto (tgt := 116) hF.1.1 hF.1.2.1 dX4_list_97 (by decide) ?_
        refine W.widen (k := (3 * kb)) (n := (40 * kb)) (by first | exact Nat.le_of_ble_eq_true rfl | omega | (dsimp only; omega)) (by first | exact Nat.le_of_ble_eq_true rfl | omega | (dsimp only; omega)) ?_
        have hH := hH.sub (cs' := [[(ob, .inr (4, [.ref (tn rk), .ref na, .ref va]))], (g_AL d na q_11 tn ns_), (g_T d tn tl tr tc), [(va, .inr (1, [.ref vb, .int vm_]))], [(vb, .inl (d.2.1 2, 10, .inl vf_))]]) [0, 3, 5, 1, 2] rfl rfl
        exact g_vret hF hH ⟨q_11, ns_, vm_, vf_, rfl, rfl, hw⟩ dX4_list_116
      · have hw := hw.2 c_38
        refine lv_aload_n hF.1.1 hF.1.2.1 dX4_list_77 rfl (lv_at hl 1 rfl) ?_
        refine g_cF (x := ⟨"java/util/Iterator", "next", "()Ljava/lang/Object;"⟩) (C := "java/util/ArrayList$Itr") [] 0 rfl hF (met_J16_next_T l hl0 d q_25 v_q_25 tn tl tr tc k _ hw) q663 (g_fwN hH) q666 q668 q118 q670 rfl rfl (by decide +kernel) ⟨(by first | exact Nat.le_of_ble_eq_true rfl | (dsimp only; omega)), (by first | exact Nat.le_of_ble_eq_true rfl | (dsimp only; omega))⟩ hH [4, 5] rfl rfl rfl 0 0 rfl rfl rfl hl.1 (by first | exact Nat.le_of_ble_eq_true rfl | (dsimp only; omega)) dX4_list_78 ⟨(by first | exact Nat.le_of_ble_eq_true rfl | omega | (dsimp only; omega)), (by first | exact Nat.le_of_ble_eq_true rfl | omega | (dsimp only; omega))⟩ (fun v w1 H locs hq hH => ?_)
        obtain ⟨q_39, rfl, rfl, hw⟩ := hq
        have hH : g_HS d A s [[(ob, .inr (4, [.ref (tn rk), .ref na, .ref va]))], [(va, .inr (1, [.ref vb, .int vm_]))], [(vb, .inl (d.2.1 2, 10, .inl vf_))], (g_AL d na q_11 tn ns_), (g_IT d q_25 (tl k) (v_q_25 + 1) ((tc.2.2.2 k).length)), (g_T d tn tl tr tc)] H locs := hH
        refine W.eq (g2 := (F0 m 83 ls [.ref (tn q_39)])) rfl ?_
        obtain ⟨hk_40, hw⟩ := hw
        refine g_tcT hF hH 5 rfl hk_40 q618 dX4_list_83 ?_
        refine lv_astore (lv' := [(4, .ref (tn q_39)), (0, .ref ob), (3, .ref q_25)]) hF.1.1 hF.1.2.1 dX4_list_86 hl (by decide) rfl (fun ls hl => ?_)
        refine lv_aload_n hF.1.1 hF.1.2.1 dX4_list_88 rfl (lv_at hl 1 rfl) ?_
        refine lv_aload hF.1.1 hF.1.2.1 dX4_list_89 (lv_at hl 0 rfl) ?_
        obtain ⟨k_42, hk_43, hw⟩ := hw
        refine g_cV [.ref (tn q_39)] 1 rfl hF (hPR k_42 ob tn q_39 rk na va q_11 ns_ tl tr tc vb vm_ vf_ _ hw) q596 q598 qs12 q104 q599 rfl rfl (by decide +kernel) ⟨(by first | exact Nat.le_of_ble_eq_true rfl | (dsimp only; omega)), (by first | exact Nat.le_of_ble_eq_true rfl | (dsimp only; omega))⟩ hH [0, 3, 5, 1, 2] rfl rfl rfl 0 0 rfl rfl rfl hl.1 (by first | exact Nat.le_of_ble_eq_true rfl | (dsimp only; omega)) dX4_list_91 ⟨(by first | exact Nat.le_of_ble_eq_true rfl | omega | (dsimp only; omega)), (by first | exact Nat.le_of_ble_eq_true rfl | omega | (dsimp only; omega))⟩ (fun v w1 H locs hq hH => ?_)
        obtain ⟨q_44, n_45, n_46, n_47, rfl, rfl, hw⟩ := hq
        have hH : g_HS d A s [(g_IT d q_25 (tl k) (v_q_25 + 1) ((tc.2.2.2 k).length)), [(ob, .inr (4, [.ref (tn rk), .ref na, .ref va]))], (g_AL d na q_44 tn n_45), (g_T d tn tl tr tc), [(va, .inr (1, [.ref vb, .int n_46]))], [(vb, .inl (d.2.1 2, 10, .inl n_47))]] H locs := hH
        refine W.eq (g2 := (F0 m 94 ls [])) rfl ?_
        refine W.widen (k := (3 * (kb - (kl - (k_42 + 1))))) (n := (40 * (kb - (kl - (k_42 + 1))))) (by first | exact Nat.le_of_ble_eq_true rfl | omega | (dsimp only; omega)) (by first | exact Nat.le_of_ble_eq_true rfl | omega | (dsimp only; omega)) ?_
        refine lv_goto (tgt := 68) hF.1.1 hF.1.2.1 dX4_list_94 (by decide) ?_
        have hH := hH.sub (cs' := [[(ob, .inr (4, [.ref (tn rk), .ref na, .ref va]))], [(va, .inr (1, [.ref vb, .int n_46]))], [(vb, .inl (d.2.1 2, 10, .inl n_47))], (g_AL d na q_44 tn n_45), (g_T d tn tl tr tc), (g_IT d q_25 (tl k) (v_q_25 + 1) ((tc.2.2.2 k).length))]) [1, 4, 5, 2, 3, 0] rfl rfl
        have hl := lv_sub hl (l' := [(0, .ref ob), (3, .ref q_25)]) [1, 2] rfl
        refine W.widen (k := ((3 * (kb - (kl - (k_42 + 1)))) + 2)) (n := ((40 * (kb - (kl - (k_42 + 1)))) + 26)) (by first | exact Nat.le_of_ble_eq_true rfl | omega | (dsimp only; omega)) (by first | exact Nat.le_of_ble_eq_true rfl | omega | (dsimp only; omega)) ?_
        exact ih q_25 q_44 n_46 n_47 n_45 (v_q_25 + 1) (kl - (k_42 + 1)) ⟨by omega, by omega⟩ _ _ _ hH hl hw
  have bk_41 : ∀ (x2 : Int32) (vm_ : Int32) (vf_ : Nat → Int32) (ns_ : List Nat) (kl : Nat) (hkl : 1 ≤ kl ∧ kl ≤ kb) (H : Heap) (locs : List Loc) (ls : Array Slot), g_HS d A s [[(ob, .inr (4, [.ref (tn rk), .ref na, .ref va]))], (g_T d tn tl tr tc), [(va, .inr (1, [.ref vb, .int vm_]))], [(vb, .inl (d.2.1 2, 10, .inl vf_))], (g_AL d na nb tn ns_)] H locs → lv_has ls 5 [(0, .ref ob), (1, .ref (tn k)), (2, .int x2)] → wb_X4_list_B_41 PR k tc Q x2 vm_ vf_ ns_ kl → W p l e ({ frames := 2 * (D + 1) + 30, cells := 3 * kb, slots := 40 * kb, locals := 300 * (D + 1) + 10800 } : Room) s m args below meth c H locs (3 * (kb - kl)) (40 * (kb - kl)) (g_E d (fun v w1 => ∃ (nb2 : Nat) (ns2 : List Nat) (vm2 : Int32) (vf2 : Nat → Int32), v = none ∧ w1 = [[(ob, .inr (4, [.ref (tn rk), .ref na, .ref va]))], (g_AL d na nb2 tn ns2), (g_T d tn tl tr tc), [(va, .inr (1, [.ref vb, .int vm2]))], [(vb, .inl (d.2.1 2, 10, .inl vf2))]] ∧ Q ns2 vm2 vf2) A below args s (3 * kb) (40 * kb)) (F0 m 41 ls []) := by
    intro x2 vm_ vf_ ns_ kl hkl H locs ls hH hl hw
    unfold wb_X4_list_B_41 at hw
    refine lv_aload_n hF.1.1 hF.1.2.1 dX4_list_41 rfl (lv_at hl 0 rfl) ?_
    refine g_get (v := .ref na) hF hH in_X4 rfl 0 0 rfl rfl 1 (by decide) q679 (fun _ h9 => h9) rfl dX4_list_42 ?_
    refine lv_iload_n hF.1.1 hF.1.2.1 dX4_list_45 rfl (lv_at hl 2 rfl) ?_
    refine lv_aload_n hF.1.1 hF.1.2.1 dX4_list_46 rfl (lv_at hl 1 rfl) ?_
    refine g_cVr [.int x2, .ref (tn k)] 2 rfl hF (met_J10_addI_T l hl0 d na nb tn tl tr x2 k ns_ tc _ hw) q619 q620 q621 q107 q622 rfl rfl (by decide +kernel) ⟨(by first | exact Nat.le_of_ble_eq_true rfl | (dsimp only; omega)), (by first | exact Nat.le_of_ble_eq_true rfl | (dsimp only; omega))⟩ hH [4, 1] rfl rfl rfl (g_lrec hH 4 rfl) hl.1 (by first | exact Nat.le_of_ble_eq_true rfl | (dsimp only; omega)) dX4_list_47 ⟨(by first | exact Nat.le_of_ble_eq_true rfl | omega | (dsimp only; omega)), (by first | exact Nat.le_of_ble_eq_true rfl | omega | (dsimp only; omega))⟩ (fun v w1 H locs hq hH => ?_)
    obtain ⟨q_48, n_49, rfl, rfl, hw⟩ := hq
    have hH : g_HS d A s [[(ob, .inr (4, [.ref (tn rk), .ref na, .ref va]))], [(va, .inr (1, [.ref vb, .int vm_]))], [(vb, .inl (d.2.1 2, 10, .inl vf_))], (g_AL d na q_48 tn n_49), (g_T d tn tl tr tc)] H locs := hH
    refine W.eq (g2 := (F0 m 50 ls [])) rfl ?_
    refine W.widen (k := ((3 * (kb - kl)) + 1)) (n := ((40 * (kb - kl)) + 22)) (by first | exact Nat.le_of_ble_eq_true rfl | omega | (dsimp only; omega)) (by first | exact Nat.le_of_ble_eq_true rfl | omega | (dsimp only; omega)) ?_
    refine lv_aload_n hF.1.1 hF.1.2.1 dX4_list_50 rfl (lv_at hl 1 rfl) ?_
    obtain ⟨hk_50, hw⟩ := hw
    refine g_tisI hF hH 4 rfl hk_50 q628 dX4_list_51 (fun hk_51 => ?_) (fun hk_51 => ?_)
    · have hw := hw.1 hk_51
      refine lv_if_eq (tgt := 100) hF.1.1 hF.1.2.1 dX4_list_54 (by decide) (fun _ => ?_) (fun z => absurd z (by decide))
      refine lv_aload_n hF.1.1 hF.1.2.1 dX4_list_100 rfl (lv_at hl 0 rfl) ?_
      refine g_get (v := .ref va) hF hH in_X4 rfl 0 0 rfl rfl 2 (by decide) q681 (fun _ h9 => h9) rfl dX4_list_101 ?_
      refine lv_aload_n hF.1.1 hF.1.2.1 dX4_list_104 rfl (lv_at hl 1 rfl) ?_
      obtain ⟨hk_52, hw⟩ := hw
      refine g_tset hF hH 4 rfl hk_52 q461 dX4_list_105 ?_
      refine g_cSN [.int (nI k)] 1 rfl hF (met_X0_lowest l hl0 d (nI k) _ hw) q675 q478 q92 q479 rfl rfl (by decide +kernel) ⟨(by first | exact Nat.le_of_ble_eq_true rfl | (dsimp only; omega)), (by first | exact Nat.le_of_ble_eq_true rfl | (dsimp only; omega))⟩ hH [] rfl rfl rfl hl.1 (by first | exact Nat.le_of_ble_eq_true rfl | (dsimp only; omega)) dX4_list_108 ⟨(by first | exact Nat.le_of_ble_eq_true rfl | omega | (dsimp only; omega)), (by first | exact Nat.le_of_ble_eq_true rfl | omega | (dsimp only; omega))⟩ (fun v w1 H locs hq hH => ?_)
      obtain ⟨r_54, rfl, rfl, hw⟩ := hq
      have hH : g_HS d A s [[(ob, .inr (4, [.ref (tn rk), .ref na, .ref va]))], [(va, .inr (1, [.ref vb, .int vm_]))], [(vb, .inl (d.2.1 2, 10, .inl vf_))], (g_AL d na q_48 tn n_49), (g_T d tn tl tr tc)] H locs := hH
      refine W.eq (g2 := (F0 m 111 ls [.int r_54, .ref va])) rfl ?_
      refine lv_i2l (v := (r_54.toInt64)) hF.1.1 hF.1.2.1 dX4_list_111 rfl ?_
      refine g_cVW [.long (r_54.toInt64)] 1 rfl hF (met_X1_add_B l hl0 d va (r_54.toInt64) vb vm_ vf_ _ hw) q676 q244 q245 q93 q246 rfl rfl (by decide +kernel) ⟨(by first | exact Nat.le_of_ble_eq_true rfl | (dsimp only; omega)), (by first | exact Nat.le_of_ble_eq_true rfl | (dsimp only; omega))⟩ hH [1, 2] rfl rfl rfl 0 0 rfl rfl rfl hl.1 (by first | exact Nat.le_of_ble_eq_true rfl | (dsimp only; omega)) dX4_list_112 ⟨(by first | exact Nat.le_of_ble_eq_true rfl | omega | (dsimp only; omega)), (by first | exact Nat.le_of_ble_eq_true rfl | omega | (dsimp only; omega))⟩ (fun v w1 H locs hq hH => ?_)
      obtain ⟨r_55, n_56, n_57, rfl, rfl, hw⟩ := hq
      have hH : g_HS d A s [[(ob, .inr (4, [.ref (tn rk), .ref na, .ref va]))], (g_AL d na q_48 tn n_49), (g_T d tn tl tr tc), [(va, .inr (1, [.ref vb, .int n_56]))], [(vb, .inl (d.2.1 2, 10, .inl n_57))]] H locs := hH
      refine W.eq (g2 := (F0 m 115 ls [.int r_55])) rfl ?_
      refine lv_pop hF.1.1 hF.1.2.1 dX4_list_115 rfl ?_
      refine W.widen (k := (3 * kb)) (n := (40 * kb)) (by first | exact Nat.le_of_ble_eq_true rfl | omega | (dsimp only; omega)) (by first | exact Nat.le_of_ble_eq_true rfl | omega | (dsimp only; omega)) ?_
      exact g_vret hF hH ⟨q_48, n_49, n_56, n_57, rfl, rfl, hw⟩ dX4_list_116
    · have hw := hw.2 hk_51
      refine lv_if_eq (tgt := 100) hF.1.1 hF.1.2.1 dX4_list_54 (by decide) (fun z => absurd z (by decide)) (fun _ => ?_)
      refine lv_aload_n hF.1.1 hF.1.2.1 dX4_list_57 rfl (lv_at hl 1 rfl) ?_
      obtain ⟨hk_58, hk_59, hw⟩ := hw
      refine g_tcI hF hH 4 rfl hk_58 hk_59 q628 dX4_list_58 ?_
      obtain ⟨hk_60, hk_61, hw⟩ := hw
      refine g_tchN hF hH 4 rfl hk_60 hk_61 q504 dX4_list_61 ?_
      refine g_cVr [] 0 rfl hF (met_J10_iterator_T l hl0 d tn tl tr tc k _ hw) q629 q630 q631 q107 q632 rfl rfl (by decide +kernel) ⟨(by first | exact Nat.le_of_ble_eq_true rfl | (dsimp only; omega)), (by first | exact Nat.le_of_ble_eq_true rfl | (dsimp only; omega))⟩ hH [4] rfl rfl rfl (g_trecC hH 4 rfl hw.1 hw.2.1) hl.1 (by first | exact Nat.le_of_ble_eq_true rfl | (dsimp only; omega)) dX4_list_64 ⟨(by first | exact Nat.le_of_ble_eq_true rfl | omega | (dsimp only; omega)), (by first | exact Nat.le_of_ble_eq_true rfl | omega | (dsimp only; omega))⟩ (fun v w1 H locs hq hH => ?_)
      obtain ⟨q_62, rfl, rfl, hw⟩ := hq
      have hH : g_HS d A s [[(ob, .inr (4, [.ref (tn rk), .ref na, .ref va]))], [(va, .inr (1, [.ref vb, .int vm_]))], [(vb, .inl (d.2.1 2, 10, .inl vf_))], (g_AL d na q_48 tn n_49), (g_T d tn tl tr tc), (g_IT d q_62 (tl k) 0 ((tc.2.2.2 k).length))] H locs := hH
      refine W.eq (g2 := (F0 m 67 ls [.ref q_62])) rfl ?_
      refine W.widen (k := ((3 * (kb - kl)) + 2)) (n := ((40 * (kb - kl)) + 26)) (by first | exact Nat.le_of_ble_eq_true rfl | omega | (dsimp only; omega)) (by first | exact Nat.le_of_ble_eq_true rfl | omega | (dsimp only; omega)) ?_
      refine lv_astore_n (lv' := [(3, .ref q_62), (0, .ref ob), (1, .ref (tn k)), (2, .int x2)]) hF.1.1 hF.1.2.1 dX4_list_67 rfl hl (by decide) rfl (fun ls hl => ?_)
      obtain ⟨f_63, hw⟩ := hw
      have hl := lv_sub hl (l' := [(0, .ref ob), (3, .ref q_62)]) [1, 0] rfl
      exact bk_68 f_63 q_62 q_48 vm_ vf_ n_49 0 kl ⟨by omega, by omega⟩ _ _ _ hH hl hw
  have bk_8 : ∀ (vm_ : Int32) (vf_ : Nat → Int32) (fu : Nat) (x2 : Int32) (ns_ : List Nat) (kl : Nat) (hkl : 1 ≤ kl ∧ kl ≤ kb) (H : Heap) (locs : List Loc) (ls : Array Slot), g_HS d A s [[(ob, .inr (4, [.ref (tn rk), .ref na, .ref va]))], (g_T d tn tl tr tc), [(va, .inr (1, [.ref vb, .int vm_]))], [(vb, .inl (d.2.1 2, 10, .inl vf_))], (g_AL d na nb tn ns_)] H locs → lv_has ls 5 [(0, .ref ob), (1, .ref (tn k)), (2, .int x2)] → wb_X4_list_B_8 PR k tc vm_ vf_ Q fu x2 ns_ kl → W p l e ({ frames := 2 * (D + 1) + 30, cells := 3 * kb, slots := 40 * kb, locals := 300 * (D + 1) + 10800 } : Room) s m args below meth c H locs (3 * (kb - kl)) (40 * (kb - kl)) (g_E d (fun v w1 => ∃ (nb2 : Nat) (ns2 : List Nat) (vm2 : Int32) (vf2 : Nat → Int32), v = none ∧ w1 = [[(ob, .inr (4, [.ref (tn rk), .ref na, .ref va]))], (g_AL d na nb2 tn ns2), (g_T d tn tl tr tc), [(va, .inr (1, [.ref vb, .int vm2]))], [(vb, .inl (d.2.1 2, 10, .inl vf2))]] ∧ Q ns2 vm2 vf2) A below args s (3 * kb) (40 * kb)) (F0 m 8 ls []) := by
    intro vm_ vf_ fu
    induction fu with
    | zero => intro x2 ns_ kl hkl H locs ls hH hl hw; rw [wb_X4_list_B_8] at hw; exact hw.elim
    | succ fu ih =>
      intro x2 ns_ kl hkl H locs ls hH hl hw
      rw [wb_X4_list_B_8] at hw
      refine lv_iload_n hF.1.1 hF.1.2.1 dX4_list_8 rfl (lv_at hl 2 rfl) ?_
      refine lv_if_le (tgt := 41) hF.1.1 hF.1.2.1 dX4_list_9 (by decide) (fun c_64 => ?_) (fun c_64 => ?_)
      · have hw := hw.1 c_64
        exact bk_41 x2 vm_ vf_ ns_ kl ⟨by omega, by omega⟩ _ _ _ hH hl hw
      · have hw := hw.2 c_64
        refine lv_aload_n hF.1.1 hF.1.2.1 dX4_list_12 rfl (lv_at hl 0 rfl) ?_
        refine g_get (v := .ref na) hF hH in_X4 rfl 0 0 rfl rfl 1 (by decide) q679 (fun _ h9 => h9) rfl dX4_list_13 ?_
        refine lv_iload_n hF.1.1 hF.1.2.1 dX4_list_16 rfl (lv_at hl 2 rfl) ?_
        refine lv_iconst (v := 1) hF.1.1 hF.1.2.1 dX4_list_17 (by decide) ?_
        refine lv_isub hF.1.1 hF.1.2.1 dX4_list_18 ?_
        refine g_cVr [.int (x2 - 1)] 1 rfl hF (met_J10_get_A l hl0 d na nb tn (x2 - 1) ns_ _ hw) q604 q605 q606 q107 q607 rfl rfl (by decide +kernel) ⟨(by first | exact Nat.le_of_ble_eq_true rfl | (dsimp only; omega)), (by first | exact Nat.le_of_ble_eq_true rfl | (dsimp only; omega))⟩ hH [4] rfl rfl rfl (g_lrec hH 4 rfl) hl.1 (by first | exact Nat.le_of_ble_eq_true rfl | (dsimp only; omega)) dX4_list_19 ⟨(by first | exact Nat.le_of_ble_eq_true rfl | omega | (dsimp only; omega)), (by first | exact Nat.le_of_ble_eq_true rfl | omega | (dsimp only; omega))⟩ (fun v w1 H locs hq hH => ?_)
        obtain ⟨q_65, rfl, rfl, hw⟩ := hq
        have hH : g_HS d A s [[(ob, .inr (4, [.ref (tn rk), .ref na, .ref va]))], (g_T d tn tl tr tc), [(va, .inr (1, [.ref vb, .int vm_]))], [(vb, .inl (d.2.1 2, 10, .inl vf_))], (g_AL d na nb tn ns_)] H locs := hH
        refine W.eq (g2 := (F0 m 22 ls [.ref (tn q_65)])) rfl ?_
        obtain ⟨hk_66, hw⟩ := hw
        refine g_tcT hF hH 1 rfl hk_66 q618 dX4_list_22 ?_
        obtain ⟨hk_68, hw⟩ := hw
        refine g_tset hF hH 1 rfl hk_68 q461 dX4_list_25 ?_
        refine lv_aload_n hF.1.1 hF.1.2.1 dX4_list_28 rfl (lv_at hl 1 rfl) ?_
        obtain ⟨hk_70, hw⟩ := hw
        refine g_tset hF hH 1 rfl hk_70 q461 dX4_list_29 ?_
        refine lv_icmp_le (tgt := 41) hF.1.1 hF.1.2.1 dX4_list_32 (by decide) (fun c_72 => ?_) (fun c_72 => ?_)
        · have hw := hw.1 c_72
          exact bk_41 x2 vm_ vf_ ns_ kl ⟨by omega, by omega⟩ _ _ _ hH hl hw
        · have hw := hw.2 c_72
          refine lv_iinc (v := (x2 + (-1))) (lv' := [(2, .int (x2 + (-1))), (0, .ref ob), (1, .ref (tn k))]) hF.1.1 hF.1.2.1 dX4_list_35 hl (k := 2) rfl rfl (by decide) rfl (fun ls hl => ?_)
          refine lv_goto (tgt := 8) hF.1.1 hF.1.2.1 dX4_list_38 (by decide) ?_
          have hl := lv_sub hl (l' := [(0, .ref ob), (1, .ref (tn k)), (2, .int (x2 + (-1)))]) [1, 2, 0] rfl
          exact ih (x2 + (-1)) ns_ kl ⟨by omega, by omega⟩ _ _ _ hH hl hw
  unfold wp_X4_list_B at hw
  obtain ⟨hkb, hw⟩ := hw
  refine W.widen (k := (3 * (kb - kb))) (n := (40 * (kb - kb))) (by first | exact Nat.le_of_ble_eq_true rfl | omega | (dsimp only; omega)) (by first | exact Nat.le_of_ble_eq_true rfl | omega | (dsimp only; omega)) ?_
  refine lv_aload_n hF.1.1 hF.1.2.1 dX4_list_0 rfl (lv_at hl 0 rfl) ?_
  refine g_get (v := .ref na) hF hH in_X4 rfl 0 0 rfl rfl 1 (by decide) q679 (fun _ h9 => h9) rfl dX4_list_1 ?_
  refine g_cVr [] 0 rfl hF (met_J10_size_B l hl0 d na nb tn ns _ hw) q600 q601 q602 q107 q603 rfl rfl (by decide +kernel) ⟨(by first | exact Nat.le_of_ble_eq_true rfl | (dsimp only; omega)), (by first | exact Nat.le_of_ble_eq_true rfl | (dsimp only; omega))⟩ hH [1] rfl rfl rfl (g_lrec hH 1 rfl) hl.1 (by first | exact Nat.le_of_ble_eq_true rfl | (dsimp only; omega)) dX4_list_4 ⟨(by first | exact Nat.le_of_ble_eq_true rfl | omega | (dsimp only; omega)), (by first | exact Nat.le_of_ble_eq_true rfl | omega | (dsimp only; omega))⟩ (fun v w1 H locs hq hH => ?_)
  obtain ⟨r_73, rfl, rfl, hw⟩ := hq
  have hH : g_HS d A s [[(ob, .inr (4, [.ref (tn rk), .ref na, .ref va]))], (g_T d tn tl tr tc), [(va, .inr (1, [.ref vb, .int vm]))], [(vb, .inl (d.2.1 2, 10, .inl vf))], (g_AL d na nb tn ns)] H locs := hH
  refine W.eq (g2 := (F0 m 7 ls [.int r_73])) rfl ?_
  refine lv_istore_n (lv' := [(2, .int r_73), (0, .ref ob), (1, .ref (tn k))]) hF.1.1 hF.1.2.1 dX4_list_7 rfl hl (by decide) rfl (fun ls hl => ?_)
  obtain ⟨f_74, hw⟩ := hw
  have hl := lv_sub hl (l' := [(0, .ref ob), (1, .ref (tn k)), (2, .int r_73)]) [1, 2, 0] rfl
  exact bk_8 vm vf f_74 r_73 ns kb ⟨by omega, by omega⟩ _ _ _ hH hl hw

def wp_X4_list (D : Nat) : Nat → Nat → (List Nat) → g_TC → Int32 → (Nat → Int32) → ((List Nat) → Int32 → (Nat → Int32) → Prop) → Prop := match D with
  | 0 => fun _ _ _ _ _ _ _ => False
  | D + 1 => wp_X4_list_B (wp_X4_list D)
theorem met_X4_list (l : Launch) (hl0 : l.stackTraces = false) (d : g_D) (D : Nat) : ∀ (kb : Nat) (ob : Nat) (tn : Nat → Nat) (k : Nat) (rk : Nat) (na : Nat) (va : Nat) (nb : Nat) (ns : List Nat) (tl : Nat → Nat) (tr : Nat → Nat) (tc : g_TC) (vb : Nat) (vm : Int32) (vf : Nat → Int32) (Q : (List Nat) → Int32 → (Nat → Int32) → Prop), wp_X4_list D kb k ns tc vm vf Q → g_Met l d yX4_list cX4_list 5 none ({ frames := 2 * D + 30, cells := 3 * kb, slots := 40 * kb, locals := 300 * D + 10800 } : Room) [.ref ob, .ref (tn k)] [[(ob, .inr (4, [.ref (tn rk), .ref na, .ref va]))], (g_AL d na nb tn ns), (g_T d tn tl tr tc), [(va, .inr (1, [.ref vb, .int vm]))], [(vb, .inl (d.2.1 2, 10, .inl vf))]] (3 * kb) (40 * kb) (fun v w1 => ∃ (nb2 : Nat) (ns2 : List Nat) (vm2 : Int32) (vf2 : Nat → Int32), v = none ∧ w1 = [[(ob, .inr (4, [.ref (tn rk), .ref na, .ref va]))], (g_AL d na nb2 tn ns2), (g_T d tn tl tr tc), [(va, .inr (1, [.ref vb, .int vm2]))], [(vb, .inl (d.2.1 2, 10, .inl vf2))]] ∧ Q ns2 vm2 vf2) := by
  induction D with
  | zero =>
    intro kb ob tn k rk na va nb ns tl tr tc vb vm vf Q hw
    exact hw.elim
  | succ D ih =>
    intro kb ob tn k rk na va nb ns tl tr tc vb vm vf Q hw
    exact met_X4_list_B l hl0 d D (wp_X4_list D) kb ob tn k rk na va nb ns tl tr tc vb vm vf ih Q hw
