/-! rows over a tree's nodes -/
section GT
variable {p : Program} {l : Launch} {e : Env} {R : Room} {s : State} {m : MethodId} {args : Array Value} {below : List Frame} {meth : Method} {c : Code} {H : Heap} {locs : List Loc} {cells slots : Nat} {Q : State → Prop}
variable {cc : ByteArray} {pc nL : Nat} {ls : Array Slot} {rest : List Value} {d : g_D} {A : Nat → Prop} {a : Nat} {cs : List va_W} {own : String} {rt : Option FieldType} {ch : va_W} {tn tl tr : Nat → Nat} {t : g_TC} {k : Nat}
theorem g_getm (hF : g_F p m c cc nL s args own meth rt) (hH : g_HS d A s cs H locs) {ref C : String} {T : u_T} {N ci index : Nat} (hin : ∀ w ∈ u_ws C T N, w ∈ lw_all) (hcl : g_cl[ci]? = some (C, T, N)) (p0 : Nat) (hc : cs[p0]? = some ch) {fs : List Value} (hm : (a, (Sum.inr (ci, fs) : va_E)) ∈ ch) (k : Nat) (hk : k < N) (hlink : Cond.fieldLink own index ref (T k).2.1 (T k).2.2.1 ∈ lw_all) (hsame : ∀ x, s.fieldFound? (T k).1 (T k).2.1 (T k).2.2.1 = some x → s.fieldFound? ref (T k).2.1 (T k).2.2.1 = some x) {v : Value} (hv : fs[k]? = some v) (hdg : decode cc pc = .ok (.getfield index, 3))
    (kk : W p l e R s m args below meth c H locs cells slots Q (F0 m (pc + 3) ls (v :: rest))) : W p l e R s m args below meth c H locs cells slots Q (F0 m pc ls (.ref a :: rest)) := by
  obtain ⟨k0, hk0⟩ := List.getElem?_of_mem hm
  exact g_get hF hH hin hcl p0 k0 hc hk0 k hk hlink hsame hv hdg kk
theorem g_getNm (hF : g_F p m c cc nL s args own meth rt) (hH : g_HS d A s cs H locs) {ref C host : String} {T : u_T} {N ci index : Nat} (hin : ∀ w ∈ u_ws C T N, w ∈ lw_all) (hcl : g_cl[ci]? = some (C, T, N)) (p0 : Nat) (hc : cs[p0]? = some ch) {fs : List Value} (hm : (a, (Sum.inr (ci, fs) : va_E)) ∈ ch) (k : Nat) (hk : k < N) (hlink : Cond.fieldLinkNest own index ref (T k).2.1 (T k).2.2.1 host ∈ lw_tbl) (hsame : ∀ x, s.fieldFound? (T k).1 (T k).2.1 (T k).2.2.1 = some x → s.fieldFound? ref (T k).2.1 (T k).2.2.1 = some x) {v : Value} (hv : fs[k]? = some v) (hdg : decode cc pc = .ok (.getfield index, 3))
    (kk : W p l e R s m args below meth c H locs cells slots Q (F0 m (pc + 3) ls (v :: rest))) : W p l e R s m args below meth c H locs cells slots Q (F0 m pc ls (.ref a :: rest)) := by
  obtain ⟨k0, hk0⟩ := List.getElem?_of_mem hm
  exact g_getN hF hH hin hcl p0 k0 hc hk0 k hk hlink hsame hv hdg kk
theorem g_tset (hF : g_F p m c cc nL s args own meth rt) (hH : g_HS d A s cs H locs) (p0 : Nat) (hc : cs[p0]? = some (g_T d tn tl tr t)) (hk : k ∈ t.1) {index : Nat} (hlink : Cond.fieldLink own index "GraphModules$Tree" "set" "I" ∈ lw_all) (hdg : decode cc pc = .ok (.getfield index, 3))
    (kk : W p l e R s m args below meth c H locs cells slots Q (F0 m (pc + 3) ls (.int (nI k) :: rest))) : W p l e R s m args below meth c H locs cells slots Q (F0 m pc ls (.ref (tn k) :: rest)) := by
  by_cases h : t.2.2.1 k = 0
  · exact g_getm hF hH in_X6 rfl p0 hc (g_T_leaf hk h) 0 (by decide) hlink (fun _ h9 => h9) rfl hdg kk
  · exact g_getm hF hH in_X7 rfl p0 hc (g_T_inner hk h) 0 (by decide) hlink (fun _ h9 => h9) rfl hdg kk
theorem g_tpar (hF : g_F p m c cc nL s args own meth rt) (hH : g_HS d A s cs H locs) (p0 : Nat) (hc : cs[p0]? = some (g_T d tn tl tr t)) (hk : k ∈ t.1) {index : Nat} (hlink : Cond.fieldLink own index "GraphModules$Tree" "parent" "LGraphModules$Inner;" ∈ lw_all) (hdg : decode cc pc = .ok (.getfield index, 3))
    (kk : W p l e R s m args below meth c H locs cells slots Q (F0 m (pc + 3) ls (va_rf ((t.2.1 k).map tn) :: rest))) : W p l e R s m args below meth c H locs cells slots Q (F0 m pc ls (.ref (tn k) :: rest)) := by
  by_cases h : t.2.2.1 k = 0
  · exact g_getm hF hH in_X6 rfl p0 hc (g_T_leaf hk h) 1 (by decide) hlink (fun _ h9 => h9) rfl hdg kk
  · exact g_getm hF hH in_X7 rfl p0 hc (g_T_inner hk h) 1 (by decide) hlink (fun _ h9 => h9) rfl hdg kk
theorem g_tkd (hF : g_F p m c cc nL s args own meth rt) (hH : g_HS d A s cs H locs) (p0 : Nat) (hc : cs[p0]? = some (g_T d tn tl tr t)) (hk : k ∈ t.1) (hn : t.2.2.1 k ≠ 0) {index : Nat} (hlink : Cond.fieldLink own index "GraphModules$Inner" "kind" "LGraphModules$Kind;" ∈ lw_all) (hdg : decode cc pc = .ok (.getfield index, 3))
    (kk : W p l e R s m args below meth c H locs cells slots Q (F0 m (pc + 3) ls (.ref (d.2.2 (t.2.2.1 k)) :: rest))) : W p l e R s m args below meth c H locs cells slots Q (F0 m pc ls (.ref (tn k) :: rest)) :=
  g_getm hF hH in_X7 rfl p0 hc (g_T_inner hk hn) 2 (by decide) hlink (fun _ h9 => h9) rfl hdg kk
theorem g_tkdN (hF : g_F p m c cc nL s args own meth rt) (hH : g_HS d A s cs H locs) (p0 : Nat) (hc : cs[p0]? = some (g_T d tn tl tr t)) (hk : k ∈ t.1) (hn : t.2.2.1 k ≠ 0) {index : Nat} {host : String} (hlink : Cond.fieldLinkNest own index "GraphModules$Inner" "kind" "LGraphModules$Kind;" host ∈ lw_tbl) (hdg : decode cc pc = .ok (.getfield index, 3))
    (kk : W p l e R s m args below meth c H locs cells slots Q (F0 m (pc + 3) ls (.ref (d.2.2 (t.2.2.1 k)) :: rest))) : W p l e R s m args below meth c H locs cells slots Q (F0 m pc ls (.ref (tn k) :: rest)) :=
  g_getNm hF hH in_X7 rfl p0 hc (g_T_inner hk hn) 2 (by decide) hlink (fun _ h9 => h9) rfl hdg kk
theorem g_tch (hF : g_F p m c cc nL s args own meth rt) (hH : g_HS d A s cs H locs) (p0 : Nat) (hc : cs[p0]? = some (g_T d tn tl tr t)) (hk : k ∈ t.1) (hn : t.2.2.1 k ≠ 0) {index : Nat} (hlink : Cond.fieldLink own index "GraphModules$Inner" "children" "Ljava/util/ArrayList;" ∈ lw_all) (hdg : decode cc pc = .ok (.getfield index, 3))
    (kk : W p l e R s m args below meth c H locs cells slots Q (F0 m (pc + 3) ls (.ref (tl k) :: rest))) : W p l e R s m args below meth c H locs cells slots Q (F0 m pc ls (.ref (tn k) :: rest)) :=
  g_getm hF hH in_X7 rfl p0 hc (g_T_inner hk hn) 3 (by decide) hlink (fun _ h9 => h9) rfl hdg kk
theorem g_tchN (hF : g_F p m c cc nL s args own meth rt) (hH : g_HS d A s cs H locs) (p0 : Nat) (hc : cs[p0]? = some (g_T d tn tl tr t)) (hk : k ∈ t.1) (hn : t.2.2.1 k ≠ 0) {index : Nat} {host : String} (hlink : Cond.fieldLinkNest own index "GraphModules$Inner" "children" "Ljava/util/ArrayList;" host ∈ lw_tbl) (hdg : decode cc pc = .ok (.getfield index, 3))
    (kk : W p l e R s m args below meth c H locs cells slots Q (F0 m (pc + 3) ls (.ref (tl k) :: rest))) : W p l e R s m args below meth c H locs cells slots Q (F0 m pc ls (.ref (tn k) :: rest)) :=
  g_getNm hF hH in_X7 rfl p0 hc (g_T_inner hk hn) 3 (by decide) hlink (fun _ h9 => h9) rfl hdg kk
theorem g_trecL (hH : g_HS d A s cs H locs) (p0 : Nat) (hc : cs[p0]? = some (g_T d tn tl tr t)) (hk : k ∈ t.1) (h : t.2.2.1 k = 0) : ∃ cell : Cell, H[tn k]? = some cell ∧ cell.vm.isStatics = false ∧ s.vm.findClass "GraphModules$Leaf" = some cell.cls := by
  obtain ⟨k0, hk0⟩ := List.getElem?_of_mem (g_T_leaf (d := d) (tn := tn) (tl := tl) (tr := tr) hk h)
  exact g_recvO hH p0 k0 hc hk0 (q := (RX6, TX6, 2)) rfl
theorem g_trecI (hH : g_HS d A s cs H locs) (p0 : Nat) (hc : cs[p0]? = some (g_T d tn tl tr t)) (hk : k ∈ t.1) (h : t.2.2.1 k ≠ 0) : ∃ cell : Cell, H[tn k]? = some cell ∧ cell.vm.isStatics = false ∧ s.vm.findClass "GraphModules$Inner" = some cell.cls := by
  obtain ⟨k0, hk0⟩ := List.getElem?_of_mem (g_T_inner (d := d) (tn := tn) (tl := tl) (tr := tr) hk h)
  exact g_recvO hH p0 k0 hc hk0 (q := (RX7, TX7, 4)) rfl
/-- instanceof Inner -/
theorem g_tisI (hF : g_F p m c cc nL s args own meth rt) (hH : g_HS d A s cs H locs) (p0 : Nat) (hc : cs[p0]? = some (g_T d tn tl tr t)) (hk : k ∈ t.1) {index : Nat} (hlink : Cond.classLink own index "GraphModules$Inner" ∈ lw_all) (hdg : decode cc pc = .ok (.instanceof index, 3))
    (k0 : t.2.2.1 k = 0 → W p l e R s m args below meth c H locs cells slots Q (F0 m (pc + 3) ls (.int 0 :: rest))) (k1 : t.2.2.1 k ≠ 0 → W p l e R s m args below meth c H locs cells slots Q (F0 m (pc + 3) ls (.int 1 :: rest))) : W p l e R s m args below meth c H locs cells slots Q (F0 m pc ls (.ref (tn k) :: rest)) := by
  by_cases h : t.2.2.1 k = 0
  · exact g_instNo (C := "GraphModules$Leaf") (nm := "GraphModules$Inner") hF hH hlink (by decide) (g_trecL hH p0 hc hk h) hdg (k0 h)
  · exact g_instE hF hlink (g_trecI hH p0 hc hk h) hdg (k1 h)
theorem g_tisL (hF : g_F p m c cc nL s args own meth rt) (hH : g_HS d A s cs H locs) (p0 : Nat) (hc : cs[p0]? = some (g_T d tn tl tr t)) (hk : k ∈ t.1) {index : Nat} (hlink : Cond.classLink own index "GraphModules$Leaf" ∈ lw_all) (hdg : decode cc pc = .ok (.instanceof index, 3))
    (k0 : t.2.2.1 k = 0 → W p l e R s m args below meth c H locs cells slots Q (F0 m (pc + 3) ls (.int 1 :: rest))) (k1 : t.2.2.1 k ≠ 0 → W p l e R s m args below meth c H locs cells slots Q (F0 m (pc + 3) ls (.int 0 :: rest))) : W p l e R s m args below meth c H locs cells slots Q (F0 m pc ls (.ref (tn k) :: rest)) := by
  by_cases h : t.2.2.1 k = 0
  · exact g_instE hF hlink (g_trecL hH p0 hc hk h) hdg (k0 h)
  · exact g_instNo (C := "GraphModules$Inner") (nm := "GraphModules$Leaf") hF hH hlink (by decide) (g_trecI hH p0 hc hk h) hdg (k1 h)
theorem g_tcI (hF : g_F p m c cc nL s args own meth rt) (hH : g_HS d A s cs H locs) (p0 : Nat) (hc : cs[p0]? = some (g_T d tn tl tr t)) (hk : k ∈ t.1) (hn : t.2.2.1 k ≠ 0) {index : Nat} (hlink : Cond.classLink own index "GraphModules$Inner" ∈ lw_all) (hdg : decode cc pc = .ok (.checkcast index, 3))
    (kk : W p l e R s m args below meth c H locs cells slots Q (F0 m (pc + 3) ls (.ref (tn k) :: rest))) : W p l e R s m args below meth c H locs cells slots Q (F0 m pc ls (.ref (tn k) :: rest)) :=
  g_castE hF hlink (g_trecI hH p0 hc hk hn) hdg kk
theorem g_tcT (hF : g_F p m c cc nL s args own meth rt) (hH : g_HS d A s cs H locs) (p0 : Nat) (hc : cs[p0]? = some (g_T d tn tl tr t)) (hk : k ∈ t.1) {index : Nat} (hlink : Cond.classLink own index "GraphModules$Tree" ∈ lw_all) (hdg : decode cc pc = .ok (.checkcast index, 3))
    (kk : W p l e R s m args below meth c H locs cells slots Q (F0 m (pc + 3) ls (.ref (tn k) :: rest))) : W p l e R s m args below meth c H locs cells slots Q (F0 m pc ls (.ref (tn k) :: rest)) := by
  by_cases h : t.2.2.1 k = 0
  · exact g_castY (C := "GraphModules$Leaf") hF hH hlink q1851 (g_trecL hH p0 hc hk h) hdg kk
  · exact g_castY (C := "GraphModules$Inner") hF hH hlink q1850 (g_trecI hH p0 hc hk h) hdg kk
/-- kind() -/
theorem g_tkind (hl0 : l.stackTraces = false) (hF : g_F p m c cc nL s args own meth rt) (hH : g_HS d A s cs H locs) (p0 : Nat) (hc : cs[p0]? = some (g_T d tn tl tr t)) (hk : k ∈ t.1) {index : Nat} (h1 : Cond.methodLink own index ⟨"GraphModules$Tree", "kind", "()LGraphModules$Kind;"⟩ ∈ lw_all) (hls : ls.size = nL) (hW : (rest.map fun v => v.category).sum ≤ 8) (hdg : decode cc pc = .ok (.invokevirtual index, 3)) (hR1 : 1 ≤ R.frames) (hR2 : 40 ≤ R.locals) (hf1 : cells ≤ R.cells) (hf2 : slots ≤ R.slots)
    (kk : ∀ (H1 : Heap) (locs1 : List Loc), g_HS d A s cs H1 locs1 → W p l e R s m args below meth c H1 locs1 cells slots Q (F0 m (pc + 3) ls (.ref (d.2.2 (t.2.2.1 k)) :: rest))) : W p l e R s m args below meth c H locs cells slots Q (F0 m pc ls (.ref (tn k) :: rest)) := by
  have hrot : ∃ wr : List va_W, g_ok [p0] cs.length = true ∧ [p0].filterMap (fun i => cs[i]?) = [g_T d tn tl tr t] ∧ (g_rest [p0] cs.length).filterMap (fun i => cs[i]?) = wr ∧ (wr ++ [g_T d tn tl tr t]).Perm cs := by
    have hl : p0 < cs.length := (List.getElem?_eq_some_iff.mp hc).1
    have h1 : [p0].filterMap (fun i => cs[i]?) = [g_T d tn tl tr t] := by simp [hc]
    have hok : g_ok [p0] cs.length = true := by
      unfold g_ok g_rest
      refine List.isPerm_iff.mpr ?_
      have h2 : (List.range cs.length).filter (fun i => !([p0] : List Nat).contains i) = (List.range cs.length).erase p0 := by
        rw [List.Nodup.erase_eq_filter List.nodup_range]
        refine List.filter_congr fun i _ => ?_
        by_cases h : i = p0
        · subst h; simp
        · simp [h]
      rw [h2]
      exact (List.perm_cons_erase (List.mem_range.mpr hl)).symm
    refine ⟨_, hok, h1, rfl, ?_⟩
    have h3 := g_split (cs := cs) [p0] hok h1 rfl
    exact (h3.trans List.perm_append_comm).symm
  obtain ⟨wr, hok, h11, h12, hperm⟩ := hrot
  by_cases h : t.2.2.1 k = 0
  · obtain ⟨rs, hp⟩ := g_T_split (d := d) (tn := tn) (tl := tl) (tr := tr) hk
    rw [g_tn_leaf h] at hp
    have e9 : ([[(tn k, (Sum.inr (5, [.int (nI k), va_rf ((t.2.1 k).map tn)]) : va_E))]] ++ [rs]).flatten.Perm [g_T d tn tl tr t].flatten := by simpa using hp
    have hM := (met_X6_kind l hl0 d (tn k) (nI k) ((t.2.1 k).map tn) True trivial).fr (wr := [rs]) (wc' := [g_T d tn tl tr t]) (post' := fun v w1 => v = some (.ref (d.2.2 0)) ∧ w1 = [g_T d tn tl tr t]) e9 (by rintro v w1 ⟨rfl, rfl, -⟩; exact ⟨_, e9, rfl, rfl⟩)
    refine g_cG (x := ⟨"GraphModules$Tree", "kind", "()LGraphModules$Kind;"⟩) (owner := "GraphModules$Tree") [] 0 rfl hF hM h1 q730 (va_Decl.abs (g_nw hH q729 rfl)) q735 q109 q736 rfl rfl (by decide +kernel) ⟨Nat.le_trans (Nat.le_of_ble_eq_true rfl) hR1, Nat.le_trans (Nat.le_of_ble_eq_true rfl) hR2⟩ hH [p0] hok h11 h12 (g_trecL hH p0 hc hk h) (hF.1.2.2.2.2 _ q734) hls hW hdg ⟨hf1, hf2⟩ (fun v w1 H1 locs1 hq hH1 => ?_)
    obtain ⟨rfl, rfl⟩ := hq
    have hH2 := hH1.reord hperm
    have := kk H1 locs1 hH2
    rw [h] at this
    exact this
  · obtain ⟨rs, hp⟩ := g_T_split (d := d) (tn := tn) (tl := tl) (tr := tr) hk
    rw [g_tn_inner h] at hp
    have e9 : ([[(tn k, (Sum.inr (6, [.int (nI k), va_rf ((t.2.1 k).map tn), .ref (d.2.2 (t.2.2.1 k)), .ref (tl k)]) : va_E))]] ++ [g_AL d (tl k) (tr k) tn (t.2.2.2 k) ++ rs]).flatten.Perm [g_T d tn tl tr t].flatten := by simpa using hp
    have hM := (met_X7_kind l hl0 d (tn k) (nI k) ((t.2.1 k).map tn) (t.2.2.1 k) (tl k) True trivial).fr (wr := [g_AL d (tl k) (tr k) tn (t.2.2.2 k) ++ rs]) (wc' := [g_T d tn tl tr t]) (post' := fun v w1 => v = some (.ref (d.2.2 (t.2.2.1 k))) ∧ w1 = [g_T d tn tl tr t]) e9 (by rintro v w1 ⟨rfl, rfl, -⟩; exact ⟨_, e9, rfl, rfl⟩)
    refine g_cG (x := ⟨"GraphModules$Tree", "kind", "()LGraphModules$Kind;"⟩) (owner := "GraphModules$Tree") [] 0 rfl hF hM h1 q730 (va_Decl.abs (g_nw hH q729 rfl)) q732 q110 q733 rfl rfl (by decide +kernel) ⟨Nat.le_trans (Nat.le_of_ble_eq_true rfl) hR1, Nat.le_trans (Nat.le_of_ble_eq_true rfl) hR2⟩ hH [p0] hok h11 h12 (g_trecI hH p0 hc hk h) (hF.1.2.2.2.2 _ q731) hls hW hdg ⟨hf1, hf2⟩ (fun v w1 H1 locs1 hq hH1 => ?_)
    obtain ⟨rfl, rfl⟩ := hq
    exact kk H1 locs1 (hH1.reord hperm)
end GT
