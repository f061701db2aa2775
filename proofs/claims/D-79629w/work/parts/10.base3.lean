section GR
variable {p : Program} {l : Launch} {e : Env} {R : Room} {s : State} {m : MethodId} {args : Array Value} {below : List Frame} {meth : Method} {c : Code} {H : Heap} {locs : List Loc} {cells slots : Nat} {Q : State → Prop}
variable {cc : ByteArray} {pc nL : Nat} {ls : Array Slot} {rest : List Value} {d : g_D} {A : Nat → Prop} {a : Nat} {cs cs' : List va_W} {own : String} {rt : Option FieldType} {ch ch' : va_W}
theorem g_bald (hF : g_F p m c cc nL s args own meth rt) (hH : g_HS d A s cs H locs) (p0 k0 : Nat) (hc : cs[p0]? = some ch) {n : Nat} {f : Nat → Int32} (he : ch[k0]? = some (a, .inl (d.2.1 2, n, .inl f))) {i : Int32} (hin : vp_in i n) (hdg : decode cc pc = .ok (.baload, 1))
    (kk : W p l e R s m args below meth c H locs cells slots Q (F0 m (pc + 1) ls (.int (f i.toNatClampNeg) :: rest))) : W p l e R s m args below meth c H locs cells slots Q (F0 m pc ls (.int i :: .ref a :: rest)) := by
  obtain ⟨⟨hx, hb, hml, hown, hts⟩, hr, hlk⟩ := hF
  exact va_bald (D := d.1) (cl := g_cl) (tys := g_tys d) hx hb hH.2.2.2.2.1 (g_front hH hc).1 k0 2 (g_at he) rfl hin hdg kk
theorem g_sald (hF : g_F p m c cc nL s args own meth rt) (hH : g_HS d A s cs H locs) (p0 k0 : Nat) (hc : cs[p0]? = some ch) {n : Nat} {f : Nat → Int32} (he : ch[k0]? = some (a, .inl (d.2.1 3, n, .inl f))) {i : Int32} (hin : vp_in i n) (hdg : decode cc pc = .ok (.saload, 1))
    (kk : W p l e R s m args below meth c H locs cells slots Q (F0 m (pc + 1) ls (.int (f i.toNatClampNeg) :: rest))) : W p l e R s m args below meth c H locs cells slots Q (F0 m pc ls (.int i :: .ref a :: rest)) := by
  obtain ⟨⟨hx, hb, hml, hown, hts⟩, hr, hlk⟩ := hF
  exact va_sald (D := d.1) (cl := g_cl) (tys := g_tys d) hx hb hH.2.2.2.2.1 (g_front hH hc).1 k0 3 (g_at he) rfl hin hdg kk
theorem g_cald (hF : g_F p m c cc nL s args own meth rt) (hH : g_HS d A s cs H locs) (p0 k0 : Nat) (hc : cs[p0]? = some ch) {n : Nat} {f : Nat → Int32} (he : ch[k0]? = some (a, .inl (d.2.1 5, n, .inl f))) {i : Int32} (hin : vp_in i n) (hdg : decode cc pc = .ok (.caload, 1))
    (kk : W p l e R s m args below meth c H locs cells slots Q (F0 m (pc + 1) ls (.int (f i.toNatClampNeg) :: rest))) : W p l e R s m args below meth c H locs cells slots Q (F0 m pc ls (.int i :: .ref a :: rest)) := by
  obtain ⟨⟨hx, hb, hml, hown, hts⟩, hr, hlk⟩ := hF
  exact va_cald (D := d.1) (cl := g_cl) (tys := g_tys d) hx hb hH.2.2.2.2.1 (g_front hH hc).1 k0 5 (g_at he) rfl hin hdg kk
theorem g_lald (hF : g_F p m c cc nL s args own meth rt) (hH : g_HS d A s cs H locs) (p0 k0 : Nat) (hc : cs[p0]? = some ch) {n : Nat} {f : Nat → Int64} (he : ch[k0]? = some (a, .inl (d.2.1 4, n, .inr (.inl f)))) {i : Int32} (hin : vp_in i n) (hdg : decode cc pc = .ok (.laload, 1))
    (kk : W p l e R s m args below meth c H locs cells slots Q (F0 m (pc + 1) ls (.long (f i.toNatClampNeg) :: rest))) : W p l e R s m args below meth c H locs cells slots Q (F0 m pc ls (.int i :: .ref a :: rest)) := by
  obtain ⟨⟨hx, hb, hml, hown, hts⟩, hr, hlk⟩ := hF
  exact va_lald (D := d.1) (cl := g_cl) (tys := g_tys d) hx hb hH.2.2.2.2.1 (g_front hH hc).1 k0 4 (g_at he) rfl hin hdg kk
theorem g_bast (hF : g_F p m c cc nL s args own meth rt) (hH : g_HS d A s cs H locs) (p0 k0 : Nat) (hc : cs[p0]? = some ch) {n : Nat} {f : Nat → Int32} (he : ch[k0]? = some (a, .inl (d.2.1 2, n, .inl f))) {i : Int32} {x : Int32} (hin : vp_in i n) (hdg : decode cc pc = .ok (.bastore, 1)) (hc' : ch.set k0 (a, .inl (d.2.1 2, n, .inl (upd f i.toNatClampNeg (vp_nar .byte x)))) = ch') (hcs : cs.set p0 ch' = cs')
    (kk : ∀ (H1 : Heap) (locs1 : List Loc), g_HS d A s cs' H1 locs1 → W p l e R s m args below meth c H1 locs1 cells slots Q (F0 m (pc + 1) ls rest)) : W p l e R s m args below meth c H locs cells slots Q (F0 m pc ls (.int x :: .int i :: .ref a :: rest)) := by
  obtain ⟨⟨hx, hb, hml, hown, hts⟩, hr, hlk⟩ := hF
  obtain ⟨hP, hD⟩ := g_front hH hc
  refine va_bast (D := d.1) (cl := g_cl) (tys := g_tys d) hx hb hH.2.2.2.2.1 hP hD hH.2.2.1 k0 2 (g_at he) rfl hin hdg fun H1 locs1 hP1 hD1 hS1 => ?_
  rw [g_setl he, hc'] at hP1 hD1
  subst hcs
  exact kk H1 locs1 (g_back hH hc hP1 hD1 hS1)
theorem g_sast (hF : g_F p m c cc nL s args own meth rt) (hH : g_HS d A s cs H locs) (p0 k0 : Nat) (hc : cs[p0]? = some ch) {n : Nat} {f : Nat → Int32} (he : ch[k0]? = some (a, .inl (d.2.1 3, n, .inl f))) {i : Int32} {x : Int32} (hin : vp_in i n) (hdg : decode cc pc = .ok (.sastore, 1)) (hc' : ch.set k0 (a, .inl (d.2.1 3, n, .inl (upd f i.toNatClampNeg (vp_nar .short x)))) = ch') (hcs : cs.set p0 ch' = cs')
    (kk : ∀ (H1 : Heap) (locs1 : List Loc), g_HS d A s cs' H1 locs1 → W p l e R s m args below meth c H1 locs1 cells slots Q (F0 m (pc + 1) ls rest)) : W p l e R s m args below meth c H locs cells slots Q (F0 m pc ls (.int x :: .int i :: .ref a :: rest)) := by
  obtain ⟨⟨hx, hb, hml, hown, hts⟩, hr, hlk⟩ := hF
  obtain ⟨hP, hD⟩ := g_front hH hc
  refine va_sast (D := d.1) (cl := g_cl) (tys := g_tys d) hx hb hH.2.2.2.2.1 hP hD hH.2.2.1 k0 3 (g_at he) rfl hin hdg fun H1 locs1 hP1 hD1 hS1 => ?_
  rw [g_setl he, hc'] at hP1 hD1
  subst hcs
  exact kk H1 locs1 (g_back hH hc hP1 hD1 hS1)
theorem g_cast (hF : g_F p m c cc nL s args own meth rt) (hH : g_HS d A s cs H locs) (p0 k0 : Nat) (hc : cs[p0]? = some ch) {n : Nat} {f : Nat → Int32} (he : ch[k0]? = some (a, .inl (d.2.1 5, n, .inl f))) {i : Int32} {x : Int32} (hin : vp_in i n) (hdg : decode cc pc = .ok (.castore, 1)) (hc' : ch.set k0 (a, .inl (d.2.1 5, n, .inl (upd f i.toNatClampNeg (vp_nar .char x)))) = ch') (hcs : cs.set p0 ch' = cs')
    (kk : ∀ (H1 : Heap) (locs1 : List Loc), g_HS d A s cs' H1 locs1 → W p l e R s m args below meth c H1 locs1 cells slots Q (F0 m (pc + 1) ls rest)) : W p l e R s m args below meth c H locs cells slots Q (F0 m pc ls (.int x :: .int i :: .ref a :: rest)) := by
  obtain ⟨⟨hx, hb, hml, hown, hts⟩, hr, hlk⟩ := hF
  obtain ⟨hP, hD⟩ := g_front hH hc
  refine va_cast (D := d.1) (cl := g_cl) (tys := g_tys d) hx hb hH.2.2.2.2.1 hP hD hH.2.2.1 k0 5 (g_at he) rfl hin hdg fun H1 locs1 hP1 hD1 hS1 => ?_
  rw [g_setl he, hc'] at hP1 hD1
  subst hcs
  exact kk H1 locs1 (g_back hH hc hP1 hD1 hS1)
theorem g_last (hF : g_F p m c cc nL s args own meth rt) (hH : g_HS d A s cs H locs) (p0 k0 : Nat) (hc : cs[p0]? = some ch) {n : Nat} {f : Nat → Int64} (he : ch[k0]? = some (a, .inl (d.2.1 4, n, .inr (.inl f)))) {i : Int32} {x : Int64} (hin : vp_in i n) (hdg : decode cc pc = .ok (.lastore, 1)) (hc' : ch.set k0 (a, .inl (d.2.1 4, n, .inr (.inl (vp_updL f i.toNatClampNeg x)))) = ch') (hcs : cs.set p0 ch' = cs')
    (kk : ∀ (H1 : Heap) (locs1 : List Loc), g_HS d A s cs' H1 locs1 → W p l e R s m args below meth c H1 locs1 cells slots Q (F0 m (pc + 1) ls rest)) : W p l e R s m args below meth c H locs cells slots Q (F0 m pc ls (.long x :: .int i :: .ref a :: rest)) := by
  obtain ⟨⟨hx, hb, hml, hown, hts⟩, hr, hlk⟩ := hF
  obtain ⟨hP, hD⟩ := g_front hH hc
  refine va_last (D := d.1) (cl := g_cl) (tys := g_tys d) hx hb hH.2.2.2.2.1 hP hD hH.2.2.1 k0 4 (g_at he) rfl hin hdg fun H1 locs1 hP1 hD1 hS1 => ?_
  rw [g_setl he, hc'] at hP1 hD1
  subst hcs
  exact kk H1 locs1 (g_back hH hc hP1 hD1 hS1)
theorem g_alen (hF : g_F p m c cc nL s args own meth rt) (hH : g_HS d A s cs H locs) (p0 k0 t0 : Nat) (hc : cs[p0]? = some ch) {cA : ClassId} {x : vp_A} (he : ch[k0]? = some (a, .inl (cA, x))) {ty : FieldType} (ht : (g_tys d)[t0]? = some (cA, ty)) {v : Int32} (hv : Int32.ofNat x.1 = v) (hdg : decode cc pc = .ok (.arraylength, 1))
    (kk : W p l e R s m args below meth c H locs cells slots Q (F0 m (pc + 1) ls (.int v :: rest))) : W p l e R s m args below meth c H locs cells slots Q (F0 m pc ls (.ref a :: rest)) := by
  obtain ⟨⟨hx, hb, hml, hown, hts⟩, hr, hlk⟩ := hF
  exact va_alen (D := d.1) (cl := g_cl) (tys := g_tys d) hx hb hH.2.2.2.2.1 (g_front hH hc).1 k0 t0 (g_at he) ht hv hdg kk
/-- a new cell behind the chunks -/
theorem g_HS.snoc (hH : g_HS d A s cs H locs) {q : Nat × va_E} {H1 : Heap} (hP : va_P d.1 g_cl (cs.flatten ++ [q]) H1) (hD : va_D A (cs.flatten ++ [q])) (hS : va_S A s.heap H1 locs) : g_HS d A s (cs ++ [[q]]) H1 locs := by
  have e : (cs ++ [[q]]).flatten = cs.flatten ++ [q] := by simp
  refine ⟨?_, ?_, hS, hH.2.2.2⟩
  · unfold g_HP; rw [e]; exact g_P_to hP
  · unfold g_HD; rw [e]; exact g_D_to hD
theorem g_HS.PD (hH : g_HS d A s cs H locs) : va_P d.1 g_cl cs.flatten H ∧ va_D A cs.flatten := ⟨g_P_of hH.1, g_D_of hH.2.1⟩
/-- the same cells in other chunks -/
theorem g_HS.fl (hH : g_HS d A s cs H locs) (h : cs.flatten = cs'.flatten) : g_HS d A s cs' H locs := by
  refine ⟨?_, ?_, hH.2.2⟩
  · unfold g_HP; rw [← h]; exact hH.1
  · unfold g_HD; rw [← h]; exact hH.2.1
theorem g_new (hF : g_F p m c cc nL s args own meth rt) (hH : g_HS d A s cs H locs) {C : String} {T : u_T} {N ci index : Nat} (hin : ∀ w ∈ u_ws C T N, w ∈ lw_all) (hcl : g_cl[ci]? = some (C, T, N)) (ty : Nat → FieldType) (hty : ∀ k, k < N → parseFieldDescriptor (T k).2.2.1 = some (ty k)) (h1 : Cond.classLink own index C ∈ lw_all) (h2 : Cond.instantiable C N ∈ lw_all) (h3 : Cond.initialized C ∈ lw_all)
    {fs : List Value} (hfs : ∀ j, j < N → defaultValue (ty j) = vp_V fs j) (hcells : cells + 1 ≤ R.cells) (hslots : slots + N ≤ R.slots) (hdg : decode cc pc = .ok (.new index, 3))
    (kk : ∀ (q : Nat) (H1 : Heap), g_HS d A s (cs ++ [[(q, .inr (ci, fs))]]) H1 locs → W p l e R s m args below meth c H1 locs (cells + 1) (slots + N) Q (F0 m (pc + 3) ls (.ref q :: rest))) : W p l e R s m args below meth c H locs cells slots Q (F0 m pc ls rest) := by
  obtain ⟨⟨hx, hb, hml, hown, hts⟩, hr, hlk⟩ := hF
  exact va_new (D := d.1) (cl := g_cl) hx hb hts hin ty hty hown (hts _ h1) (hts _ h2) (hts _ h3) hH.2.2.2.2.1 hH.PD.1 hH.PD.2 hH.2.2.1 hH.2.2.2.1 hcl hfs hcells hslots hdg fun q H1 hP hD hS => kk q H1 (hH.snoc hP hD hS)
theorem g_newI (hF : g_F p m c cc nL s args own meth rt) (hH : g_HS d A s cs H locs) (harr : Cond.arrayClass .int ∈ lw_all) {n : Int32} {N' : Nat} (hn : ¬ n < 0) (hN : n.toNatClampNeg = N') (hbytes : N' * 8 ≤ 536870912) (hcells : cells + 1 ≤ R.cells) (hslots : slots + N' ≤ R.slots) (hdg : decode cc pc = .ok (.newarray .int, 2))
    (kk : ∀ (q : Nat) (H1 : Heap), g_HS d A s (cs ++ [[(q, .inl (d.2.1 0, (N', .inl (fun _ => 0))))]]) H1 locs → W p l e R s m args below meth c H1 locs (cells + 1) (slots + N') Q (F0 m (pc + 2) ls (.ref q :: rest))) : W p l e R s m args below meth c H locs cells slots Q (F0 m pc ls (.int n :: rest)) := by
  obtain ⟨⟨hx, hb, hml, hown, hts⟩, hr, hlk⟩ := hF
  refine va_newa (D := d.1) (cl := g_cl) (atype := .int) (ty := .int) (a0 := (N', .inl (fun _ => 0))) hx hb (hts _ harr) rfl hH.2.2.2.2.1 hH.PD.1 hH.PD.2 hH.2.2.1 hH.2.2.2.1 (fun _ => rfl) hn hN (by simp only [componentBytes]; omega) hcells hslots hdg fun q cA H1 hK hP hD hS => ?_
  have e1 := (hK.2 7 (cA, .int) rfl).2
  have e2 := (hH.2.2.2.2.1.2 0 (d.2.1 0, .int) rfl).2
  have e3 : cA = d.2.1 0 := Option.some.inj (Eq.trans (Eq.symm e1) e2)
  subst e3
  exact kk q H1 (hH.snoc hP hD hS)
theorem g_newZ (hF : g_F p m c cc nL s args own meth rt) (hH : g_HS d A s cs H locs) (harr : Cond.arrayClass .boolean ∈ lw_all) {n : Int32} {N' : Nat} (hn : ¬ n < 0) (hN : n.toNatClampNeg = N') (hbytes : N' * 8 ≤ 536870912) (hcells : cells + 1 ≤ R.cells) (hslots : slots + N' ≤ R.slots) (hdg : decode cc pc = .ok (.newarray .boolean, 2))
    (kk : ∀ (q : Nat) (H1 : Heap), g_HS d A s (cs ++ [[(q, .inl (d.2.1 1, (N', .inl (fun _ => 0))))]]) H1 locs → W p l e R s m args below meth c H1 locs (cells + 1) (slots + N') Q (F0 m (pc + 2) ls (.ref q :: rest))) : W p l e R s m args below meth c H locs cells slots Q (F0 m pc ls (.int n :: rest)) := by
  obtain ⟨⟨hx, hb, hml, hown, hts⟩, hr, hlk⟩ := hF
  refine va_newa (D := d.1) (cl := g_cl) (atype := .boolean) (ty := .boolean) (a0 := (N', .inl (fun _ => 0))) hx hb (hts _ harr) rfl hH.2.2.2.2.1 hH.PD.1 hH.PD.2 hH.2.2.1 hH.2.2.2.1 (fun _ => rfl) hn hN (by simp only [componentBytes]; omega) hcells hslots hdg fun q cA H1 hK hP hD hS => ?_
  have e1 := (hK.2 7 (cA, .boolean) rfl).2
  have e2 := (hH.2.2.2.2.1.2 1 (d.2.1 1, .boolean) rfl).2
  have e3 : cA = d.2.1 1 := Option.some.inj (Eq.trans (Eq.symm e1) e2)
  subst e3
  exact kk q H1 (hH.snoc hP hD hS)
theorem g_newB (hF : g_F p m c cc nL s args own meth rt) (hH : g_HS d A s cs H locs) (harr : Cond.arrayClass .byte ∈ lw_all) {n : Int32} {N' : Nat} (hn : ¬ n < 0) (hN : n.toNatClampNeg = N') (hbytes : N' * 8 ≤ 536870912) (hcells : cells + 1 ≤ R.cells) (hslots : slots + N' ≤ R.slots) (hdg : decode cc pc = .ok (.newarray .byte, 2))
    (kk : ∀ (q : Nat) (H1 : Heap), g_HS d A s (cs ++ [[(q, .inl (d.2.1 2, (N', .inl (fun _ => 0))))]]) H1 locs → W p l e R s m args below meth c H1 locs (cells + 1) (slots + N') Q (F0 m (pc + 2) ls (.ref q :: rest))) : W p l e R s m args below meth c H locs cells slots Q (F0 m pc ls (.int n :: rest)) := by
  obtain ⟨⟨hx, hb, hml, hown, hts⟩, hr, hlk⟩ := hF
  refine va_newa (D := d.1) (cl := g_cl) (atype := .byte) (ty := .byte) (a0 := (N', .inl (fun _ => 0))) hx hb (hts _ harr) rfl hH.2.2.2.2.1 hH.PD.1 hH.PD.2 hH.2.2.1 hH.2.2.2.1 (fun _ => rfl) hn hN (by simp only [componentBytes]; omega) hcells hslots hdg fun q cA H1 hK hP hD hS => ?_
  have e1 := (hK.2 7 (cA, .byte) rfl).2
  have e2 := (hH.2.2.2.2.1.2 2 (d.2.1 2, .byte) rfl).2
  have e3 : cA = d.2.1 2 := Option.some.inj (Eq.trans (Eq.symm e1) e2)
  subst e3
  exact kk q H1 (hH.snoc hP hD hS)
theorem g_newS (hF : g_F p m c cc nL s args own meth rt) (hH : g_HS d A s cs H locs) (harr : Cond.arrayClass .short ∈ lw_all) {n : Int32} {N' : Nat} (hn : ¬ n < 0) (hN : n.toNatClampNeg = N') (hbytes : N' * 8 ≤ 536870912) (hcells : cells + 1 ≤ R.cells) (hslots : slots + N' ≤ R.slots) (hdg : decode cc pc = .ok (.newarray .short, 2))
    (kk : ∀ (q : Nat) (H1 : Heap), g_HS d A s (cs ++ [[(q, .inl (d.2.1 3, (N', .inl (fun _ => 0))))]]) H1 locs → W p l e R s m args below meth c H1 locs (cells + 1) (slots + N') Q (F0 m (pc + 2) ls (.ref q :: rest))) : W p l e R s m args below meth c H locs cells slots Q (F0 m pc ls (.int n :: rest)) := by
  obtain ⟨⟨hx, hb, hml, hown, hts⟩, hr, hlk⟩ := hF
  refine va_newa (D := d.1) (cl := g_cl) (atype := .short) (ty := .short) (a0 := (N', .inl (fun _ => 0))) hx hb (hts _ harr) rfl hH.2.2.2.2.1 hH.PD.1 hH.PD.2 hH.2.2.1 hH.2.2.2.1 (fun _ => rfl) hn hN (by simp only [componentBytes]; omega) hcells hslots hdg fun q cA H1 hK hP hD hS => ?_
  have e1 := (hK.2 7 (cA, .short) rfl).2
  have e2 := (hH.2.2.2.2.1.2 3 (d.2.1 3, .short) rfl).2
  have e3 : cA = d.2.1 3 := Option.some.inj (Eq.trans (Eq.symm e1) e2)
  subst e3
  exact kk q H1 (hH.snoc hP hD hS)
theorem g_newC (hF : g_F p m c cc nL s args own meth rt) (hH : g_HS d A s cs H locs) (harr : Cond.arrayClass .char ∈ lw_all) {n : Int32} {N' : Nat} (hn : ¬ n < 0) (hN : n.toNatClampNeg = N') (hbytes : N' * 8 ≤ 536870912) (hcells : cells + 1 ≤ R.cells) (hslots : slots + N' ≤ R.slots) (hdg : decode cc pc = .ok (.newarray .char, 2))
    (kk : ∀ (q : Nat) (H1 : Heap), g_HS d A s (cs ++ [[(q, .inl (d.2.1 5, (N', .inl (fun _ => 0))))]]) H1 locs → W p l e R s m args below meth c H1 locs (cells + 1) (slots + N') Q (F0 m (pc + 2) ls (.ref q :: rest))) : W p l e R s m args below meth c H locs cells slots Q (F0 m pc ls (.int n :: rest)) := by
  obtain ⟨⟨hx, hb, hml, hown, hts⟩, hr, hlk⟩ := hF
  refine va_newa (D := d.1) (cl := g_cl) (atype := .char) (ty := .char) (a0 := (N', .inl (fun _ => 0))) hx hb (hts _ harr) rfl hH.2.2.2.2.1 hH.PD.1 hH.PD.2 hH.2.2.1 hH.2.2.2.1 (fun _ => rfl) hn hN (by simp only [componentBytes]; omega) hcells hslots hdg fun q cA H1 hK hP hD hS => ?_
  have e1 := (hK.2 7 (cA, .char) rfl).2
  have e2 := (hH.2.2.2.2.1.2 5 (d.2.1 5, .char) rfl).2
  have e3 : cA = d.2.1 5 := Option.some.inj (Eq.trans (Eq.symm e1) e2)
  subst e3
  exact kk q H1 (hH.snoc hP hD hS)
theorem g_newJ (hF : g_F p m c cc nL s args own meth rt) (hH : g_HS d A s cs H locs) (harr : Cond.arrayClass .long ∈ lw_all) {n : Int32} {N' : Nat} (hn : ¬ n < 0) (hN : n.toNatClampNeg = N') (hbytes : N' * 8 ≤ 536870912) (hcells : cells + 1 ≤ R.cells) (hslots : slots + N' ≤ R.slots) (hdg : decode cc pc = .ok (.newarray .long, 2))
    (kk : ∀ (q : Nat) (H1 : Heap), g_HS d A s (cs ++ [[(q, .inl (d.2.1 4, (N', .inr (.inl (fun _ => 0)))))]]) H1 locs → W p l e R s m args below meth c H1 locs (cells + 1) (slots + N') Q (F0 m (pc + 2) ls (.ref q :: rest))) : W p l e R s m args below meth c H locs cells slots Q (F0 m pc ls (.int n :: rest)) := by
  obtain ⟨⟨hx, hb, hml, hown, hts⟩, hr, hlk⟩ := hF
  refine va_newa (D := d.1) (cl := g_cl) (atype := .long) (ty := .long) (a0 := (N', .inr (.inl (fun _ => 0)))) hx hb (hts _ harr) rfl hH.2.2.2.2.1 hH.PD.1 hH.PD.2 hH.2.2.1 hH.2.2.2.1 (fun _ => rfl) hn hN (by simp only [componentBytes]; omega) hcells hslots hdg fun q cA H1 hK hP hD hS => ?_
  have e1 := (hK.2 7 (cA, .long) rfl).2
  have e2 := (hH.2.2.2.2.1.2 4 (d.2.1 4, .long) rfl).2
  have e3 : cA = d.2.1 4 := Option.some.inj (Eq.trans (Eq.symm e1) e2)
  subst e3
  exact kk q H1 (hH.snoc hP hD hS)
theorem g_recvO (hH : g_HS d A s cs H locs) (p0 k0 : Nat) (hc : cs[p0]? = some ch) {ci : Nat} {fs : List Value} {q : vw_C} (he : ch[k0]? = some (a, .inr (ci, fs))) (hcl : g_cl[ci]? = some q) : ∃ cell : Cell, H[a]? = some cell ∧ cell.vm.isStatics = false ∧ s.vm.findClass q.1 = some cell.cls :=
  va_recv hH.2.2.2.2.1 (g_front hH hc).1 hcl (g_at he)
theorem g_recvA (hH : g_HS d A s cs H locs) (p0 k0 : Nat) (hc : cs[p0]? = some ch) {cA : ClassId} {x : vp_A} (he : ch[k0]? = some (a, .inl (cA, x))) {nm : String} (hn : s.vm.findClass nm = some cA) : ∃ cell : Cell, H[a]? = some cell ∧ cell.vm.isStatics = false ∧ s.vm.findClass nm = some cell.cls := by
  have h := (g_front hH hc).1 k0 _ (g_at he)
  refine ⟨vp_cell cA x, h, ?_, ?_⟩
  · obtain ⟨n, f | f | f | f | f⟩ := x <;> rfl
  · obtain ⟨n, f | f | f | f | f⟩ := x <;> exact hn
theorem g_nmB (hH : g_HS d A s cs H locs) : s.vm.findClass "[B" = some (d.2.1 2) := (hH.2.2.2.2.1.2 2 (d.2.1 2, .byte) rfl).2
theorem g_nmS (hH : g_HS d A s cs H locs) : s.vm.findClass "[S" = some (d.2.1 3) := (hH.2.2.2.2.1.2 3 (d.2.1 3, .short) rfl).2
theorem g_nmJ (hH : g_HS d A s cs H locs) : s.vm.findClass "[J" = some (d.2.1 4) := (hH.2.2.2.2.1.2 4 (d.2.1 4, .long) rfl).2
theorem g_nmC (hH : g_HS d A s cs H locs) : s.vm.findClass "[C" = some (d.2.1 5) := (hH.2.2.2.2.1.2 5 (d.2.1 5, .char) rfl).2
theorem g_instE (hF : g_F p m c cc nL s args own meth rt) {nm : String} {index : Nat} (hlink : Cond.classLink own index nm ∈ lw_all) (hr : ∃ cell : Cell, H[a]? = some cell ∧ cell.vm.isStatics = false ∧ s.vm.findClass nm = some cell.cls) (hdg : decode cc pc = .ok (.instanceof index, 3))
    (k : W p l e R s m args below meth c H locs cells slots Q (F0 m (pc + 3) ls (.int 1 :: rest))) : W p l e R s m args below meth c H locs cells slots Q (F0 m pc ls (.ref a :: rest)) :=
  va_instE hF.1.1 hF.1.2.1 hF.1.2.2.2.1 (hF.1.2.2.2.2 _ hlink) hr hdg k
theorem g_castE (hF : g_F p m c cc nL s args own meth rt) {nm : String} {index : Nat} (hlink : Cond.classLink own index nm ∈ lw_all) (hr : ∃ cell : Cell, H[a]? = some cell ∧ cell.vm.isStatics = false ∧ s.vm.findClass nm = some cell.cls) (hdg : decode cc pc = .ok (.checkcast index, 3))
    (k : W p l e R s m args below meth c H locs cells slots Q (F0 m (pc + 3) ls (.ref a :: rest))) : W p l e R s m args below meth c H locs cells slots Q (F0 m pc ls (.ref a :: rest)) :=
  va_castE hF.1.1 hF.1.2.1 hF.1.2.2.2.1 (hF.1.2.2.2.2 _ hlink) hr hdg k
theorem g_castY (hF : g_F p m c cc nL s args own meth rt) (hH : g_HS d A s cs H locs) {C nm : String} {index : Nat} (hlink : Cond.classLink own index nm ∈ lw_all) (hc : Cond.castable C nm ∈ lw_tbl) (hr : ∃ cell : Cell, H[a]? = some cell ∧ cell.vm.isStatics = false ∧ s.vm.findClass C = some cell.cls) (hdg : decode cc pc = .ok (.checkcast index, 3))
    (k : W p l e R s m args below meth c H locs cells slots Q (F0 m (pc + 3) ls (.ref a :: rest))) : W p l e R s m args below meth c H locs cells slots Q (F0 m pc ls (.ref a :: rest)) :=
  va_castY hF.1.1 hF.1.2.1 hF.1.2.2.2.1 (hF.1.2.2.2.2 _ hlink) (hH.2.2.2.2.2.1.1 _ hc rfl) hr hdg k
theorem g_instNo (hF : g_F p m c cc nL s args own meth rt) (hH : g_HS d A s cs H locs) {C nm : String} {index : Nat} (hlink : Cond.classLink own index nm ∈ lw_all) (hc : (C, nm) ∈ g_ncl) (hr : ∃ cell : Cell, H[a]? = some cell ∧ cell.vm.isStatics = false ∧ s.vm.findClass C = some cell.cls) (hdg : decode cc pc = .ok (.instanceof index, 3))
    (k : W p l e R s m args below meth c H locs cells slots Q (F0 m (pc + 3) ls (.int 0 :: rest))) : W p l e R s m args below meth c H locs cells slots Q (F0 m pc ls (.ref a :: rest)) :=
  va_instNo hF.1.1 hF.1.2.1 hF.1.2.2.2.1 (hF.1.2.2.2.2 _ hlink) (hH.2.2.2.2.2.1.2.1 _ hc) hr hdg k
theorem g_nw (hH : g_HS d A s cs H locs) {w : Cond} (h : w ∈ lw_tbl) (hm : g_mv w = true) : va_Nw w s := hH.2.2.2.2.2.1.1 _ h hm
theorem g_nwu (hH : g_HS d A s cs H locs) {w : Cond} (h : w ∈ lw_tbl) (hm : g_mv w = true) (ho : w.onTables = true) {a' : Array Value} : w.before a' s = true := va_Nw.use ho (g_nw hH h hm)
theorem g_getN (hF : g_F p m c cc nL s args own meth rt) (hH : g_HS d A s cs H locs) {ref C host : String} {T : u_T} {N ci index : Nat} (hin : ∀ w ∈ u_ws C T N, w ∈ lw_all) (hcl : g_cl[ci]? = some (C, T, N))
    (p0 k0 : Nat) (hc : cs[p0]? = some ch) {fs : List Value} (he : ch[k0]? = some (a, .inr (ci, fs))) (k : Nat) (hk : k < N) (hlink : Cond.fieldLinkNest own index ref (T k).2.1 (T k).2.2.1 host ∈ lw_tbl) (hsame : ∀ x, s.fieldFound? (T k).1 (T k).2.1 (T k).2.2.1 = some x → s.fieldFound? ref (T k).2.1 (T k).2.2.1 = some x) {v : Value} (hv : fs[k]? = some v) (hdg : decode cc pc = .ok (.getfield index, 3))
    (kk : W p l e R s m args below meth c H locs cells slots Q (F0 m (pc + 3) ls (v :: rest))) : W p l e R s m args below meth c H locs cells slots Q (F0 m pc ls (.ref a :: rest)) := by
  have hl := g_nwu (a' := args) hH hlink rfl rfl
  obtain ⟨⟨hx, hb, hml, hown, hts⟩, hr, hlk⟩ := hF
  exact va_getN (D := d.1) (cl := g_cl) hx hb hts hin hown hH.2.2.2.2.1 (g_front hH hc).1 k0 (g_at he) hcl k hk hl hsame hv hdg kk
theorem g_putN (hF : g_F p m c cc nL s args own meth rt) (hH : g_HS d A s cs H locs) {ref C host : String} {T : u_T} {N ci index : Nat} (hin : ∀ w ∈ u_ws C T N, w ∈ lw_all) (hcl : g_cl[ci]? = some (C, T, N)) (ty0 : Nat → FieldType) (hty : ∀ k, k < N → parseFieldDescriptor (T k).2.2.1 = some (ty0 k)) (hnm : ∀ a, a < N → ∀ b, b < N → a ≠ b → (T a).2.1 ≠ (T b).2.1)
    (p0 k0 : Nat) (hc : cs[p0]? = some ch) {fs : List Value} (he : ch[k0]? = some (a, .inr (ci, fs))) (k : Nat) (hk : k < N) (hlink : Cond.fieldLinkNest own index ref (T k).2.1 (T k).2.2.1 host ∈ lw_tbl) (hsame : ∀ x, s.fieldFound? (T k).1 (T k).2.1 (T k).2.2.1 = some x → s.fieldFound? ref (T k).2.1 (T k).2.2.1 = some x) (hfin : (T k).2.2.2 = false) {ty : FieldType} {v : Value} (hd : parseFieldDescriptor (T k).2.2.1 = some ty) (hn : narrow ty v = v) (hfit : fits ty v = true) (hl : k < fs.length)
    (hdg : decode cc pc = .ok (.putfield index, 3)) (hc' : ch.set k0 (a, .inr (ci, fs.set k v)) = ch') (hcs : cs.set p0 ch' = cs')
    (kk : ∀ (H1 : Heap) (locs1 : List Loc), g_HS d A s cs' H1 locs1 → W p l e R s m args below meth c H1 locs1 cells slots Q (F0 m (pc + 3) ls rest)) : W p l e R s m args below meth c H locs cells slots Q (F0 m pc ls (v :: .ref a :: rest)) := by
  have hli := g_nwu (a' := args) hH hlink rfl rfl
  obtain ⟨⟨hx, hb, hml, hown, hts⟩, hr, hlk⟩ := hF
  obtain ⟨hP, hD⟩ := g_front hH hc
  refine va_putN (D := d.1) (cl := g_cl) hx hb hts hin ty0 hty hnm hown hH.2.2.2.2.1 hP hD hH.2.2.1 k0 (g_at he) hcl k hk hli hsame hfin hd hn hfit hl hdg fun H1 locs1 hP1 hD1 hS1 => ?_
  rw [g_setl he, hc'] at hP1 hD1
  subst hcs
  exact kk H1 locs1 (g_back hH hc hP1 hD1 hS1)
/-- a final field in a constructor -/
theorem g_putF (hF : g_F p m c cc nL s args own meth rt) (hin2 : meth.name = "<init>") (hH : g_HS d A s cs H locs) {ref C : String} {T : u_T} {N ci index : Nat} (hin : ∀ w ∈ u_ws C T N, w ∈ lw_all) (hcl : g_cl[ci]? = some (C, T, N)) (ty0 : Nat → FieldType) (hty : ∀ k, k < N → parseFieldDescriptor (T k).2.2.1 = some (ty0 k)) (hnm : ∀ a, a < N → ∀ b, b < N → a ≠ b → (T a).2.1 ≠ (T b).2.1)
    (p0 k0 : Nat) (hc : cs[p0]? = some ch) {fs : List Value} (he : ch[k0]? = some (a, .inr (ci, fs))) (k : Nat) (hk : k < N) (hlink : Cond.fieldLink own index ref (T k).2.1 (T k).2.2.1 ∈ lw_all) (hsame : ∀ x, s.fieldFound? (T k).1 (T k).2.1 (T k).2.2.1 = some x → s.fieldFound? ref (T k).2.1 (T k).2.2.1 = some x) (hfin : (T k).2.2.2 = true) (hdecl : (T k).1 = own) {ty : FieldType} {v : Value} (hd : parseFieldDescriptor (T k).2.2.1 = some ty) (hn : narrow ty v = v) (hfit : fits ty v = true) (hl : k < fs.length)
    (hdg : decode cc pc = .ok (.putfield index, 3)) (hc' : ch.set k0 (a, .inr (ci, fs.set k v)) = ch') (hcs : cs.set p0 ch' = cs')
    (kk : ∀ (H1 : Heap) (locs1 : List Loc), g_HS d A s cs' H1 locs1 → W p l e R s m args below meth c H1 locs1 cells slots Q (F0 m (pc + 3) ls rest)) : W p l e R s m args below meth c H locs cells slots Q (F0 m pc ls (v :: .ref a :: rest)) := by
  obtain ⟨⟨hx, hb, hml, hown, hts⟩, hr, hlk⟩ := hF
  obtain ⟨hP, hD⟩ := g_front hH hc
  refine va_putF (D := d.1) (cl := g_cl) hx hb hts hin ty0 hty hnm hown hH.2.2.2.2.1 hP hD hH.2.2.1 k0 (g_at he) hcl k hk (hts _ hlink) hsame hfin hin2 hdecl hd hn hfit hl hdg fun H1 locs1 hP1 hD1 hS1 => ?_
  rw [g_setl he, hc'] at hP1 hD1
  subst hcs
  exact kk H1 locs1 (g_back hH hc hP1 hD1 hS1)
theorem g_gets (hF : g_F p m c cc nL s args own meth rt) (hH : g_HS d A s cs H locs) {C n dd ref : String} {v : Value} {index : Nat} (hZ : va_Z C n dd v A s s.heap) (hlink : Cond.fieldLink own index ref n dd ∈ lw_all) (hsame : ∀ x, s.fieldFound? C n dd = some x → s.fieldFound? ref n dd = some x) (hdg : decode cc pc = .ok (.getstatic index, 3))
    (kk : W p l e R s m args below meth c H locs cells slots Q (F0 m (pc + 3) ls (v :: rest))) : W p l e R s m args below meth c H locs cells slots Q (F0 m pc ls rest) :=
  va_gets hF.1.1 hF.1.2.1 hZ hH.2.2.1 hF.1.2.2.2.1 (hF.1.2.2.2.2 _ hlink) hsame hdg kk
theorem g_getsN (hF : g_F p m c cc nL s args own meth rt) (hH : g_HS d A s cs H locs) {C n dd ref host : String} {v : Value} {index : Nat} (hZ : va_Z C n dd v A s s.heap) (hlink : Cond.fieldLinkNest own index ref n dd host ∈ lw_tbl) (hsame : ∀ x, s.fieldFound? C n dd = some x → s.fieldFound? ref n dd = some x) (hdg : decode cc pc = .ok (.getstatic index, 3))
    (kk : W p l e R s m args below meth c H locs cells slots Q (F0 m (pc + 3) ls (v :: rest))) : W p l e R s m args below meth c H locs cells slots Q (F0 m pc ls rest) :=
  va_getsN hF.1.1 hF.1.2.1 hZ hH.2.2.1 hF.1.2.2.2.1 (g_nwu hH hlink rfl rfl) hsame hdg kk
theorem g_zk (hH : g_HS d A s cs H locs) {i : Nat} (hi : i < 4) : g_Zk d A s s.heap i := hH.2.2.2.2.2.2.1 i hi
theorem g_z1 (hH : g_HS d A s cs H locs) : g_Z1 A s s.heap := hH.2.2.2.2.2.2.2.2.1
theorem g_z2 (hH : g_HS d A s cs H locs) : g_Z2 d A s s.heap := hH.2.2.2.2.2.2.2.2.2.1
theorem g_z3 (hH : g_HS d A s cs H locs) : g_Z3 A s s.heap := hH.2.2.2.2.2.2.2.2.2.2
end GR
section GCN
variable {p : Program} {l : Launch} {e : Env} {R : Room} {s : State} {m : MethodId} {args : Array Value} {below : List Frame} {meth : Method} {c : Code} {H : Heap} {locs : List Loc} {cells slots : Nat} {Q : State → Prop}
variable {cc : ByteArray} {pc nL : Nat} {ls : Array Slot} {rest st0 : List Value} {d : g_D} {A : Nat → Prop} {cs wc wr : List va_W} {own host : String} {rt : Option FieldType} {post : Option Value → List va_W → Prop} {mc ms : Nat}
variable {y : MethodName} {bytes : ByteArray} {maxL index : Nat} {ret : Option FieldType} {rm : Room} {C : String} {b : Addr}
theorem g_cVN (As : List Value) (n : Nat) (hn : As.length = n) (hF : g_F p m c cc nL s args own meth rt) (hM : g_Met l d y bytes maxL ret rm (.ref b :: As) wc mc ms post) (h1 : Cond.methodLinkNest own index y host ∈ lw_tbl) (h2 : Cond.instanceMethod y ∈ lw_all) (h3 : Cond.selects C y y ∈ lw_all) (h4 : Cond.initialized C ∈ lw_all) (h5 : Cond.code y bytes maxL ret ∈ lw_all) 
    (hrc : rm.cells = mc) (hrs : rm.slots = ms) (hd : y.cls = C ∧ y.cls ≠ "java/lang/invoke/MethodHandle" ∧ y.cls ≠ "java/lang/invoke/VarHandle" ∧ (parseMethodDescriptor y.desc).map (fun d => d.parameters.length) = some n) (hR : rm.frames + 1 ≤ R.frames ∧ 8 + (maxL + 11) + rm.locals ≤ R.locals)
    (hH : g_HS d A s cs H locs) (is : List Nat) (hp : g_ok is cs.length = true) (hC : is.filterMap (fun i => cs[i]?) = wc) (hr : (g_rest is cs.length).filterMap (fun i => cs[i]?) = wr)
    (q0 k0 : Nat) {ch : va_W} {T : u_T} {N ci : Nat} {fs : List Value} (hq : wc[q0]? = some ch) (hb : ch[k0]? = some (b, .inr (ci, fs))) (hcl : g_cl[ci]? = some (C, T, N))
    (hls : ls.size = nL) (hW : (rest.map fun v => v.category).sum ≤ 8) (hdg : decode cc pc = .ok (.invokevirtual index, 3)) (hf : cells + mc ≤ R.cells ∧ slots + ms ≤ R.slots)
    (kk : ∀ (v : Option Value) (w1 : List va_W) (H1 : Heap) (locs1 : List Loc), post v w1 → g_HS d A s (wr ++ w1) H1 locs1 → W p l e R s m args below meth c H1 locs1 (cells + mc) (slots + ms) Q (F0 m (pc + 3) ls (v.toList ++ rest))) : W p l e R s m args below meth c H locs cells slots Q (F0 m pc ls (As.reverse ++ .ref b :: rest)) := by
  have hH2 := g_HS_split hH is hp hC hr
  have ht := hF.1.2.2.2.2
  have cb := va_cnB (R := R) (args := args) (s := s) (own := own) (host := host) (index := index) (ws := ws_ y bytes maxL ret) (rm := rm) (mc := mc) (ms := ms) n ht (lw_meth h5) rfl hrc hrs (g_nw hH h1 rfl) (by rw [hd.1]; exact ht _ h4) hd.2 hR
  have hm : (b, (Sum.inr (ci, fs) : va_E)) ∈ (wc ++ wr).flatten := by
    rw [List.flatten_append]
    exact List.mem_append_left _ (List.mem_flatten.mpr ⟨ch, List.mem_of_getElem? hq, List.mem_of_getElem? hb⟩)
  have hrecv : ∃ cell : Cell, H[b]? = some cell ∧ cell.vm.isStatics = false ∧ s.vm.findClass C = some cell.cls := by
    obtain ⟨k, hk⟩ := List.getElem?_of_mem hm
    exact va_recv (ws := (wc ++ wr).flatten) hH.2.2.2.2.1 (g_P_of hH2.1) hcl hk
  exact g_called (va_runVN hF.1 (hM H.size) ⟨cb, ht _ h2, ht _ h3⟩ ⟨g_blind, hrecv, g_pre hH2 (.ref b :: As)⟩ rfl hn hls rfl (lv_room hW) hdg hf) hH2 kk
theorem g_cSN (As : List Value) (n : Nat) (hn : As.length = n) (hF : g_F p m c cc nL s args own meth rt) (hM : g_Met l d y bytes maxL ret rm As wc mc ms post) (h1 : Cond.methodLinkNest own index y host ∈ lw_tbl) (h2 : Cond.static y ∈ lw_all) (h3 : Cond.initialized y.cls ∈ lw_all) (h5 : Cond.code y bytes maxL ret ∈ lw_all) 
    (hrc : rm.cells = mc) (hrs : rm.slots = ms) (hd : y.cls ≠ "java/lang/invoke/MethodHandle" ∧ y.cls ≠ "java/lang/invoke/VarHandle" ∧ (parseMethodDescriptor y.desc).map (fun d => d.parameters.length) = some n) (hR : rm.frames + 1 ≤ R.frames ∧ 8 + (maxL + 11) + rm.locals ≤ R.locals)
    (hH : g_HS d A s cs H locs) (is : List Nat) (hp : g_ok is cs.length = true) (hC : is.filterMap (fun i => cs[i]?) = wc) (hr : (g_rest is cs.length).filterMap (fun i => cs[i]?) = wr)
    (hls : ls.size = nL) (hW : (rest.map fun v => v.category).sum ≤ 8) (hdg : decode cc pc = .ok (.invokestatic index, 3)) (hf : cells + mc ≤ R.cells ∧ slots + ms ≤ R.slots)
    (kk : ∀ (v : Option Value) (w1 : List va_W) (H1 : Heap) (locs1 : List Loc), post v w1 → g_HS d A s (wr ++ w1) H1 locs1 → W p l e R s m args below meth c H1 locs1 (cells + mc) (slots + ms) Q (F0 m (pc + 3) ls (v.toList ++ rest))) : W p l e R s m args below meth c H locs cells slots Q (F0 m pc ls (As.reverse ++ rest)) := by
  have hH2 := g_HS_split hH is hp hC hr
  have ht := hF.1.2.2.2.2
  have cb := va_cnB (R := R) (args := args) (s := s) (own := own) (host := host) (index := index) (ws := ws_ y bytes maxL ret) (rm := rm) (mc := mc) (ms := ms) n ht (lw_meth h5) rfl hrc hrs (g_nw hH h1 rfl) (ht _ h3) hd hR
  exact g_called (va_runSN hF.1 (hM H.size) ⟨cb, ht _ h2, trivial⟩ ⟨g_blind, g_pre hH2 As⟩ rfl hn hls rfl (lv_room hW) hdg hf) hH2 kk
theorem g_cIN (As : List Value) (n : Nat) (hn : As.length = n) (hF : g_F p m c cc nL s args own meth rt) (hM : g_Met l d y bytes maxL none rm (.ref b :: As) wc mc ms post) (h1 : Cond.methodLinkNest own index y host ∈ lw_tbl) (h2 : Cond.instanceMethod y ∈ lw_all) (h3 : Cond.initialized y.cls ∈ lw_all) (h5 : Cond.code y bytes maxL none ∈ lw_all) (hy1 : y.name = "<init>") 
    (hrc : rm.cells = mc) (hrs : rm.slots = ms) (hd : y.cls ≠ "java/lang/invoke/MethodHandle" ∧ y.cls ≠ "java/lang/invoke/VarHandle" ∧ (parseMethodDescriptor y.desc).map (fun d => d.parameters.length) = some n) (hR : rm.frames + 1 ≤ R.frames ∧ 8 + (maxL + 11) + rm.locals ≤ R.locals)
    (hH : g_HS d A s cs H locs) (is : List Nat) (hp : g_ok is cs.length = true) (hC : is.filterMap (fun i => cs[i]?) = wc) (hr : (g_rest is cs.length).filterMap (fun i => cs[i]?) = wr)
    (hls : ls.size = nL) (hW : (rest.map fun v => v.category).sum ≤ 8) (hdg : decode cc pc = .ok (.invokespecial index, 3)) (hf : cells + mc ≤ R.cells ∧ slots + ms ≤ R.slots)
    (kk : ∀ (v : Option Value) (w1 : List va_W) (H1 : Heap) (locs1 : List Loc), post v w1 → g_HS d A s (wr ++ w1) H1 locs1 → W p l e R s m args below meth c H1 locs1 (cells + mc) (slots + ms) Q (F0 m (pc + 3) ls (v.toList ++ rest))) : W p l e R s m args below meth c H locs cells slots Q (F0 m pc ls (As.reverse ++ .ref b :: rest)) := by
  have hH2 := g_HS_split hH is hp hC hr
  have ht := hF.1.2.2.2.2
  have cb := va_cnB (R := R) (args := args) (s := s) (own := own) (host := host) (index := index) (ws := ws_ y bytes maxL none) (rm := rm) (mc := mc) (ms := ms) n ht (lw_meth h5) rfl hrc hrs (g_nw hH h1 rfl) (ht _ h3) hd hR
  exact g_called (va_runIN hF.1 (hM H.size) ⟨cb, hy1, ht _ h2⟩ ⟨g_blind, g_pre hH2 (.ref b :: As)⟩ rfl hn hls rfl (lv_room hW) hdg hf) hH2 kk
end GCN
