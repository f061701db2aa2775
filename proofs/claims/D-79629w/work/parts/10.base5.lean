/-! arrays of references, class objects, copies -/
section GQ
variable {p : Program} {l : Launch} {e : Env} {R : Room} {s : State} {m : MethodId} {args : Array Value} {below : List Frame} {meth : Method} {c : Code} {H : Heap} {locs : List Loc} {cells slots : Nat} {Q : State → Prop}
variable {cc : ByteArray} {pc nL : Nat} {ls : Array Slot} {rest : List Value} {d : g_D} {A : Nat → Prop} {a : Nat} {cs cs' : List va_W} {own : String} {rt : Option FieldType} {ch ch' : va_W}
theorem g_nmQ (hH : g_HS d A s cs H locs) : s.vm.findClass "[Ljava/lang/Object;" = some (d.2.1 6) := by
  obtain ⟨kA, comp, h1, h2, h3, h4⟩ := (hH.2.2.2.2.1.2 6 (d.2.1 6, .object "java/lang/Object") rfl).2
  exact h4
theorem g_aald (hF : g_F p m c cc nL s args own meth rt) (hH : g_HS d A s cs H locs) (p0 k0 : Nat) (hc : cs[p0]? = some ch) {n : Nat} {f : Nat → Option Nat} (he : ch[k0]? = some (a, .inl (d.2.1 6, n, .inr (.inr (.inr (.inr f)))))) {i : Int32} (hin : vp_in i n) (hdg : decode cc pc = .ok (.aaload, 1))
    (kk : W p l e R s m args below meth c H locs cells slots Q (F0 m (pc + 1) ls (va_rf (f i.toNatClampNeg) :: rest))) : W p l e R s m args below meth c H locs cells slots Q (F0 m pc ls (.int i :: .ref a :: rest)) := by
  obtain ⟨⟨hx, hb, hml, hown, hts⟩, hr, hlk⟩ := hF
  exact va_aldq (D := d.1) (cl := g_cl) (tys := g_tys d) hx hb hH.2.2.2.2.1 (g_front hH hc).1 k0 6 (g_at he) rfl hin hdg kk
theorem g_any (hH : g_HS d A s cs H locs) {x : Nat} {ci : Nat} {fs : List Value} {r : vw_C} (hm : (x, (Sum.inr (ci, fs) : va_E)) ∈ cs.flatten) (hcl : g_cl[ci]? = some r) (hca : Cond.castable r.1 "java/lang/Object" ∈ lw_tbl) : va_Any "java/lang/Object" s H x := by
  obtain ⟨k, hk⟩ := List.getElem?_of_mem hm
  refine va_rAny (E := "java/lang/Object") hH.2.2.2.2.1 hH.PD.1 hk hcl (fun comp c0 h1 h2 => ?_)
  obtain ⟨c1, t1, f1, f2, f3⟩ := Cond.castable_spec (g_nwu (a' := #[]) hH hca rfl rfl)
  cases h2.symm.trans f1
  cases h1.symm.trans f2
  exact f3
theorem g_aast (hF : g_F p m c cc nL s args own meth rt) (hH : g_HS d A s cs H locs) (p0 k0 : Nat) (hc : cs[p0]? = some ch) {n : Nat} {f : Nat → Option Nat} (he : ch[k0]? = some (a, .inl (d.2.1 6, n, .inr (.inr (.inr (.inr f)))))) {i : Int32} {v : Nat} (hv : va_Any "java/lang/Object" s H v) (hin : vp_in i n) (hdg : decode cc pc = .ok (.aastore, 1))
    (hc' : ch.set k0 (a, .inl (d.2.1 6, n, .inr (.inr (.inr (.inr (va_up f i.toNatClampNeg (some v))))))) = ch') (hcs : cs.set p0 ch' = cs')
    (kk : ∀ (H1 : Heap) (locs1 : List Loc), g_HS d A s cs' H1 locs1 → W p l e R s m args below meth c H1 locs1 cells slots Q (F0 m (pc + 1) ls rest)) : W p l e R s m args below meth c H locs cells slots Q (F0 m pc ls (.ref v :: .int i :: .ref a :: rest)) := by
  obtain ⟨⟨hx, hb, hml, hown, hts⟩, hr, hlk⟩ := hF
  obtain ⟨hP, hD⟩ := g_front hH hc
  refine va_astqM (D := d.1) (cl := g_cl) (tys := g_tys d) hx hb hH.2.2.2.2.1 hP hD hH.2.2.1 k0 6 (g_at he) rfl hv hin hdg fun H1 locs1 hP1 hD1 hS1 => ?_
  rw [g_setl he, hc'] at hP1 hD1
  subst hcs
  exact kk H1 locs1 (g_back hH hc hP1 hD1 hS1)
theorem g_newQ (hF : g_F p m c cc nL s args own meth rt) (hH : g_HS d A s cs H locs) {index : Nat} (h1 : Cond.classLink own index "java/lang/Object" ∈ lw_all) {n : Int32} {N' : Nat} (hn : ¬ n < 0) (hN : n.toNatClampNeg = N') (hbytes : N' * 8 ≤ 536870912) (hcells : cells + 1 ≤ R.cells) (hslots : slots + N' ≤ R.slots) (hdg : decode cc pc = .ok (.anewarray index, 3))
    (kk : ∀ (q : Nat) (H1 : Heap), g_HS d A s (cs ++ [[(q, .inl (d.2.1 6, N', .inr (.inr (.inr (.inr (fun _ => none))))))]]) H1 locs → W p l e R s m args below meth c H1 locs (cells + 1) (slots + N') Q (F0 m (pc + 3) ls (.ref q :: rest))) : W p l e R s m args below meth c H locs cells slots Q (F0 m pc ls (.int n :: rest)) := by
  obtain ⟨⟨hx, hb, hml, hown, hts⟩, hr, hlk⟩ := hF
  refine va_newq (D := d.1) (cl := g_cl) hx hb hown (hts _ h1) hH.2.2.2.2.2.1.2.2.2.2.1 hH.2.2.2.2.1 hH.PD.1 hH.PD.2 hH.2.2.1 hH.2.2.2.1 hn hN (by omega) hcells hslots hdg fun q cA H1 hK hP hD hS => ?_
  obtain ⟨kA, comp, -, -, -, e1⟩ := (hK.2 7 (cA, .object "java/lang/Object") rfl).2
  have e2 := g_nmQ hH
  have e3 : cA = d.2.1 6 := Option.some.inj (Eq.trans (Eq.symm e1) e2)
  subst e3
  exact kk q H1 (hH.snoc hP hD hS)
theorem g_ne4 (hH : g_HS d A s cs H locs) (p0 : Nat) (hc : cs[p0]? = some ch) (k0 : Nat) {x : va_E} (he : ch[k0]? = some (a, x)) : a ≠ d.2.2 4 := by
  intro h
  refine va_T.out (g_z2 hH).2 ?_
  rw [← h]
  exact hH.2.1.2 (a, x) (List.mem_flatten.mpr ⟨ch, List.mem_of_getElem? hc, List.mem_of_getElem? he⟩)
theorem g_tlen (hF : g_F p m c cc nL s args own meth rt) (hH : g_HS d A s cs H locs) (hdg : decode cc pc = .ok (.arraylength, 1)) (kk : W p l e R s m args below meth c H locs cells slots Q (F0 m (pc + 1) ls (.int 0 :: rest))) : W p l e R s m args below meth c H locs cells slots Q (F0 m pc ls (.ref (d.2.2 4) :: rest)) :=
  va_tlen hF.1.1 hF.1.2.1 (g_z2 hH).2 hH.2.2.1 rfl hdg kk
theorem g_getCl (hF : g_F p m c cc nL s args own meth rt) (hH : g_HS d A s cs H locs) {index : Nat} (h1 : Cond.methodLink own index ⟨"java/lang/Object", "getClass", "()Ljava/lang/Class;"⟩ ∈ lw_all) (h2 : Cond.selects "[Ljava/lang/Object;" ⟨"java/lang/Object", "getClass", "()Ljava/lang/Class;"⟩ ⟨"java/lang/Object", "getClass", "()Ljava/lang/Class;"⟩ ∈ lw_all) (h3 : Cond.instanceMethod ⟨"java/lang/Object", "getClass", "()Ljava/lang/Class;"⟩ ∈ lw_all) (h4 : Cond.native ⟨"java/lang/Object", "getClass", "()Ljava/lang/Class;"⟩ ∈ lw_all)
    (p0 k0 : Nat) (hc : cs[p0]? = some ch) {x : vp_A} (he : ch[k0]? = some (a, .inl (d.2.1 6, x))) (hls : ls.size = nL) (hframes : 1 ≤ R.frames) (hlocals : (rest.map fun v => v.category).sum + 14 ≤ R.locals) (hdg : decode cc pc = .ok (.invokevirtual index, 3))
    (k : W p l e R s m args below meth c H locs cells slots Q (F0 m (pc + 3) ls (.ref (d.2.2 5) :: rest))) : W p l e R s m args below meth c H locs cells slots Q (F0 m pc ls (.ref a :: rest)) := by
  have ht := hF.1.2.2.2.2
  exact va_getC hF.1.1 hF.1.2.1 (hF.1.2.2.1.trans hls.symm) hF.1.2.2.2.1 (ht _ h1) (va_Dc.use hH.2.2.2.2.2.1.2.2.2.2.2.2) (ht _ h2) (ht _ h3) (ht _ h4) hH.2.2.2.2.2.1.2.2.2.2.2.1 (g_recvA hH p0 k0 hc he (g_nmQ hH)) hframes hlocals hdg k
theorem g_ldcM (hF : g_F p m c cc nL s args own meth rt) (hH : g_HS d A s cs H locs) {index : Nat} (h1 : Cond.classLink own index "[Ljava/lang/Object;" ∈ lw_all) (hdg : decode cc pc = .ok (.ldc index, 2))
    (k : W p l e R s m args below meth c H locs cells slots Q (F0 m (pc + 2) ls (.ref (d.2.2 5) :: rest))) : W p l e R s m args below meth c H locs cells slots Q (F0 m pc ls rest) :=
  va_ldcM hF.1.1 hF.1.2.1 hF.1.2.2.2.1 (hF.1.2.2.2.2 _ h1) hH.2.2.2.2.2.1.2.2.2.2.2.1 hdg k
end GQ
section GCP
variable {p : Program} {l : Launch} {e : Env} {R : Room} {s : State} {m : MethodId} {args : Array Value} {below : List Frame} {meth : Method} {c : Code} {H : Heap} {locs : List Loc} {cells slots : Nat} {Q : State → Prop}
variable {cc : ByteArray} {pc nL : Nat} {ls : Array Slot} {rest : List Value} {d : g_D} {A : Nat → Prop} {a a0 : Nat} {cr : List va_W} {own : String} {rt : Option FieldType}
theorem g_copyQ (hF : g_F p m c cc nL s args own meth rt) {n0 n1 : Nat} {f g : Nat → Option Nat} (hH : g_HS d A s ([(a0, .inl (d.2.1 6, n0, .inr (.inr (.inr (.inr f)))))] :: [(a, .inl (d.2.1 6, n1, .inr (.inr (.inr (.inr g)))))] :: cr) H locs) {index : Nat} (hlink : Cond.methodLink own index arraycopyName ∈ lw_all) (hls : ls.size = nL) {sp dp n : Int32} (h1 : ¬ sp < 0) (h2 : ¬ dp < 0) (h3 : ¬ n < 0) (h4 : sp.toNatClampNeg + n.toNatClampNeg ≤ n0) (h5 : dp.toNatClampNeg + n.toNatClampNeg ≤ n1) (hel : ∀ i : Nat, i < n.toNatClampNeg → ∀ y : Nat, f (sp.toNatClampNeg + i) = some y → va_Any "java/lang/Object" s H y)
    (hframes : 1 ≤ R.frames) (hlocals : (rest.map fun v => v.category).sum + (nativeFrameWords "java/lang/System" "arraycopy" 5 + 11) ≤ R.locals) (hdg : decode cc pc = .ok (.invokestatic index, 3))
    (kk : ∀ (H1 : Heap) (locs1 : List Loc), g_HS d A s ([(a0, .inl (d.2.1 6, n0, .inr (.inr (.inr (.inr f)))))] :: [(a, .inl (d.2.1 6, n1, .inr (.inr (.inr (.inr (va_cpy f g sp.toNatClampNeg dp.toNatClampNeg n.toNatClampNeg))))))] :: cr) H1 locs1 → W p l e R s m args below meth c H1 locs1 cells slots Q (F0 m (pc + 3) ls rest)) : W p l e R s m args below meth c H locs cells slots Q (F0 m pc ls (.int n :: .int dp :: .ref a :: .int sp :: .ref a0 :: rest)) := by
  have ht := hF.1.2.2.2.2
  refine va_copyM (D := d.1) (cl := g_cl) (tys := g_tys d) hF.1.1 hF.1.2.1 (hF.1.2.2.1.trans hls.symm) hF.1.2.2.2.1 (ht _ hlink) (ht _ q593) (ht _ q592) (ht _ q115) hH.2.2.2.2.1 hH.PD.1 hH.PD.2 hH.2.2.1 0 1 6 6 rfl rfl rfl rfl h1 h2 h3 h4 h5 hel hframes hlocals hdg fun H1 locs1 hP hD hS => ?_
  exact kk H1 locs1 ⟨g_P_to hP, g_D_to hD, hS, hH.2.2.2⟩
theorem g_copyQ1 (hF : g_F p m c cc nL s args own meth rt) {n0 : Nat} {f : Nat → Option Nat} (hH : g_HS d A s ([(a, .inl (d.2.1 6, n0, .inr (.inr (.inr (.inr f)))))] :: cr) H locs) {index : Nat} (hlink : Cond.methodLink own index arraycopyName ∈ lw_all) (hls : ls.size = nL) {sp dp n : Int32} (h1 : ¬ sp < 0) (h2 : ¬ dp < 0) (h3 : ¬ n < 0) (h4 : sp.toNatClampNeg + n.toNatClampNeg ≤ n0) (h5 : dp.toNatClampNeg + n.toNatClampNeg ≤ n0) (hel : ∀ i : Nat, i < n.toNatClampNeg → ∀ y : Nat, f (sp.toNatClampNeg + i) = some y → va_Any "java/lang/Object" s H y)
    (hframes : 1 ≤ R.frames) (hlocals : (rest.map fun v => v.category).sum + (nativeFrameWords "java/lang/System" "arraycopy" 5 + 11) ≤ R.locals) (hdg : decode cc pc = .ok (.invokestatic index, 3))
    (kk : ∀ (H1 : Heap) (locs1 : List Loc), g_HS d A s ([(a, .inl (d.2.1 6, n0, .inr (.inr (.inr (.inr (va_cpy f f sp.toNatClampNeg dp.toNatClampNeg n.toNatClampNeg))))))] :: cr) H1 locs1 → W p l e R s m args below meth c H1 locs1 cells slots Q (F0 m (pc + 3) ls rest)) : W p l e R s m args below meth c H locs cells slots Q (F0 m pc ls (.int n :: .int dp :: .ref a :: .int sp :: .ref a :: rest)) := by
  have ht := hF.1.2.2.2.2
  refine va_copyM (D := d.1) (cl := g_cl) (tys := g_tys d) hF.1.1 hF.1.2.1 (hF.1.2.2.1.trans hls.symm) hF.1.2.2.2.1 (ht _ hlink) (ht _ q593) (ht _ q592) (ht _ q115) hH.2.2.2.2.1 hH.PD.1 hH.PD.2 hH.2.2.1 0 0 6 6 rfl rfl rfl rfl h1 h2 h3 h4 h5 hel hframes hlocals hdg fun H1 locs1 hP hD hS => ?_
  exact kk H1 locs1 ⟨g_P_to hP, g_D_to hD, hS, hH.2.2.2⟩
theorem g_copyI (hF : g_F p m c cc nL s args own meth rt) {n0 n1 : Nat} {f g : Nat → Int32} (hH : g_HS d A s ([(a0, .inl (d.2.1 0, n0, .inl f))] :: [(a, .inl (d.2.1 0, n1, .inl g))] :: cr) H locs) {index : Nat} (hlink : Cond.methodLink own index arraycopyName ∈ lw_all) (hls : ls.size = nL) {sp dp n : Int32} (h1 : ¬ sp < 0) (h2 : ¬ dp < 0) (h3 : ¬ n < 0) (h4 : sp.toNatClampNeg + n.toNatClampNeg ≤ n0) (h5 : dp.toNatClampNeg + n.toNatClampNeg ≤ n1) (hfit : ∀ i, i < n.toNatClampNeg → fits .int (.int (f (sp.toNatClampNeg + i))) = true)
    (hframes : 1 ≤ R.frames) (hlocals : (rest.map fun v => v.category).sum + (nativeFrameWords "java/lang/System" "arraycopy" 5 + 11) ≤ R.locals) (hdg : decode cc pc = .ok (.invokestatic index, 3))
    (kk : ∀ (H1 : Heap) (locs1 : List Loc), g_HS d A s ([(a0, .inl (d.2.1 0, n0, .inl f))] :: [(a, .inl (d.2.1 0, n1, .inl (va_cpy f g sp.toNatClampNeg dp.toNatClampNeg n.toNatClampNeg)))] :: cr) H1 locs1 → W p l e R s m args below meth c H1 locs1 cells slots Q (F0 m (pc + 3) ls rest)) : W p l e R s m args below meth c H locs cells slots Q (F0 m pc ls (.int n :: .int dp :: .ref a :: .int sp :: .ref a0 :: rest)) := by
  have ht := hF.1.2.2.2.2
  refine va_copyi (D := d.1) (cl := g_cl) (tys := g_tys d) hF.1.1 hF.1.2.1 (hF.1.2.2.1.trans hls.symm) hF.1.2.2.2.1 (ht _ hlink) (ht _ q593) (ht _ q592) (ht _ q115) hH.2.2.2.2.1 hH.PD.1 hH.PD.2 hH.2.2.1 0 1 0 0 rfl rfl rfl rfl rfl h1 h2 h3 h4 h5 hfit hframes hlocals hdg fun H1 locs1 hP hD hS => ?_
  exact kk H1 locs1 ⟨g_P_to hP, g_D_to hD, hS, hH.2.2.2⟩
theorem g_copyB (hF : g_F p m c cc nL s args own meth rt) {n0 n1 : Nat} {f g : Nat → Int32} (hH : g_HS d A s ([(a0, .inl (d.2.1 2, n0, .inl f))] :: [(a, .inl (d.2.1 2, n1, .inl g))] :: cr) H locs) {index : Nat} (hlink : Cond.methodLink own index arraycopyName ∈ lw_all) (hls : ls.size = nL) {sp dp n : Int32} (h1 : ¬ sp < 0) (h2 : ¬ dp < 0) (h3 : ¬ n < 0) (h4 : sp.toNatClampNeg + n.toNatClampNeg ≤ n0) (h5 : dp.toNatClampNeg + n.toNatClampNeg ≤ n1) (hfit : ∀ i, i < n.toNatClampNeg → fits .byte (.int (f (sp.toNatClampNeg + i))) = true)
    (hframes : 1 ≤ R.frames) (hlocals : (rest.map fun v => v.category).sum + (nativeFrameWords "java/lang/System" "arraycopy" 5 + 11) ≤ R.locals) (hdg : decode cc pc = .ok (.invokestatic index, 3))
    (kk : ∀ (H1 : Heap) (locs1 : List Loc), g_HS d A s ([(a0, .inl (d.2.1 2, n0, .inl f))] :: [(a, .inl (d.2.1 2, n1, .inl (va_cpy f g sp.toNatClampNeg dp.toNatClampNeg n.toNatClampNeg)))] :: cr) H1 locs1 → W p l e R s m args below meth c H1 locs1 cells slots Q (F0 m (pc + 3) ls rest)) : W p l e R s m args below meth c H locs cells slots Q (F0 m pc ls (.int n :: .int dp :: .ref a :: .int sp :: .ref a0 :: rest)) := by
  have ht := hF.1.2.2.2.2
  refine va_copyi (D := d.1) (cl := g_cl) (tys := g_tys d) hF.1.1 hF.1.2.1 (hF.1.2.2.1.trans hls.symm) hF.1.2.2.2.1 (ht _ hlink) (ht _ q593) (ht _ q592) (ht _ q115) hH.2.2.2.2.1 hH.PD.1 hH.PD.2 hH.2.2.1 0 1 2 2 rfl rfl rfl rfl rfl h1 h2 h3 h4 h5 hfit hframes hlocals hdg fun H1 locs1 hP hD hS => ?_
  exact kk H1 locs1 ⟨g_P_to hP, g_D_to hD, hS, hH.2.2.2⟩
end GCP
theorem g_anyc {s : State} {H : Heap} {locs : List Loc} {d : g_D} {A : Nat → Prop} {x : Nat} {cs : List va_W} {ch : va_W} (hH : g_HS d A s cs H locs) (p0 k0 : Nat) (hc : cs[p0]? = some ch) {ci : Nat} {fs : List Value} (he : ch[k0]? = some (x, .inr (ci, fs))) {r : vw_C} (hcl : g_cl[ci]? = some r) (hca : Cond.castable r.1 "java/lang/Object" ∈ lw_tbl) : va_Any "java/lang/Object" s H x :=
  g_any hH (List.mem_flatten.mpr ⟨ch, List.mem_of_getElem? hc, List.mem_of_getElem? he⟩) hcl hca
theorem g_obj {s : State} {H : Heap} {locs : List Loc} {d : g_D} {A : Nat → Prop} {a : Nat} {cs : List va_W} {ch : va_W} (hH : g_HS d A s cs H locs) (p0 k0 : Nat) (hc : cs[p0]? = some ch) {ci : Nat} {fs : List Value} {q : vw_C} (he : ch[k0]? = some (a, .inr (ci, fs))) (hcl : g_cl[ci]? = some q) : ∃ ce : Cell, H[a]? = some ce ∧ ce.vm = .none ∧ s.vm.findClass q.1 = some ce.cls := by
  obtain ⟨r, h1, cell, q1, q2, q3, q4⟩ := (g_front hH hc).1 k0 _ (g_at he)
  cases hcl.symm.trans h1
  exact ⟨cell, q1, q3, by rw [q2]; exact (hH.2.2.2.2.1.1 ci q hcl).2.1⟩
theorem g_anytw {s : State} {H : Heap} {locs : List Loc} {d : g_D} {A : Nat → Prop} {x : Nat} {cs : List va_W} {tw : va_W} (hH : g_HS d A s cs H locs) (p0 : Nat) (hc : cs[p0]? = some tw) (h : ∃ (ci : Nat) (fs : List Value), (x, (Sum.inr (ci, fs) : va_E)) ∈ tw ∧ (ci = 5 ∨ ci = 6)) : va_Any "java/lang/Object" s H x := by
  obtain ⟨ci, fs, hm, rfl | rfl⟩ := h
  · exact g_any hH (List.mem_flatten.mpr ⟨tw, List.mem_of_getElem? hc, hm⟩) rfl q1859
  · exact g_any hH (List.mem_flatten.mpr ⟨tw, List.mem_of_getElem? hc, hm⟩) rfl q1860
/-- the references of a row lie in the chunk tw, leaves or inner nodes -/
def g_el (tw : va_W) (f : Nat → Option Nat) : Prop := ∀ (i y : Nat), f i = some y → ∃ (ci : Nat) (fs : List Value), (y, (Sum.inr (ci, fs) : va_E)) ∈ tw ∧ (ci = 5 ∨ ci = 6)
