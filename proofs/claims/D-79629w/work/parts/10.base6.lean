/-! calls through a subclass's object, and of a superclass's method; bytes and chars -/
theorem g_selP {s : State} {args : Array Value} {y : MethodName} {C : String} {k : ClassId} (hC : s.vm.findClass C = some k) (hsame : (Cond.sameMethod y.cls y.cls y.name y.desc).before args s = true) (hinst : (Cond.instanceMethod y).before args s = true) (hp : (Cond.privateMethod y).before args s = true) : (Cond.selects C y y).before args s = true := by
  obtain ⟨cn, ck, r, h1, h2, h3, h4, h5⟩ := Cond.sameMethod_found hsame
  obtain ⟨mk, methM, hnamed, hmethM, -, -⟩ := Cond.instanceMethod_spec hinst
  have h6 : s.methodNamed? y = some r := h5
  cases h6.symm.trans hnamed
  have h7 : cn = r.cls := Option.some.inj (h1.symm.trans (findClass_of_methodNamed h6))
  subst h7
  have h8 := selectMethod_private (p := {}) (vm := s.vm) (c := k) hmethM (Cond.privateMethod_at hp r methM hnamed hmethM)
  simp [Cond.before, Cond.holds, Cond.value, hC, h4, h6, h8, h2, h3]
section GU
variable {p : Program} {l : Launch} {e : Env} {R : Room} {s : State} {m : MethodId} {args : Array Value} {below : List Frame} {meth : Method} {c : Code} {H : Heap} {locs : List Loc} {cells slots : Nat} {Q : State → Prop}
variable {cc : ByteArray} {pc nL : Nat} {ls : Array Slot} {rest st0 : List Value} {d : g_D} {A : Nat → Prop} {cs wc wr : List va_W} {own : String} {rt : Option FieldType} {post : Option Value → List va_W → Prop} {mc ms : Nat}
variable {y : MethodName} {bytes : ByteArray} {maxL index : Nat} {ret : Option FieldType} {rm : Room} {b : Addr}
theorem g_recvM {C : String} {T : u_T} {N ci : Nat} (hH : g_HS d A s cs H locs) {q0 k0 : Nat} {ch : va_W} {fs : List Value} (hq : cs[q0]? = some ch) (hb : ch[k0]? = some (b, .inr (ci, fs))) (hcl : g_cl[ci]? = some (C, T, N)) : ∃ cell : Cell, H[b]? = some cell ∧ cell.vm.isStatics = false ∧ s.vm.findClass C = some cell.cls := by
  have hm : (b, (Sum.inr (ci, fs) : va_E)) ∈ cs.flatten := List.mem_flatten.mpr ⟨ch, List.mem_of_getElem? hq, List.mem_of_getElem? hb⟩
  obtain ⟨k, hk⟩ := List.getElem?_of_mem hm
  exact va_recv (ws := cs.flatten) hH.2.2.2.2.1 (g_P_of hH.1) hcl hk
/-- a call that names a superclass's method (x), through an object of class C: y is what it selects -/
theorem g_cU {x : MethodName} (As : List Value) (n : Nat) (hn : As.length = n) (hF : g_F p m c cc nL s args own meth rt) (hM : g_Met l d y bytes maxL ret rm (.ref b :: As) wc mc ms post) (h1 : Cond.methodLink own index x ∈ lw_all) (h0 : Cond.sameMethod x.cls x.cls x.name x.desc ∈ lw_all) (h00 : va_Decl s x) (h2 : Cond.instanceMethod y ∈ lw_all) (h4 : Cond.initialized y.cls ∈ lw_all) (h5 : Cond.code y bytes maxL ret ∈ lw_all)
    (hrc : rm.cells = mc) (hrs : rm.slots = ms) (hd : x.cls ≠ "java/lang/invoke/MethodHandle" ∧ x.cls ≠ "java/lang/invoke/VarHandle" ∧ (parseMethodDescriptor x.desc).map (fun d => d.parameters.length) = some n) (hR : rm.frames + 1 ≤ R.frames ∧ 8 + (maxL + 11) + rm.locals ≤ R.locals)
    (hH : g_HS d A s cs H locs) (is : List Nat) (hp : g_ok is cs.length = true) (hC : is.filterMap (fun i => cs[i]?) = wc) (hr : (g_rest is cs.length).filterMap (fun i => cs[i]?) = wr)
    {C : String} (q0 k0 : Nat) {ch : va_W} {T : u_T} {N ci : Nat} {fs : List Value} (hq : wc[q0]? = some ch) (hb : ch[k0]? = some (b, .inr (ci, fs))) (hcl : g_cl[ci]? = some (C, T, N)) (hsel : (Cond.selects C x y).before args s = true) (hls : ls.size = nL) (hW : (rest.map fun v => v.category).sum ≤ 8) (hdg : decode cc pc = .ok (.invokevirtual index, 3)) (hf : cells + mc ≤ R.cells ∧ slots + ms ≤ R.slots)
    (kk : ∀ (v : Option Value) (w1 : List va_W) (H1 : Heap) (locs1 : List Loc), post v w1 → g_HS d A s (wr ++ w1) H1 locs1 → W p l e R s m args below meth c H1 locs1 (cells + mc) (slots + ms) Q (F0 m (pc + 3) ls (v.toList ++ rest))) : W p l e R s m args below meth c H locs cells slots Q (F0 m pc ls (As.reverse ++ .ref b :: rest)) := by
  have hH2 := g_HS_split hH is hp hC hr
  have ht := hF.1.2.2.2.2
  have hg : GoodIn lw_all (ws_ y bytes maxL ret) := lw_meth h5
  have hc : Cond.code y bytes maxL ret ∈ ws_ y bytes maxL ret := List.mem_cons_self
  have cw : va_CU R s args own C x.cls index x y bytes maxL ret (ws_ y bytes maxL ret) rm mc ms n := ⟨⟨hrc, hrs, hR.1, hR.2, pay_in ht hg, hc⟩, ht _ h5, ht _ h4, ⟨hd.1, hd.2.1⟩, fun sig h => by
    have h9 := hd.2.2
    rw [h] at h9
    exact (Option.some.inj h9).symm, ht _ h1, ht _ h0, h00, hsel, ht _ h2⟩
  have hq2 : (wc ++ wr)[q0]? = some ch := by
    rw [List.getElem?_append_left (List.getElem?_eq_some_iff.mp hq).1]; exact hq
  exact g_called (va_runU hF.1 (hM H.size) cw ⟨g_blind, g_recvM hH2 hq2 hb hcl, g_pre hH2 (.ref b :: As)⟩ rfl hn hls rfl (lv_room hW) hdg hf) hH2 kk
/-- super.y(..) -/
theorem g_cSU (As : List Value) (n : Nat) (hn : As.length = n) (hF : g_F p m c cc nL s args own meth rt) (hM : g_Met l d y bytes maxL ret rm (.ref b :: As) wc mc ms post) (h1 : Cond.methodLink own index y ∈ lw_all) (h0 : Cond.sameMethod y.cls y.cls y.name y.desc ∈ lw_all) (h00 : Cond.superclass own y.cls ∈ lw_all) (h2 : Cond.instanceMethod y ∈ lw_all) (h4 : Cond.initialized y.cls ∈ lw_all) (h5 : Cond.code y bytes maxL ret ∈ lw_all)
    (hrc : rm.cells = mc) (hrs : rm.slots = ms) (hd : y.name ≠ "<init>" ∧ (parseMethodDescriptor y.desc).map (fun d => d.parameters.length) = some n) (hR : rm.frames + 1 ≤ R.frames ∧ 8 + (maxL + 11) + rm.locals ≤ R.locals)
    (hH : g_HS d A s cs H locs) (is : List Nat) (hp : g_ok is cs.length = true) (hC : is.filterMap (fun i => cs[i]?) = wc) (hr : (g_rest is cs.length).filterMap (fun i => cs[i]?) = wr)
    {C : String} (q0 k0 : Nat) {ch : va_W} {T : u_T} {N ci : Nat} {fs : List Value} (hq : wc[q0]? = some ch) (hb : ch[k0]? = some (b, .inr (ci, fs))) (hcl : g_cl[ci]? = some (C, T, N)) (hls : ls.size = nL) (hW : (rest.map fun v => v.category).sum ≤ 8) (hdg : decode cc pc = .ok (.invokespecial index, 3)) (hf : cells + mc ≤ R.cells ∧ slots + ms ≤ R.slots)
    (kk : ∀ (v : Option Value) (w1 : List va_W) (H1 : Heap) (locs1 : List Loc), post v w1 → g_HS d A s (wr ++ w1) H1 locs1 → W p l e R s m args below meth c H1 locs1 (cells + mc) (slots + ms) Q (F0 m (pc + 3) ls (v.toList ++ rest))) : W p l e R s m args below meth c H locs cells slots Q (F0 m pc ls (As.reverse ++ .ref b :: rest)) := by
  have hH2 := g_HS_split hH is hp hC hr
  have ht := hF.1.2.2.2.2
  have hg : GoodIn lw_all (ws_ y bytes maxL ret) := lw_meth h5
  have hc : Cond.code y bytes maxL ret ∈ ws_ y bytes maxL ret := List.mem_cons_self
  have cw : va_CS R s args own index y bytes maxL ret (ws_ y bytes maxL ret) rm mc ms n := ⟨⟨hrc, hrs, hR.1, hR.2, pay_in ht hg, hc⟩, ht _ h1, ht _ h0, ht _ h00, ht _ h2, ht _ h4, ht _ h5, hd.1, fun sig h => by
    have h9 := hd.2
    rw [h] at h9
    exact (Option.some.inj h9).symm⟩
  have hq2 : (wc ++ wr)[q0]? = some ch := by
    rw [List.getElem?_append_left (List.getElem?_eq_some_iff.mp hq).1]; exact hq
  exact g_called (va_runSU (hH.2.2.2.2.1.1 ci (C, T, N) hcl).2 hF.1 (hM H.size) cw ⟨g_blind, g_recvM hH2 hq2 hb hcl, g_pre hH2 (.ref b :: As)⟩ rfl hn hls rfl (lv_room hW) hdg hf) hH2 kk
theorem g_findC (hH : g_HS d A s cs H locs) {ci : Nat} {q : vw_C} (hcl : g_cl[ci]? = some q) : s.vm.findClass q.1 = some (d.1.1 ci) := (hH.2.2.2.2.1.1 ci q hcl).2.1
end GU
theorem g_getsQ2 {p : Program} {l : Launch} {e : Env} {R : Room} {s : State} {m : MethodId} {args : Array Value} {below : List Frame} {meth : Method} {c : Code} {H : Heap} {locs : List Loc} {cells slots : Nat} {Q : State → Prop} {cc : ByteArray} {pc nL : Nat} {ls : Array Slot} {rest : List Value} {d : g_D} {A : Nat → Prop} {cs : List va_W} {own : String} {rt : Option FieldType}
    (hF : g_F p m c cc nL s args own meth rt) (hH : g_HS d A s cs H locs) {C n dd ref : String} {index : Nat} (hZ : va_Zq C n dd A s s.heap) (hlink : Cond.fieldLink own index ref n dd ∈ lw_all) (hsame : ∀ x, s.fieldFound? C n dd = some x → s.fieldFound? ref n dd = some x) (hdg : decode cc pc = .ok (.getstatic index, 3))
    (k1 : W p l e R s m args below meth c H locs cells slots Q (F0 m (pc + 3) ls (.null :: rest))) (k2 : ∀ t : Nat, W p l e R s m args below meth c H locs cells slots Q (F0 m (pc + 3) ls (.ref t :: rest))) : W p l e R s m args below meth c H locs cells slots Q (F0 m pc ls rest) := by
  rcases hZ with h | ⟨t, h⟩
  · exact g_gets hF hH h hlink hsame hdg k1
  · exact g_gets hF hH h hlink hsame hdg (k2 t)
section GK
variable {p : Program} {l : Launch} {e : Env} {R : Room} {s : State} {m : MethodId} {args : Array Value} {below : List Frame} {meth : Method} {c : Code} {H : Heap} {locs : List Loc} {cells slots : Nat} {Q : State → Prop}
variable {cc : ByteArray} {pc nL : Nat} {ls : Array Slot} {rest st0 : List Value} {d : g_D} {A : Nat → Prop} {cs wc wr : List va_W} {own : String} {rt : Option FieldType} {post : Option Value → List va_W → Prop} {mc ms : Nat}
variable {y : MethodName} {bytes : ByteArray} {maxL index : Nat} {ret : Option FieldType} {rm : Room} {b : Addr}
/-- a call that names x, which owner declares, through an object of class C: y is what it selects -/
theorem g_cG {x : MethodName} {owner : String} (As : List Value) (n : Nat) (hn : As.length = n) (hF : g_F p m c cc nL s args own meth rt) (hM : g_Met l d y bytes maxL ret rm (.ref b :: As) wc mc ms post) (h1 : Cond.methodLink own index x ∈ lw_all) (h0 : Cond.sameMethod x.cls owner x.name x.desc ∈ lw_all) (h00 : va_Decl s ⟨owner, x.name, x.desc⟩) (h2 : Cond.instanceMethod y ∈ lw_all) (h4 : Cond.initialized y.cls ∈ lw_all) (h5 : Cond.code y bytes maxL ret ∈ lw_all)
    (hrc : rm.cells = mc) (hrs : rm.slots = ms) (hd : owner ≠ "java/lang/invoke/MethodHandle" ∧ owner ≠ "java/lang/invoke/VarHandle" ∧ (parseMethodDescriptor x.desc).map (fun d => d.parameters.length) = some n) (hR : rm.frames + 1 ≤ R.frames ∧ 8 + (maxL + 11) + rm.locals ≤ R.locals)
    (hH : g_HS d A s cs H locs) (is : List Nat) (hp : g_ok is cs.length = true) (hC : is.filterMap (fun i => cs[i]?) = wc) (hr : (g_rest is cs.length).filterMap (fun i => cs[i]?) = wr)
    {C : String} (hrecv : ∃ cell : Cell, H[b]? = some cell ∧ cell.vm.isStatics = false ∧ s.vm.findClass C = some cell.cls) (hsel : (Cond.selects C x y).before args s = true) (hls : ls.size = nL) (hW : (rest.map fun v => v.category).sum ≤ 8) (hdg : decode cc pc = .ok (.invokevirtual index, 3)) (hf : cells + mc ≤ R.cells ∧ slots + ms ≤ R.slots)
    (kk : ∀ (v : Option Value) (w1 : List va_W) (H1 : Heap) (locs1 : List Loc), post v w1 → g_HS d A s (wr ++ w1) H1 locs1 → W p l e R s m args below meth c H1 locs1 (cells + mc) (slots + ms) Q (F0 m (pc + 3) ls (v.toList ++ rest))) : W p l e R s m args below meth c H locs cells slots Q (F0 m pc ls (As.reverse ++ .ref b :: rest)) := by
  have hH2 := g_HS_split hH is hp hC hr
  have ht := hF.1.2.2.2.2
  have hg : GoodIn lw_all (ws_ y bytes maxL ret) := lw_meth h5
  have hc : Cond.code y bytes maxL ret ∈ ws_ y bytes maxL ret := List.mem_cons_self
  have cw : va_CU R s args own C owner index x y bytes maxL ret (ws_ y bytes maxL ret) rm mc ms n := ⟨⟨hrc, hrs, hR.1, hR.2, pay_in ht hg, hc⟩, ht _ h5, ht _ h4, ⟨hd.1, hd.2.1⟩, fun sig h => by
    have h9 := hd.2.2
    rw [h] at h9
    exact (Option.some.inj h9).symm, ht _ h1, ht _ h0, h00, hsel, ht _ h2⟩
  exact g_called (va_runU hF.1 (hM H.size) cw ⟨g_blind, hrecv, g_pre hH2 (.ref b :: As)⟩ rfl hn hls rfl (lv_room hW) hdg hf) hH2 kk
theorem g_recvK (hH : g_HS d A s cs H locs) {i : Nat} (hi : i < 4) : ∃ cell : Cell, H[d.2.2 i]? = some cell ∧ cell.vm.isStatics = false ∧ s.vm.findClass (g_kc i) = some cell.cls := va_Orecv (g_zk hH hi).2.1 hH.2.2.1
theorem g_kord (hF : g_F p m c cc nL s args own meth rt) (hH : g_HS d A s cs H locs) {i : Nat} (hi : i < 4) {ref : String} (hlink : Cond.fieldLink own index ref "ordinal" "I" ∈ lw_all) (hsame : ∀ x, s.fieldFound? "java/lang/Enum" "ordinal" "I" = some x → s.fieldFound? ref "ordinal" "I" = some x) (hdg : decode cc pc = .ok (.getfield index, 3))
    (kk : W p l e R s m args below meth c H locs cells slots Q (F0 m (pc + 3) ls (.int (nI i) :: rest))) : W p l e R s m args below meth c H locs cells slots Q (F0 m pc ls (.ref (d.2.2 i) :: rest)) :=
  vk_getf hF.1.1 hF.1.2.1 (g_zk hH hi).2.2 hH.2.2.1 hF.1.2.2.2.1 (hF.1.2.2.2.2 _ hlink) hsame hdg kk
end GK
theorem g_Met.fl {l : Launch} {d : g_D} {y : MethodName} {cc : ByteArray} {nL : Nat} {rt : Option FieldType} {rm : Room} {as : List Value} {wc wc' : List va_W} {mc ms : Nat} {post : Option Value → List va_W → Prop} (h : g_Met l d y cc nL rt rm as wc mc ms post) (e : wc.flatten = wc'.flatten) : g_Met l d y cc nL rt rm as wc' mc ms post := by
  intro sz
  have h1 := h sz
  unfold g_Pc g_HP g_HD at h1 ⊢
  rw [← e]
  exact h1
theorem g_Met.post {l : Launch} {d : g_D} {y : MethodName} {cc : ByteArray} {nL : Nat} {rt : Option FieldType} {rm : Room} {as : List Value} {wc : List va_W} {mc ms : Nat} {post post' : Option Value → List va_W → Prop} (h : g_Met l d y cc nL rt rm as wc mc ms post) (hp : ∀ v w, post v w → ∃ w', w.flatten = w'.flatten ∧ post' v w') : g_Met l d y cc nL rt rm as wc mc ms post' := by
  intro sz p e ha hc hk s m args below hf happ hP _
  obtain ⟨k, o, h1, h2, h3, hq, hfr⟩ := h sz p e ha hc hk s m args below hf happ hP trivial
  refine ⟨k, o, h1, h2, h3, ?_, hfr⟩
  obtain ⟨⟨v, w1, ho, hp1, hP1, hD1⟩, hF⟩ := hq
  obtain ⟨w2, e2, hp2⟩ := hp v w1 hp1
  refine ⟨⟨v, w2, ho, hp2, ?_, ?_⟩, hF⟩
  · unfold g_HP; rw [← e2]; exact hP1
  · unfold g_HD; rw [← e2]; exact hD1
