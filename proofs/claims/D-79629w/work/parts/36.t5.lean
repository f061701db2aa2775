/-! calls of an iterator through its interface -/
section GF
variable {p : Program} {l : Launch} {e : Env} {R : Room} {s : State} {m : MethodId} {args : Array Value} {below : List Frame} {meth : Method} {c : Code} {H : Heap} {locs : List Loc} {cells slots : Nat} {Q : State → Prop}
variable {cc : ByteArray} {pc nL : Nat} {ls : Array Slot} {rest st0 : List Value} {d : g_D} {A : Nat → Prop} {cs wc wr : List va_W} {own : String} {rt : Option FieldType} {post : Option Value → List va_W → Prop} {mc ms : Nat}
variable {y : MethodName} {bytes : ByteArray} {maxL index : Nat} {ret : Option FieldType} {rm : Room} {b : Addr}
theorem g_called5 {a : Array Value} (hr : va_Run5 p l e R s m args below meth c H locs cells slots mc ms (F0 m pc ls st0) rest (g_Qc d post (va_A wc.flatten H.size) a) (va_A wc.flatten H.size)) (hH : g_HS d A s (wc ++ wr) H locs)
    (kk : ∀ (v : Option Value) (w1 : List va_W) (H1 : Heap) (locs1 : List Loc), post v w1 → g_HS d A s (wr ++ w1) H1 locs1 → W p l e R s m args below meth c H1 locs1 (cells + mc) (slots + ms) Q (F0 m (pc + 5) ls (v.toList ++ rest))) : W p l e R s m args below meth c H locs cells slots Q (F0 m pc ls st0) := by
  intro T hT X
  obtain ⟨v, st₀, t, T', L, h0, X', hL, e1, e2, ⟨⟨v', w1, hv, hp, hP1, hD1⟩, hz, hk⟩, st⟩ := hr T hT X
  cases hv
  rw [h0] at hz hk
  have hfr := g_free hH
  have hS := hH.2.2.1
  obtain ⟨t2, a1, b1⟩ := kk v w1 T'.heap (locs ++ L) hp (g_behind hH (by rw [e1]; exact hP1) hD1 (fun q h1 h2 => by rw [e1]; exact hk q h1 h2)
    ⟨Nat.le_trans hS.1 (by rw [e1]; exact hz), fun q h1 h2 => by rw [e1, hk q (Nat.lt_of_lt_of_le h1 hS.1) (fun z => h2 (hfr q z))]; exact hS.2.1 q h1 h2, fun q hq => by
      rcases List.mem_append.mp hq with h | h
      · exact hS.2.2 q h
      · exact hfr _ (hL q h)⟩) T' rfl X'
  exact ⟨t2, st t2 a1, b1⟩
/-- x of an interface, on an object of class C in the chunk q0 of the callee's: y is what it selects -/
theorem g_cF {x : MethodName} {C : String} {count : Nat} (As : List Value) (n : Nat) (hn : As.length = n) (hF : g_F p m c cc nL s args own meth rt) (hM : g_Met l d y bytes maxL ret rm (.ref b :: As) wc mc ms post) (h1 : Cond.methodLink own index x ∈ lw_all) (hfw : va_Fw C x y s) (hsel : Cond.selects C x y ∈ lw_all) (h2 : Cond.instanceMethod y ∈ lw_all) (h4 : Cond.initialized y.cls ∈ lw_all) (h5 : Cond.code y bytes maxL ret ∈ lw_all)
    (hrc : rm.cells = mc) (hrs : rm.slots = ms) (hd : x.cls ≠ "java/lang/invoke/MethodHandle" ∧ x.cls ≠ "java/lang/invoke/VarHandle" ∧ (parseMethodDescriptor x.desc).map (fun d => d.parameters.length) = some n) (hR : rm.frames + 1 ≤ R.frames ∧ 8 + (maxL + 11) + rm.locals ≤ R.locals)
    (hH : g_HS d A s cs H locs) (is : List Nat) (hp : g_ok is cs.length = true) (hC : is.filterMap (fun i => cs[i]?) = wc) (hr : (g_rest is cs.length).filterMap (fun i => cs[i]?) = wr)
    (q0 k0 : Nat) {ch : va_W} {T : u_T} {N ci : Nat} {fs : List Value} (hq : wc[q0]? = some ch) (hb : ch[k0]? = some (b, .inr (ci, fs))) (hcl : g_cl[ci]? = some (C, T, N)) (hls : ls.size = nL) (hW : (rest.map fun v => v.category).sum ≤ 8) (hdg : decode cc pc = .ok (.invokeinterface index count, 5)) (hf : cells + mc ≤ R.cells ∧ slots + ms ≤ R.slots)
    (kk : ∀ (v : Option Value) (w1 : List va_W) (H1 : Heap) (locs1 : List Loc), post v w1 → g_HS d A s (wr ++ w1) H1 locs1 → W p l e R s m args below meth c H1 locs1 (cells + mc) (slots + ms) Q (F0 m (pc + 5) ls (v.toList ++ rest))) : W p l e R s m args below meth c H locs cells slots Q (F0 m pc ls (As.reverse ++ .ref b :: rest)) := by
  have hH2 := g_HS_split hH is hp hC hr
  have ht := hF.1.2.2.2.2
  have hT : GoodIn lw_all (va_wsF own index C x y (ws_ y bytes maxL ret)) := by
    unfold va_wsF
    intro w hw
    rcases List.mem_append.mp hw with h | h
    · simp only [List.mem_cons, List.not_mem_nil, or_false] at h
      rcases h with rfl | rfl | rfl | rfl
      · exact lw_self _ h1
      · exact lw_self _ hsel
      · exact lw_self _ h2
      · exact lw_self _ h4
    · exact lw_meth h5 w h
  have cw : va_CI R s args own C index x y bytes maxL ret (ws_ y bytes maxL ret) rm mc ms n := va_cwF n ht hT rfl hrc hrs hfw hd hR
  have hq2 : (wc ++ wr)[q0]? = some ch := by
    rw [List.getElem?_append_left (List.getElem?_eq_some_iff.mp hq).1]; exact hq
  exact g_called5 (va_runF (hH.2.2.2.2.1.1 ci (C, T, N) hcl).2 hF.1 (hM H.size) cw ⟨g_blind, g_recvM hH2 hq2 hb hcl, g_pre hH2 (.ref b :: As)⟩ rfl hn hls rfl (lv_room hW) hdg hf) hH2 kk
theorem g_fwH (hH : g_HS d A s cs H locs) : va_Fw "java/util/ArrayList$Itr" ⟨"java/util/Iterator", "hasNext", "()Z"⟩ yJ16_hasNext s := hH.2.2.2.2.2.1.2.2.1
theorem g_fwN (hH : g_HS d A s cs H locs) : va_Fw "java/util/ArrayList$Itr" ⟨"java/util/Iterator", "next", "()Ljava/lang/Object;"⟩ yJ16_next s := hH.2.2.2.2.2.1.2.2.2.1
/-- the tree's node k, whichever class it has: what a call through it selects -/
theorem g_trs {tn tl tr : Nat → Nat} {t : g_TC} {k : Nat} {x y : MethodName} (hF : g_F p m c cc nL s args own meth rt) (hH : g_HS d A s cs H locs) (p0 : Nat) (hc : cs[p0]? = some (g_T d tn tl tr t)) (hk : k ∈ t.1) (h1 : Cond.selects "GraphModules$Leaf" x y ∈ lw_all) (h2 : Cond.selects "GraphModules$Inner" x y ∈ lw_all) : ∃ C : String, (∃ cell : Cell, H[tn k]? = some cell ∧ cell.vm.isStatics = false ∧ s.vm.findClass C = some cell.cls) ∧ (Cond.selects C x y).before args s = true := by
  by_cases h : t.2.2.1 k = 0
  · exact ⟨_, g_trecL hH p0 hc hk h, hF.1.2.2.2.2 _ h1⟩
  · exact ⟨_, g_trecI hH p0 hc hk h, hF.1.2.2.2.2 _ h2⟩
end GF
section GV
variable {p : Program} {l : Launch} {e : Env} {R : Room} {s : State} {m : MethodId} {args : Array Value} {below : List Frame} {meth : Method} {c : Code} {H : Heap} {locs : List Loc} {cells slots : Nat} {Q : State → Prop}
variable {cc : ByteArray} {pc nL : Nat} {ls : Array Slot} {rest st0 : List Value} {d : g_D} {A : Nat → Prop} {cs wc wr : List va_W} {own : String} {rt : Option FieldType} {post : Option Value → List va_W → Prop} {mc ms : Nat}
variable {y : MethodName} {bytes : ByteArray} {maxL index : Nat} {ret : Option FieldType} {rm : Room} {b : Addr}
/-- a call through an object whose class is known otherwise -/
theorem g_cVr {C : String} (As : List Value) (n : Nat) (hn : As.length = n) (hF : g_F p m c cc nL s args own meth rt) (hM : g_Met l d y bytes maxL ret rm (.ref b :: As) wc mc ms post) (h1 : Cond.methodLink own index y ∈ lw_all) (h2 : Cond.instanceMethod y ∈ lw_all) (h3 : Cond.selects C y y ∈ lw_all) (h4 : Cond.initialized C ∈ lw_all) (h5 : Cond.code y bytes maxL ret ∈ lw_all)
    (hrc : rm.cells = mc) (hrs : rm.slots = ms) (hd : y.cls = C ∧ y.cls ≠ "java/lang/invoke/MethodHandle" ∧ y.cls ≠ "java/lang/invoke/VarHandle" ∧ (parseMethodDescriptor y.desc).map (fun d => d.parameters.length) = some n) (hR : rm.frames + 1 ≤ R.frames ∧ 8 + (maxL + 11) + rm.locals ≤ R.locals)
    (hH : g_HS d A s cs H locs) (is : List Nat) (hp : g_ok is cs.length = true) (hC : is.filterMap (fun i => cs[i]?) = wc) (hr : (g_rest is cs.length).filterMap (fun i => cs[i]?) = wr)
    (hrecv : ∃ cell : Cell, H[b]? = some cell ∧ cell.vm.isStatics = false ∧ s.vm.findClass C = some cell.cls) (hls : ls.size = nL) (hW : (rest.map fun v => v.category).sum ≤ 8) (hdg : decode cc pc = .ok (.invokevirtual index, 3)) (hf : cells + mc ≤ R.cells ∧ slots + ms ≤ R.slots)
    (kk : ∀ (v : Option Value) (w1 : List va_W) (H1 : Heap) (locs1 : List Loc), post v w1 → g_HS d A s (wr ++ w1) H1 locs1 → W p l e R s m args below meth c H1 locs1 (cells + mc) (slots + ms) Q (F0 m (pc + 3) ls (v.toList ++ rest))) : W p l e R s m args below meth c H locs cells slots Q (F0 m pc ls (As.reverse ++ .ref b :: rest)) := by
  have hH2 := g_HS_split hH is hp hC hr
  have cw : CallW R s args own C index y bytes maxL ret (ws_ y bytes maxL ret) rm mc ms n := cwV n hF.1.2.2.2.2 (lw_V h1 h2 h3 h4 h5) rfl hrc hrs hd hR
  exact g_called (va_runV hF.1 (hM H.size) cw ⟨g_blind, hrecv, g_pre hH2 (.ref b :: As)⟩ rfl hn hls rfl (lv_room hW) hdg hf) hH2 kk
theorem g_lrec (hH : g_HS d A s cs H locs) (p0 : Nat) {x y : Nat} {an : Nat → Nat} {ks : List Nat} (hc : cs[p0]? = some (g_AL d x y an ks)) : ∃ cell : Cell, H[x]? = some cell ∧ cell.vm.isStatics = false ∧ s.vm.findClass "java/util/ArrayList" = some cell.cls := by
  cases ks with
  | nil => exact g_recvO hH p0 0 hc rfl (q := (RJ10, TJ10, 3)) rfl
  | cons k l => exact g_recvO hH p0 0 hc rfl (q := (RJ10, TJ10, 3)) rfl
theorem g_trecC (hH : g_HS d A s cs H locs) (p0 : Nat) {tn tl tr : Nat → Nat} {t : g_TC} {k : Nat} (hc : cs[p0]? = some (g_T d tn tl tr t)) (hk : k ∈ t.1) (h : t.2.2.1 k ≠ 0) : ∃ cell : Cell, H[tl k]? = some cell ∧ cell.vm.isStatics = false ∧ s.vm.findClass "java/util/ArrayList" = some cell.cls := by
  have hm : ∃ fs : List Value, (tl k, (Sum.inr (11, fs) : va_E)) ∈ g_T d tn tl tr t := by
    have h1 : ∀ q ∈ g_AL d (tl k) (tr k) tn (t.2.2.2 k), q ∈ g_T d tn tl tr t := fun q hq => g_T_mem hk (by rw [g_tn_inner h]; exact List.mem_cons_of_mem _ hq)
    cases hks : t.2.2.2 k with
    | nil => rw [hks] at h1; exact ⟨_, h1 _ List.mem_cons_self⟩
    | cons a b => rw [hks] at h1; exact ⟨_, h1 _ List.mem_cons_self⟩
  obtain ⟨fs, hm⟩ := hm
  obtain ⟨k0, hk0⟩ := List.getElem?_of_mem hm
  exact g_recvO hH p0 k0 hc hk0 (q := (RJ10, TJ10, 3)) rfl
end GV
/-! short names for what a list's methods answer -/
def wp_J10_size_A (ks : List Nat) (Q : Int32 → Prop) : Prop := Q (nI ks.length)
def wp_J10_iterator_A (ks : List Nat) (Q : Prop) : Prop := Q
def wp_J16_hasNext_B (n : Nat) (ks : List Nat) (Q : Int32 → Prop) : Prop := wp_J16_hasNext_A n ks.length Q
def wp_J10_addI_T (i : Int32) (k : Nat) (ks : List Nat) (c : g_TC) (Q : List Nat → Prop) : Prop := k ∈ c.1 ∧ (∀ k' ∈ ks, k' ∈ c.1) ∧ wp_J10_addI_A i k ks Q
theorem met_J10_addI_T (l : Launch) (hl0 : l.stackTraces = false) (d : g_D) (x y : Nat) (tn tl tr : Nat → Nat) (i : Int32) (k : Nat) (ks : List Nat) (c : g_TC) (Q : List Nat → Prop) (hw : wp_J10_addI_T i k ks c Q) :
    g_Met l d yJ10_add_3 cJ10_add_3 5 none ({ frames := 5, cells := 1, slots := 22, locals := 119 } : Room) [.ref x, .int i, .ref (tn k)] [g_AL d x y tn ks, g_T d tn tl tr c] 1 22 (fun v w1 => ∃ (y2 : Nat) (ks2 : List Nat), v = none ∧ w1 = [g_AL d x y2 tn ks2, g_T d tn tl tr c] ∧ Q ks2) :=
  met_J10_addI_A l hl0 d x y tn i k ks (g_T d tn tl tr c) (g_T_in hw.1) (fun k' h => g_T_in (hw.2.1 k' h)) Q hw.2.2
section GQ2
variable {p : Program} {l : Launch} {e : Env} {R : Room} {s : State} {m : MethodId} {args : Array Value} {below : List Frame} {meth : Method} {c : Code} {H : Heap} {locs : List Loc} {cells slots : Nat} {Q : State → Prop}
variable {cc : ByteArray} {pc : Nat} {ls : Array Slot} {rest : List Value} {o : Option Nat}
theorem lv_aload_nQ (hexec : p.tables.exec = Jvm.exec) (hb : c.code = cc) {k : Fin 4} {i : Nat} (hdg : decode cc pc = .ok (.aload_n k, 1)) (hi : (k : Nat) = i) (hl : ls[i]? = some (.val (va_rf o)))
    (kk : W p l e R s m args below meth c H locs cells slots Q (F0 m (pc + 1) ls (va_rf o :: rest))) : W p l e R s m args below meth c H locs cells slots Q (F0 m pc ls rest) := by
  cases o with
  | none => exact lv_aload_nN hexec hb hdg hi hl kk
  | some a => exact lv_aload_n hexec hb hdg hi hl kk
theorem lv_aloadQ (hexec : p.tables.exec = Jvm.exec) (hb : c.code = cc) {i : Nat} (hdg : decode cc pc = .ok (.aload i, 2)) (hl : ls[i]? = some (.val (va_rf o)))
    (kk : W p l e R s m args below meth c H locs cells slots Q (F0 m (pc + 2) ls (va_rf o :: rest))) : W p l e R s m args below meth c H locs cells slots Q (F0 m pc ls rest) := by
  cases o with
  | none => exact lv_aloadN hexec hb hdg hl kk
  | some a => exact lv_aload hexec hb hdg hl kk
theorem lv_astore_nQ (hexec : p.tables.exec = Jvm.exec) (hb : c.code = cc) {k : Fin 4} {i nL : Nat} {lv lv' : List (Nat × Value)} (hdg : decode cc pc = .ok (.astore_n k, 1)) (hi : (k : Nat) = i) (h : lv_has ls nL lv) (hn : i < nL) (hl : (i, va_rf o) :: lv.filter (fun q => !(q.1 == i) && !(q.1 + 1 == i && q.2.category == 2)) = lv')
    (kk : ∀ ls' : Array Slot, lv_has ls' nL lv' → W p l e R s m args below meth c H locs cells slots Q (F0 m (pc + 1) ls' rest)) : W p l e R s m args below meth c H locs cells slots Q (F0 m pc ls (va_rf o :: rest)) := by
  cases o with
  | none => exact lv_astore_nN hexec hb hdg hi h hn hl kk
  | some a => exact lv_astore_n hexec hb hdg hi h hn hl kk
theorem lv_astoreQ (hexec : p.tables.exec = Jvm.exec) (hb : c.code = cc) {i nL : Nat} {lv lv' : List (Nat × Value)} (hdg : decode cc pc = .ok (.astore i, 2)) (h : lv_has ls nL lv) (hn : i < nL) (hl : (i, va_rf o) :: lv.filter (fun q => !(q.1 == i) && !(q.1 + 1 == i && q.2.category == 2)) = lv')
    (kk : ∀ ls' : Array Slot, lv_has ls' nL lv' → W p l e R s m args below meth c H locs cells slots Q (F0 m (pc + 2) ls' rest)) : W p l e R s m args below meth c H locs cells slots Q (F0 m pc ls (va_rf o :: rest)) := by
  cases o with
  | none => exact lv_astoreN hexec hb hdg h hn hl kk
  | some a => exact lv_astore hexec hb hdg h hn hl kk
end GQ2
theorem met_J10_size_B (l : Launch) (hl0 : l.stackTraces = false) (d : g_D) (x y : Nat) (an : Nat → Nat) (ks : List Nat) (Q : Int32 → Prop) (hw : wp_J10_size_A ks Q) : g_Met l d yJ10_size cJ10_size 1 (Option.some FieldType.int) ({ frames := 0, cells := 0, slots := 0, locals := 0 } : Room) [.ref x] [g_AL d x y an ks] 0 0 (fun v w1 => ∃ (r : Int32), v = some (.int r) ∧ w1 = [g_AL d x y an ks] ∧ Q r) := met_J10_size_A l hl0 d x y an ks Q hw
theorem met_J10_iterator_B (l : Launch) (hl0 : l.stackTraces = false) (d : g_D) (x y : Nat) (an : Nat → Nat) (ks : List Nat) (Q : Prop) (hw : wp_J10_iterator_A ks Q) : g_Met l d yJ10_iterator cJ10_iterator 1 (Option.some (FieldType.object "java/util/Iterator")) ({ frames := 2, cells := 1, slots := 4, locals := 33 } : Room) [.ref x] [g_AL d x y an ks] 1 4 (fun v w1 => ∃ (ia : Nat), v = some (.ref ia) ∧ w1 = [g_AL d x y an ks, g_IT d ia x 0 ks.length] ∧ Q) := met_J10_iterator_A l hl0 d x y an ks Q hw
