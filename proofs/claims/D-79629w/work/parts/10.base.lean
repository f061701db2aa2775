/-! what is known all through a run, beside the classes (to be filled) -/
def g_cl : List vw_C := [(RX0, TX0, 6), (RX1, TX1, 2), (RX2, TX2, 2), (RX3, TX3, 39), (RX4, TX4, 3), (RX6, TX6, 2), (RX7, TX7, 4), (RX11, TX11, 3), (RX12, TX12, 4), (RX13, TX13, 4), (RX14, TX14, 8), (RJ10, TJ10, 3), (RJ16, TJ16, 4), (RJ20, TJ20, 4), (RJ4, TJ4, 6), (RJ17, TJ17, 8), (RJ18, TJ18, 6)]
/-! BASE: a world is a list of chunks (each the cells of one object with what it owns); what is known all through; contracts over chunks -/
abbrev g_D : Type := va_G × (Nat → ClassId) × (Nat → Nat)
def g_tys (d : g_D) : List (ClassId × FieldType) := [(d.2.1 0, .int), (d.2.1 1, .boolean), (d.2.1 2, .byte), (d.2.1 3, .short), (d.2.1 4, .long), (d.2.1 5, .char), (d.2.1 6, .object "java/lang/Object")]
/-! what is known all through a run, beside the classes: the tables' words that don't ride, what isn't castable, statics, the enum's constants -/
def g_mv : Cond → Bool
  | .fieldLinkNest .. => true
  | .methodLinkNest .. => true
  | .declares _ => true
  | .castable .. => true
  | .privateMethod _ => true
  | _ => false
theorem g_mv_warm {w : Cond} (hw : g_mv w = true) {s U : State} (hW : s.WarmedH U.vm) (h : va_Nw w s) : va_Nw w U := by
  cases w <;> first | (simp [g_mv] at hw; done) | exact va_Nw.warmF hW h | exact va_Nw.warmM hW h | exact va_Nw.warmD hW h | exact va_Nw.warmC hW h | exact Cond.privateMethod_warm hW h
theorem g_mv_vm {w : Cond} (hw : g_mv w = true) {s U : State} (e : s.vm = U.vm) (h : va_Nw w s) : va_Nw w U := by
  cases w <;> first | (simp [g_mv] at hw; done) | exact va_Nw.same rfl e h
def g_ncl : List (String × String) := [("[S", "[B"), ("[J", "[B"), ("[J", "[S"), ("GraphModules$Leaf", "GraphModules$Inner"), ("GraphModules$Inner", "GraphModules$Leaf")]
def g_yH : MethodName := ⟨"java/util/Iterator", "hasNext", "()Z"⟩
def g_yN : MethodName := ⟨"java/util/Iterator", "next", "()Ljava/lang/Object;"⟩
def g_Ks (d : g_D) (U : State) : Prop :=
  (∀ w ∈ lw_tbl, g_mv w = true → va_Nw w U) ∧ (∀ q ∈ g_ncl, va_Nc q.1 q.2 U) ∧ va_Fw "java/util/ArrayList$Itr" g_yH yJ16_hasNext U ∧ va_Fw "java/util/ArrayList$Itr" g_yN yJ16_next U ∧ va_AO "java/lang/Object" U ∧ va_Mi "[Ljava/lang/Object;" (d.2.2 5) U ∧ va_Dc U
theorem g_Ks.warm {d : g_D} {s U : State} (hW : s.WarmedH U.vm) (h : g_Ks d s) : g_Ks d U :=
  ⟨fun w hw hm => g_mv_warm hm hW (h.1 w hw hm), fun q hq => va_Nc.moved hW.alike (h.2.1 q hq), va_Fw.moved (by decide) hW.alike h.2.2.1, va_Fw.moved (by decide) hW.alike h.2.2.2.1, va_AO.moved hW.alike h.2.2.2.2.1, va_Mi.moved hW.alike h.2.2.2.2.2.1, va_Dc.moved hW.alike h.2.2.2.2.2.2⟩
theorem g_Ks.vm {d : g_D} {s U : State} (e : s.vm = U.vm) (h : g_Ks d s) : g_Ks d U := by
  have ha : s.vm.Alike U.vm := by rw [e]; exact Vm.Alike.refl _
  exact ⟨fun w hw hm => g_mv_vm hm e (h.1 w hw hm), fun q hq => va_Nc.moved ha (h.2.1 q hq), va_Fw.moved (by decide) ha h.2.2.1, va_Fw.moved (by decide) ha h.2.2.2.1, va_AO.moved ha h.2.2.2.2.1, va_Mi.moved ha h.2.2.2.2.2.1, va_Dc.moved ha h.2.2.2.2.2.2⟩
def g_kn : Nat → String | 0 => "LEAF" | 1 => "PARALLEL" | 2 => "SERIES" | _ => "PRIME"
def g_kc : Nat → String | 0 => "GraphModules$Kind$1" | 1 => "GraphModules$Kind$2" | 2 => "GraphModules$Kind$3" | _ => "GraphModules$Kind$4"
def g_Zk (d : g_D) (A : Nat → Prop) (U : State) (H : Heap) (i : Nat) : Prop := va_Z "GraphModules$Kind" (g_kn i) "LGraphModules$Kind;" (.ref (d.2.2 i)) A U H ∧ va_O (g_kc i) (d.2.2 i) A U H ∧ va_OF "java/lang/Enum" "ordinal" "I" (.int (nI i)) (d.2.2 i) A U H
def g_Z1 (A : Nat → Prop) (U : State) (H : Heap) : Prop := va_Z "GraphModules" "EDGES" "I" (.int 100) A U H ∧ va_Z "java/lang/String" "COMPACT_STRINGS" "Z" (.int 1) A U H
def g_Z2 (d : g_D) (A : Nat → Prop) (U : State) (H : Heap) : Prop := va_Z "java/util/ArrayList" "DEFAULTCAPACITY_EMPTY_ELEMENTDATA" "[Ljava/lang/Object;" (.ref (d.2.2 4)) A U H ∧ va_T (.object "java/lang/Object") (d.2.2 4) 0 (fun _ => .null) A U H
def g_Z3 (A : Nat → Prop) (U : State) (H : Heap) : Prop := vx_Zq "java/lang/Throwable" "UNASSIGNED_STACK" "[Ljava/lang/StackTraceElement;" A U H ∧ vx_Zq "java/lang/Throwable" "SUPPRESSED_SENTINEL" "Ljava/util/List;" A U H ∧ va_Zq "jdk/internal/util/Preconditions" "SIOOBE_FORMATTER" "Ljava/util/function/BiFunction;" A U H
def g_X (d : g_D) (A : Nat → Prop) (U : State) (H : Heap) : Prop :=
  g_Ks d U ∧ (∀ i, i < 4 → g_Zk d A U H i) ∧ (∀ i j, i < 4 → j < 4 → d.2.2 i = d.2.2 j → i = j) ∧ g_Z1 A U H ∧ g_Z2 d A U H ∧ g_Z3 A U H
theorem g_X.vm {d : g_D} {A : Nat → Prop} {U U' : State} {H : Heap} (e : U.vm = U'.vm) (h : g_X d A U H) : g_X d A U' H := by
  have ha : U.vm.Alike U'.vm := by rw [e]; exact Vm.Alike.refl _
  exact ⟨h.1.vm e, fun i hi => ⟨va_Z.moved ha (h.2.1 i hi).1, va_O.moved ha (h.2.1 i hi).2.1, va_OF.moved ha (h.2.1 i hi).2.2⟩, h.2.2.1, ⟨va_Z.moved ha h.2.2.2.1.1, va_Z.moved ha h.2.2.2.1.2⟩, ⟨va_Z.moved ha h.2.2.2.2.1.1, va_T.moved ha h.2.2.2.2.1.2⟩, vx_Zq.moved ha h.2.2.2.2.2.1, vx_Zq.moved ha h.2.2.2.2.2.2.1, va_Zq.moved ha h.2.2.2.2.2.2.2⟩
theorem g_X.call {d : g_D} {A B : Nat → Prop} {s U : State} {H0 H : Heap} (h : g_X d A s H0) (hk : ∀ q : Nat, q < H0.size → ¬ A q → H[q]? = H0[q]?) (hW : s.WarmedH U.vm) (hAB : ∀ q, B q → A q) : g_X d B U H := by
  have ha := hW.alike
  exact ⟨h.1.warm hW, fun i hi => ⟨((va_Z.moved ha (h.2.1 i hi).1).kept hk).narrow hAB, ((va_O.moved ha (h.2.1 i hi).2.1).kept hk).narrow hAB, ((va_OF.moved ha (h.2.1 i hi).2.2).kept hk).narrow hAB⟩, h.2.2.1, ⟨((va_Z.moved ha h.2.2.2.1.1).kept hk).narrow hAB, ((va_Z.moved ha h.2.2.2.1.2).kept hk).narrow hAB⟩, ⟨((va_Z.moved ha h.2.2.2.2.1.1).kept hk).narrow hAB, ((va_T.moved ha h.2.2.2.2.1.2).kept hk).narrow hAB⟩, ((vx_Zq.moved ha h.2.2.2.2.2.1).kept hk).narrow hAB, ((vx_Zq.moved ha h.2.2.2.2.2.2.1).kept hk).narrow hAB, ((va_Zq.moved ha h.2.2.2.2.2.2.2).kept hk).narrow hAB⟩
def g_G (d : g_D) (A : Nat → Prop) (U : State) (H : Heap) : Prop := va_K d.1 g_cl (g_tys d) U ∧ g_X d A U H
def g_HP (d : g_D) (cs : List va_W) (H : Heap) : Prop := ∀ q ∈ cs.flatten, va_at d.1 g_cl q H
def g_HD (A : Nat → Prop) (cs : List va_W) : Prop := (cs.flatten.map (fun q => q.1)).Nodup ∧ ∀ q ∈ cs.flatten, A q.1
theorem g_P_of {d : g_D} {ws : va_W} {H : Heap} (h : ∀ q ∈ ws, va_at d.1 g_cl q H) : va_P d.1 g_cl ws H := fun k q hk => h q (List.mem_of_getElem? hk)
theorem g_P_to {d : g_D} {ws : va_W} {H : Heap} (h : va_P d.1 g_cl ws H) : ∀ q ∈ ws, va_at d.1 g_cl q H := by
  intro q hq
  obtain ⟨i, hi⟩ := List.getElem?_of_mem hq
  exact h i q hi
theorem g_D_of {A : Nat → Prop} {ws : va_W} (h : (ws.map (fun q => q.1)).Nodup ∧ ∀ q ∈ ws, A q.1) : va_D A ws := by
  refine ⟨fun i j p q hi hj e => ?_, fun k q hk => h.2 q (List.mem_of_getElem? hk)⟩
  have hn := List.pairwise_iff_getElem.mp (List.nodup_iff_pairwise_ne.mp h.1)
  obtain ⟨li, ei⟩ := List.getElem?_eq_some_iff.mp hi
  obtain ⟨lj, ej⟩ := List.getElem?_eq_some_iff.mp hj
  rcases Nat.lt_trichotomy i j with g | g | g
  · exact absurd (by rw [List.getElem_map, List.getElem_map, ei, ej]; exact e) (hn i j (by simpa using li) (by simpa using lj) g)
  · exact g
  · exact absurd (by rw [List.getElem_map, List.getElem_map, ei, ej]; exact e.symm) (hn j i (by simpa using lj) (by simpa using li) g)
theorem g_D_to {A : Nat → Prop} {ws : va_W} (h : va_D A ws) : (ws.map (fun q => q.1)).Nodup ∧ ∀ q ∈ ws, A q.1 := by
  refine ⟨List.nodup_iff_pairwise_ne.mpr (List.pairwise_iff_getElem.mpr fun i j hi hj hij e => ?_), fun q hq => ?_⟩
  · have li : i < ws.length := by simpa using hi
    have lj : j < ws.length := by simpa using hj
    have := h.1 i j ws[i] ws[j] (List.getElem?_eq_getElem li) (List.getElem?_eq_getElem lj) (by simpa using e)
    omega
  · obtain ⟨i, hi⟩ := List.getElem?_of_mem hq
    exact h.2 i q hi
theorem g_HP_perm {d : g_D} {cs cs' : List va_W} {H : Heap} (p : cs.Perm cs') (h : g_HP d cs H) : g_HP d cs' H := fun q hq => h q (p.flatten.mem_iff.mpr hq)
theorem g_HD_perm {A : Nat → Prop} {cs cs' : List va_W} (p : cs.Perm cs') (h : g_HD A cs) : g_HD A cs' :=
  ⟨((p.flatten.map _).nodup_iff).mp h.1, fun q hq => h.2 q (p.flatten.mem_iff.mpr hq)⟩
theorem g_HP_left {d : g_D} {a b : List va_W} {H : Heap} (h : g_HP d (a ++ b) H) : g_HP d a H := fun q hq => h q (by rw [List.flatten_append]; exact List.mem_append_left _ hq)
theorem g_HD_left {A : Nat → Prop} {a b : List va_W} (h : g_HD A (a ++ b)) : g_HD A a := by
  obtain ⟨h1, h2⟩ := h
  rw [List.flatten_append] at h1 h2
  rw [List.map_append] at h1
  exact ⟨(List.nodup_append.mp h1).1, fun q hq => h2 q (List.mem_append_left _ hq)⟩
/-- the chunks at the places is, in this order -/
theorem g_pick {α : Type} (cs : List α) : (List.range cs.length).filterMap (fun i => cs[i]?) = cs := by
  apply List.ext_getElem?
  intro i
  induction cs generalizing i with
  | nil => simp
  | cons a l ih =>
    rw [List.length_cons, List.range_succ_eq_map]
    simp only [List.filterMap_cons, List.getElem?_cons_zero, List.filterMap_map]
    cases i with
    | zero => simp
    | succ i =>
      simp only [List.getElem?_cons_succ]
      rw [← ih i]
      congr 1
theorem g_pick_perm {α : Type} {cs : List α} {is : List Nat} (h : is.Perm (List.range cs.length)) : (is.filterMap (fun i => cs[i]?)).Perm cs := by
  have h1 := h.filterMap (fun i => cs[i]?)
  rw [g_pick] at h1
  exact h1
def g_rest (is : List Nat) (n : Nat) : List Nat := (List.range n).filter (fun i => !is.contains i)
def g_ok (is : List Nat) (n : Nat) : Bool := (is ++ g_rest is n).isPerm (List.range n)
/-- what holds in a method's walk: its world's chunks cs at the heap H, nothing else touched, all that is known of the tables -/
def g_HS (d : g_D) (A : Nat → Prop) (s : State) (cs : List va_W) (H : Heap) (locs : List Loc) : Prop :=
  g_HP d cs H ∧ g_HD A cs ∧ va_S A s.heap H locs ∧ (∀ q : Nat, s.heap.size ≤ q → A q) ∧ g_G d A s s.heap
theorem g_HS.reord {d : g_D} {A : Nat → Prop} {s : State} {cs cs' : List va_W} {H : Heap} {locs : List Loc} (h : g_HS d A s cs H locs) (p : cs.Perm cs') : g_HS d A s cs' H locs :=
  ⟨g_HP_perm p h.1, g_HD_perm p h.2.1, h.2.2⟩
/-- some of the chunks, in any order: the others are forgotten -/
theorem g_HS.sub {d : g_D} {A : Nat → Prop} {s : State} {cs cs' : List va_W} {H : Heap} {locs : List Loc} (h : g_HS d A s cs H locs) (is : List Nat) (hp : g_ok is cs.length = true) (hs : is.filterMap (fun i => cs[i]?) = cs') : g_HS d A s cs' H locs := by
  have h1 := g_pick_perm (cs := cs) (List.isPerm_iff.mp hp)
  rw [List.filterMap_append, hs] at h1
  have h2 := h.reord h1.symm
  exact ⟨g_HP_left h2.1, g_HD_left h2.2.1, h2.2.2⟩
theorem g_erase_perm {α : Type} : ∀ {cs : List α} {p : Nat} {c : α}, cs[p]? = some c → (c :: cs.eraseIdx p).Perm cs
  | [], p, c, h => by simp at h
  | a :: l, 0, c, h => by simp at h; subst h; exact List.Perm.refl _
  | a :: l, p + 1, c, h => by
    have ih := g_erase_perm (cs := l) (p := p) (c := c) (by simpa using h)
    exact (List.Perm.swap a c _).trans (ih.cons a)
theorem g_set_perm {α : Type} {cs : List α} {p : Nat} {c c' : α} (h : cs[p]? = some c) : (cs.set p c').Perm (c' :: cs.eraseIdx p) := by
  have hl := (List.getElem?_eq_some_iff.mp h).1
  have h1 := g_erase_perm (cs := cs.set p c') (p := p) (c := c') (by simp [hl])
  have h2 : (cs.set p c').eraseIdx p = cs.eraseIdx p := by
    apply List.ext_getElem?
    intro i
    simp only [List.getElem?_eraseIdx]
    split
    · rw [List.getElem?_set_ne (by omega)]
    · rw [List.getElem?_set_ne (by omega)]
  rw [h2] at h1
  exact h1.symm
theorem g_front {d : g_D} {A : Nat → Prop} {s : State} {cs : List va_W} {H : Heap} {locs : List Loc} {p : Nat} {c : va_W} (h : g_HS d A s cs H locs) (hc : cs[p]? = some c) :
    va_P d.1 g_cl (c ++ (cs.eraseIdx p).flatten) H ∧ va_D A (c ++ (cs.eraseIdx p).flatten) := by
  have h1 := h.reord (g_erase_perm hc).symm
  have e : (c :: cs.eraseIdx p).flatten = c ++ (cs.eraseIdx p).flatten := by simp
  have h2 := h1.1
  have h3 := h1.2.1
  unfold g_HP at h2
  unfold g_HD at h3
  rw [e] at h2 h3
  exact ⟨g_P_of h2, g_D_of h3⟩
theorem g_back {d : g_D} {A : Nat → Prop} {s : State} {cs : List va_W} {H H1 : Heap} {locs locs1 : List Loc} {p : Nat} {c c' : va_W} (h : g_HS d A s cs H locs) (hc : cs[p]? = some c)
    (hP : va_P d.1 g_cl (c' ++ (cs.eraseIdx p).flatten) H1) (hD : va_D A (c' ++ (cs.eraseIdx p).flatten)) (hS : va_S A s.heap H1 locs1) : g_HS d A s (cs.set p c') H1 locs1 := by
  have e : (c' :: cs.eraseIdx p).flatten = c' ++ (cs.eraseIdx p).flatten := by simp
  refine ⟨g_HP_perm (g_set_perm hc).symm ?_, g_HD_perm (g_set_perm hc).symm ?_, hS, h.2.2.2⟩
  · unfold g_HP; rw [e]; exact g_P_to hP
  · unfold g_HD; rw [e]; exact g_D_to hD
theorem g_at {c r : va_W} {k : Nat} {x : Nat × va_E} (h : c[k]? = some x) : (c ++ r)[k]? = some x := by
  have hl := (List.getElem?_eq_some_iff.mp h).1
  rw [List.getElem?_append_left hl]
  exact h
theorem g_setl {c r : va_W} {k : Nat} {x y : Nat × va_E} (h : c[k]? = some x) : (c ++ r).set k y = c.set k y ++ r := by
  have hl := (List.getElem?_eq_some_iff.mp h).1
  rw [List.set_append]
  simp [hl]
/-- what a method's frame stands on -/
def g_F (p : Program) (m : MethodId) (c : Code) (cc : ByteArray) (nL : Nat) (s : State) (args : Array Value) (own : String) (meth : Method) (rt : Option FieldType) : Prop :=
  (p.tables.exec = Jvm.exec ∧ c.code = cc ∧ c.maxLocals = nL ∧ s.vm.findClass own = some m.cls ∧ ∀ w ∈ lw_all, w.before args s = true) ∧ meth.sig.returnType = rt ∧ meth.locks = false
section GB
variable {p : Program} {l : Launch} {e : Env} {R : Room} {s : State} {m : MethodId} {args : Array Value} {below : List Frame} {meth : Method} {c : Code} {H : Heap} {locs : List Loc} {cells slots : Nat} {Q : State → Prop}
variable {cc : ByteArray} {pc nL : Nat} {ls : Array Slot} {rest : List Value} {d : g_D} {A : Nat → Prop} {a : Nat} {cs cs' : List va_W} {own : String} {rt : Option FieldType} {ch ch' : va_W}
theorem g_get (hF : g_F p m c cc nL s args own meth rt) (hH : g_HS d A s cs H locs) {ref C : String} {T : u_T} {N ci index : Nat} (hin : ∀ w ∈ u_ws C T N, w ∈ lw_all) (hcl : g_cl[ci]? = some (C, T, N))
    (p0 k0 : Nat) (hc : cs[p0]? = some ch) {fs : List Value} (he : ch[k0]? = some (a, .inr (ci, fs))) (k : Nat) (hk : k < N) (hlink : Cond.fieldLink own index ref (T k).2.1 (T k).2.2.1 ∈ lw_all) (hsame : ∀ x, s.fieldFound? (T k).1 (T k).2.1 (T k).2.2.1 = some x → s.fieldFound? ref (T k).2.1 (T k).2.2.1 = some x) {v : Value} (hv : fs[k]? = some v) (hdg : decode cc pc = .ok (.getfield index, 3))
    (kk : W p l e R s m args below meth c H locs cells slots Q (F0 m (pc + 3) ls (v :: rest))) : W p l e R s m args below meth c H locs cells slots Q (F0 m pc ls (.ref a :: rest)) := by
  obtain ⟨⟨hx, hb, hml, hown, hts⟩, hr, hlk⟩ := hF
  exact va_get (D := d.1) (cl := g_cl) hx hb hts hin hown hH.2.2.2.2.1 (g_front hH hc).1 k0 (g_at he) hcl k hk (hts _ hlink) hsame hv hdg kk
theorem g_put (hF : g_F p m c cc nL s args own meth rt) (hH : g_HS d A s cs H locs) {ref C : String} {T : u_T} {N ci index : Nat} (hin : ∀ w ∈ u_ws C T N, w ∈ lw_all) (hcl : g_cl[ci]? = some (C, T, N)) (ty0 : Nat → FieldType) (hty : ∀ k, k < N → parseFieldDescriptor (T k).2.2.1 = some (ty0 k)) (hnm : ∀ a, a < N → ∀ b, b < N → a ≠ b → (T a).2.1 ≠ (T b).2.1)
    (p0 k0 : Nat) (hc : cs[p0]? = some ch) {fs : List Value} (he : ch[k0]? = some (a, .inr (ci, fs))) (k : Nat) (hk : k < N) (hlink : Cond.fieldLink own index ref (T k).2.1 (T k).2.2.1 ∈ lw_all) (hsame : ∀ x, s.fieldFound? (T k).1 (T k).2.1 (T k).2.2.1 = some x → s.fieldFound? ref (T k).2.1 (T k).2.2.1 = some x) (hfin : (T k).2.2.2 = false) {ty : FieldType} {v : Value} (hd : parseFieldDescriptor (T k).2.2.1 = some ty) (hn : narrow ty v = v) (hfit : fits ty v = true) (hl : k < fs.length)
    (hdg : decode cc pc = .ok (.putfield index, 3)) (hc' : ch.set k0 (a, .inr (ci, fs.set k v)) = ch') (hcs : cs.set p0 ch' = cs')
    (kk : ∀ (H1 : Heap) (locs1 : List Loc), g_HS d A s cs' H1 locs1 → W p l e R s m args below meth c H1 locs1 cells slots Q (F0 m (pc + 3) ls rest)) : W p l e R s m args below meth c H locs cells slots Q (F0 m pc ls (v :: .ref a :: rest)) := by
  obtain ⟨⟨hx, hb, hml, hown, hts⟩, hr, hlk⟩ := hF
  obtain ⟨hP, hD⟩ := g_front hH hc
  refine va_put (D := d.1) (cl := g_cl) hx hb hts hin ty0 hty hnm hown hH.2.2.2.2.1 hP hD hH.2.2.1 k0 (g_at he) hcl k hk (hts _ hlink) hsame hfin hd hn hfit hl hdg fun H1 locs1 hP1 hD1 hS1 => ?_
  rw [g_setl he, hc'] at hP1 hD1
  subst hcs
  exact kk H1 locs1 (g_back hH hc hP1 hD1 hS1)
theorem g_iald (hF : g_F p m c cc nL s args own meth rt) (hH : g_HS d A s cs H locs) (p0 k0 : Nat) (hc : cs[p0]? = some ch) {n : Nat} {f : Nat → Int32} (he : ch[k0]? = some (a, .inl (d.2.1 0, n, .inl f))) {i : Int32} (hin : vp_in i n) (hdg : decode cc pc = .ok (.iaload, 1))
    (kk : W p l e R s m args below meth c H locs cells slots Q (F0 m (pc + 1) ls (.int (f i.toNatClampNeg) :: rest))) : W p l e R s m args below meth c H locs cells slots Q (F0 m pc ls (.int i :: .ref a :: rest)) := by
  obtain ⟨⟨hx, hb, hml, hown, hts⟩, hr, hlk⟩ := hF
  exact va_iald (D := d.1) (cl := g_cl) (tys := g_tys d) hx hb hH.2.2.2.2.1 (g_front hH hc).1 k0 0 (g_at he) rfl hin hdg kk
theorem g_zald (hF : g_F p m c cc nL s args own meth rt) (hH : g_HS d A s cs H locs) (p0 k0 : Nat) (hc : cs[p0]? = some ch) {n : Nat} {f : Nat → Int32} (he : ch[k0]? = some (a, .inl (d.2.1 1, n, .inl f))) {i : Int32} (hin : vp_in i n) (hdg : decode cc pc = .ok (.baload, 1))
    (kk : W p l e R s m args below meth c H locs cells slots Q (F0 m (pc + 1) ls (.int (f i.toNatClampNeg) :: rest))) : W p l e R s m args below meth c H locs cells slots Q (F0 m pc ls (.int i :: .ref a :: rest)) := by
  obtain ⟨⟨hx, hb, hml, hown, hts⟩, hr, hlk⟩ := hF
  exact va_zald (D := d.1) (cl := g_cl) (tys := g_tys d) hx hb hH.2.2.2.2.1 (g_front hH hc).1 k0 1 (g_at he) rfl hin hdg kk
theorem g_iast (hF : g_F p m c cc nL s args own meth rt) (hH : g_HS d A s cs H locs) (p0 k0 : Nat) (hc : cs[p0]? = some ch) {n : Nat} {f : Nat → Int32} (he : ch[k0]? = some (a, .inl (d.2.1 0, n, .inl f))) {i x : Int32} (hin : vp_in i n) (hdg : decode cc pc = .ok (.iastore, 1)) (hc' : ch.set k0 (a, .inl (d.2.1 0, n, .inl (upd f i.toNatClampNeg x))) = ch') (hcs : cs.set p0 ch' = cs')
    (kk : ∀ (H1 : Heap) (locs1 : List Loc), g_HS d A s cs' H1 locs1 → W p l e R s m args below meth c H1 locs1 cells slots Q (F0 m (pc + 1) ls rest)) : W p l e R s m args below meth c H locs cells slots Q (F0 m pc ls (.int x :: .int i :: .ref a :: rest)) := by
  obtain ⟨⟨hx, hb, hml, hown, hts⟩, hr, hlk⟩ := hF
  obtain ⟨hP, hD⟩ := g_front hH hc
  refine va_iast (D := d.1) (cl := g_cl) (tys := g_tys d) hx hb hH.2.2.2.2.1 hP hD hH.2.2.1 k0 0 (g_at he) rfl hin hdg fun H1 locs1 hP1 hD1 hS1 => ?_
  rw [g_setl he, hc'] at hP1 hD1
  subst hcs
  exact kk H1 locs1 (g_back hH hc hP1 hD1 hS1)
theorem g_zast (hF : g_F p m c cc nL s args own meth rt) (hH : g_HS d A s cs H locs) (p0 k0 : Nat) (hc : cs[p0]? = some ch) {n : Nat} {f : Nat → Int32} (he : ch[k0]? = some (a, .inl (d.2.1 1, n, .inl f))) {i x : Int32} (hin : vp_in i n) (hdg : decode cc pc = .ok (.bastore, 1)) (hc' : ch.set k0 (a, .inl (d.2.1 1, n, .inl (upd f i.toNatClampNeg (vp_nar .boolean x)))) = ch') (hcs : cs.set p0 ch' = cs')
    (kk : ∀ (H1 : Heap) (locs1 : List Loc), g_HS d A s cs' H1 locs1 → W p l e R s m args below meth c H1 locs1 cells slots Q (F0 m (pc + 1) ls rest)) : W p l e R s m args below meth c H locs cells slots Q (F0 m pc ls (.int x :: .int i :: .ref a :: rest)) := by
  obtain ⟨⟨hx, hb, hml, hown, hts⟩, hr, hlk⟩ := hF
  obtain ⟨hP, hD⟩ := g_front hH hc
  refine va_zast (D := d.1) (cl := g_cl) (tys := g_tys d) hx hb hH.2.2.2.2.1 hP hD hH.2.2.1 k0 1 (g_at he) rfl hin hdg fun H1 locs1 hP1 hD1 hS1 => ?_
  rw [g_setl he, hc'] at hP1 hD1
  subst hcs
  exact kk H1 locs1 (g_back hH hc hP1 hD1 hS1)
end GB
/-! contracts over chunks: how a method is entered, left, called -/
theorem g_G.vm {d : g_D} {A : Nat → Prop} {U U' : State} {H : Heap} (e : U.vm = U'.vm) (h : g_G d A U H) : g_G d A U' H := ⟨va_K.moved (by rw [e]; exact Vm.Alike.refl _) h.1, g_X.vm e h.2⟩
theorem g_G.call {d : g_D} {A B : Nat → Prop} {s U : State} {H0 H : Heap} (h : g_G d A s H0) (hk : ∀ q : Nat, q < H0.size → ¬ A q → H[q]? = H0[q]?) (hW : s.WarmedH U.vm) (hAB : ∀ q, B q → A q) : g_G d B U H := ⟨va_K.moved hW.alike h.1, g_X.call h.2 hk hW hAB⟩
def g_Pc (d : g_D) (as : List Value) (wc : List va_W) (sz : Nat) : Array Value → State → Prop := va_Pc as (fun U => U.heap.size = sz ∧ g_HP d wc U.heap ∧ g_HD (fun _ => True) wc ∧ g_G d (va_A wc.flatten sz) U U.heap)
def g_Qc (d : g_D) (post : Option Value → List va_W → Prop) (A : Nat → Prop) : Array Value → State → Outcome → State → Prop := fun _ st oc t => (∃ (v : Option Value) (w1 : List va_W), oc = .returned v ∧ post v w1 ∧ g_HP d w1 t.heap ∧ g_HD A w1) ∧ va_F A st t
/-- a method's contract: its arguments, its world's chunks, the room, what it answers and which chunks it leaves -/
def g_Met (l : Launch) (d : g_D) (y : MethodName) (cc : ByteArray) (nL : Nat) (rt : Option FieldType) (rm : Room) (as : List Value) (wc : List va_W) (mc ms : Nat) (post : Option Value → List va_W → Prop) : Prop :=
  ∀ sz : Nat, Met l y (ws_ y cc nL rt) rm (g_Pc d as wc sz) (g_Qc d post (va_A wc.flatten sz)) mc ms (va_A wc.flatten sz)
def g_E (d : g_D) (post : Option Value → List va_W → Prop) (A : Nat → Prop) (below : List Frame) (args : Array Value) (s : State) (mc ms : Nat) : State → Prop := MQ below (g_Qc d post A) args s mc ms A
theorem g_blind {d : g_D} {as : List Value} {wc : List va_W} {sz : Nat} : FrameBlind (g_Pc d as wc sz) := fun a U g mk h => ⟨h.1, h.2.1, h.2.2.1, h.2.2.2.1, (show g_G d (va_A wc.flatten sz) (U.calling g mk a) U.heap from g_G.vm (U := U) rfl h.2.2.2.2)⟩
theorem g_A_in {wc : List va_W} {sz : Nat} {q : Nat × va_E} (h : q ∈ wc.flatten) : va_A wc.flatten sz q.1 := by
  obtain ⟨k, hk⟩ := List.getElem?_of_mem h
  exact Or.inl ⟨k, q.2, hk⟩
theorem g_A_of {wc : List va_W} {sz q : Nat} (h : va_A wc.flatten sz q) : (∃ x ∈ wc.flatten, x.1 = q) ∨ sz ≤ q := by
  rcases h with ⟨k, e, h⟩ | h
  · exact Or.inl ⟨_, List.mem_of_getElem? h, rfl⟩
  · exact Or.inr h
theorem g_free {d : g_D} {A : Nat → Prop} {s : State} {wc wr : List va_W} {H : Heap} {locs : List Loc} (hH : g_HS d A s (wc ++ wr) H locs) : ∀ q, va_A wc.flatten H.size q → A q := by
  intro q h
  rcases g_A_of h with ⟨x, hx, rfl⟩ | h
  · exact hH.2.1.2 x (by rw [List.flatten_append]; exact List.mem_append_left _ hx)
  · exact hH.2.2.2.1 q (Nat.le_trans hH.2.2.1.1 h)
theorem g_apart {d : g_D} {A : Nat → Prop} {s : State} {wc wr : List va_W} {H : Heap} {locs : List Loc} (hH : g_HS d A s (wc ++ wr) H locs) : ∀ q ∈ wr.flatten, q.1 < H.size ∧ ¬ va_A wc.flatten H.size q.1 := by
  intro q hq
  have hl : q.1 < H.size := (hH.1 q (by rw [List.flatten_append]; exact List.mem_append_right _ hq)).lt
  refine ⟨hl, fun h => ?_⟩
  rcases g_A_of h with ⟨x, hx, e⟩ | h
  · have hn := hH.2.1.1
    rw [List.flatten_append, List.map_append] at hn
    exact (List.nodup_append.mp hn).2.2 _ (List.mem_map_of_mem hx) _ (List.mem_map_of_mem hq) e
  · omega
theorem g_pre {d : g_D} {A : Nat → Prop} {s : State} {wc wr : List va_W} {H : Heap} {locs : List Loc} (hH : g_HS d A s (wc ++ wr) H locs) (as : List Value) : ∀ U : State, U.heap = H → s.WarmedH U.vm → g_Pc d as wc H.size as.toArray U := by
  intro U hU hW
  refine ⟨rfl, by rw [hU], by rw [hU]; exact g_HP_left hH.1, ?_, ?_⟩
  · exact ⟨(g_HD_left hH.2.1).1, fun _ _ => trivial⟩
  · rw [hU]
    exact g_G.call hH.2.2.2.2 hH.2.2.1.2.1 hW (g_free hH)
theorem g_behind {d : g_D} {A : Nat → Prop} {s : State} {wc wr w1 : List va_W} {H H1 : Heap} {locs locs1 : List Loc} (hH : g_HS d A s (wc ++ wr) H locs) (hP : g_HP d w1 H1) (hD : g_HD (va_A wc.flatten H.size) w1) (hk : ∀ q : Nat, q < H.size → ¬ va_A wc.flatten H.size q → H1[q]? = H[q]?) (hS : va_S A s.heap H1 locs1) : g_HS d A s (wr ++ w1) H1 locs1 := by
  have hap := g_apart hH
  refine ⟨fun q hq => ?_, ⟨?_, fun q hq => ?_⟩, hS, hH.2.2.2⟩
  · rw [List.flatten_append] at hq
    rcases List.mem_append.mp hq with h | h
    · exact (hH.1 q (by rw [List.flatten_append]; exact List.mem_append_right _ h)).kept (hk _ (hap q h).1 (hap q h).2)
    · exact hP q h
  · rw [List.flatten_append, List.map_append]
    have hn := hH.2.1.1
    rw [List.flatten_append, List.map_append] at hn
    refine List.nodup_append.mpr ⟨(List.nodup_append.mp hn).2.1, hD.1, fun a ha b hb e => ?_⟩
    obtain ⟨x, hx, rfl⟩ := List.mem_map.mp ha
    obtain ⟨y, hy, rfl⟩ := List.mem_map.mp hb
    exact (hap x hx).2 (by rw [e]; exact hD.2 y hy)
  · rw [List.flatten_append] at hq
    rcases List.mem_append.mp hq with h | h
    · exact hH.2.1.2 q (by rw [List.flatten_append]; exact List.mem_append_right _ h)
    · exact g_free hH _ (hD.2 q h)
theorem g_split {cs wc wr : List va_W} (is : List Nat) (hp : g_ok is cs.length = true) (hC : is.filterMap (fun i => cs[i]?) = wc) (hR : (g_rest is cs.length).filterMap (fun i => cs[i]?) = wr) : cs.Perm (wc ++ wr) := by
  have h1 := g_pick_perm (cs := cs) (List.isPerm_iff.mp hp)
  rw [List.filterMap_append, hC, hR] at h1
  exact h1.symm
section GC
variable {p : Program} {l : Launch} {e : Env} {R : Room} {s : State} {m : MethodId} {args : Array Value} {below : List Frame} {meth : Method} {c : Code} {H : Heap} {locs : List Loc} {cells slots : Nat} {Q : State → Prop}
variable {cc : ByteArray} {pc nL : Nat} {ls : Array Slot} {rest st0 : List Value} {d : g_D} {A : Nat → Prop} {cs wc wr : List va_W} {own : String} {rt : Option FieldType} {post : Option Value → List va_W → Prop} {mc ms : Nat}
theorem g_called {a : Array Value} (hr : va_Run p l e R s m args below meth c H locs cells slots mc ms (F0 m pc ls st0) rest (g_Qc d post (va_A wc.flatten H.size) a) (va_A wc.flatten H.size)) (hH : g_HS d A s (wc ++ wr) H locs)
    (kk : ∀ (v : Option Value) (w1 : List va_W) (H1 : Heap) (locs1 : List Loc), post v w1 → g_HS d A s (wr ++ w1) H1 locs1 → W p l e R s m args below meth c H1 locs1 (cells + mc) (slots + ms) Q (F0 m (pc + 3) ls (v.toList ++ rest))) : W p l e R s m args below meth c H locs cells slots Q (F0 m pc ls st0) := by
  intro T hT X
  obtain ⟨v, st₀, t, T', L, h0, X', hL, e1, e2, ⟨⟨v', w1, hv, hp, hP1, hD1⟩, hz, hk⟩, st⟩ := hr T hT X
  cases hv
  rw [h0] at hz hk
  have hfr := g_free hH
  have hS := hH.2.2.1
  obtain ⟨t2, a1, b1⟩ := kk v w1 T'.heap (locs ++ L) hp (g_behind hH (by rw [e1]; exact hP1) hD1 (fun q h1 h2 => by rw [e1]; exact hk q h1 h2)
    ⟨Nat.le_trans hS.1 (by rw [e1]; exact hz), fun q h1 h2 => by rw [e1, hk q (Nat.lt_of_lt_of_le h1 hS.1) (fun z => h2 (hfr q z))]; exact hS.2.1 q h1 h2, fun q hq => by
      rcases List.mem_append.mp hq with h | h
      · exact hS.2.2 q h
      · exact hfr _ (hL q h)⟩) T' rfl X'
  exact ⟨t2, st t2 a1, b1⟩
theorem g_HS_split (hH : g_HS d A s cs H locs) (is : List Nat) (hp : g_ok is cs.length = true) (hC : is.filterMap (fun i => cs[i]?) = wc) (hR : (g_rest is cs.length).filterMap (fun i => cs[i]?) = wr) : g_HS d A s (wc ++ wr) H locs := hH.reord (g_split is hp hC hR)
variable {y : MethodName} {bytes : ByteArray} {maxL index : Nat} {ret : Option FieldType} {rm : Room} {C : String} {b : Addr}
/-- a call through an object that lies in the chunk q0 of the callee's, at its place k0 -/
theorem g_cV (As : List Value) (n : Nat) (hn : As.length = n) (hF : g_F p m c cc nL s args own meth rt) (hM : g_Met l d y bytes maxL ret rm (.ref b :: As) wc mc ms post) (h1 : Cond.methodLink own index y ∈ lw_all) (h2 : Cond.instanceMethod y ∈ lw_all) (h3 : Cond.selects C y y ∈ lw_all) (h4 : Cond.initialized C ∈ lw_all) (h5 : Cond.code y bytes maxL ret ∈ lw_all)
    (hrc : rm.cells = mc) (hrs : rm.slots = ms) (hd : y.cls = C ∧ y.cls ≠ "java/lang/invoke/MethodHandle" ∧ y.cls ≠ "java/lang/invoke/VarHandle" ∧ (parseMethodDescriptor y.desc).map (fun d => d.parameters.length) = some n) (hR : rm.frames + 1 ≤ R.frames ∧ 8 + (maxL + 11) + rm.locals ≤ R.locals)
    (hH : g_HS d A s cs H locs) (is : List Nat) (hp : g_ok is cs.length = true) (hC : is.filterMap (fun i => cs[i]?) = wc) (hr : (g_rest is cs.length).filterMap (fun i => cs[i]?) = wr)
    (q0 k0 : Nat) {ch : va_W} {T : u_T} {N ci : Nat} {fs : List Value} (hq : wc[q0]? = some ch) (hb : ch[k0]? = some (b, .inr (ci, fs))) (hcl : g_cl[ci]? = some (C, T, N)) (hls : ls.size = nL) (hW : (rest.map fun v => v.category).sum ≤ 8) (hdg : decode cc pc = .ok (.invokevirtual index, 3)) (hf : cells + mc ≤ R.cells ∧ slots + ms ≤ R.slots)
    (kk : ∀ (v : Option Value) (w1 : List va_W) (H1 : Heap) (locs1 : List Loc), post v w1 → g_HS d A s (wr ++ w1) H1 locs1 → W p l e R s m args below meth c H1 locs1 (cells + mc) (slots + ms) Q (F0 m (pc + 3) ls (v.toList ++ rest))) : W p l e R s m args below meth c H locs cells slots Q (F0 m pc ls (As.reverse ++ .ref b :: rest)) := by
  have hH2 := g_HS_split hH is hp hC hr
  have hm : (b, (Sum.inr (ci, fs) : va_E)) ∈ (wc ++ wr).flatten := by
    rw [List.flatten_append]
    exact List.mem_append_left _ (List.mem_flatten.mpr ⟨ch, List.mem_of_getElem? hq, List.mem_of_getElem? hb⟩)
  have hrecv : ∃ cell : Cell, H[b]? = some cell ∧ cell.vm.isStatics = false ∧ s.vm.findClass C = some cell.cls := by
    obtain ⟨k, hk⟩ := List.getElem?_of_mem hm
    exact va_recv (ws := (wc ++ wr).flatten) hH.2.2.2.2.1 (g_P_of hH2.1) hcl hk
  have cw : CallW R s args own C index y bytes maxL ret (ws_ y bytes maxL ret) rm mc ms n := cwV n hF.1.2.2.2.2 (lw_V h1 h2 h3 h4 h5) rfl hrc hrs hd hR
  refine g_called (va_runV hF.1 (hM H.size) cw ⟨g_blind, hrecv, g_pre hH2 (.ref b :: As)⟩ rfl hn hls rfl (lv_room hW) hdg hf) hH2 kk
theorem g_cS (As : List Value) (n : Nat) (hn : As.length = n) (hF : g_F p m c cc nL s args own meth rt) (hM : g_Met l d y bytes maxL ret rm As wc mc ms post) (h1 : Cond.methodLink own index y ∈ lw_all) (h2 : Cond.static y ∈ lw_all) (h3 : Cond.initialized y.cls ∈ lw_all) (h4 : Cond.code y bytes maxL ret ∈ lw_all)
    (hrc : rm.cells = mc) (hrs : rm.slots = ms) (hd : y.cls ≠ "java/lang/invoke/MethodHandle" ∧ y.cls ≠ "java/lang/invoke/VarHandle" ∧ (parseMethodDescriptor y.desc).map (fun d => d.parameters.length) = some n) (hR : rm.frames + 1 ≤ R.frames ∧ 8 + (maxL + 11) + rm.locals ≤ R.locals)
    (hH : g_HS d A s cs H locs) (is : List Nat) (hp : g_ok is cs.length = true) (hC : is.filterMap (fun i => cs[i]?) = wc) (hr : (g_rest is cs.length).filterMap (fun i => cs[i]?) = wr)
    (hls : ls.size = nL) (hW : (rest.map fun v => v.category).sum ≤ 8) (hdg : decode cc pc = .ok (.invokestatic index, 3)) (hf : cells + mc ≤ R.cells ∧ slots + ms ≤ R.slots)
    (kk : ∀ (v : Option Value) (w1 : List va_W) (H1 : Heap) (locs1 : List Loc), post v w1 → g_HS d A s (wr ++ w1) H1 locs1 → W p l e R s m args below meth c H1 locs1 (cells + mc) (slots + ms) Q (F0 m (pc + 3) ls (v.toList ++ rest))) : W p l e R s m args below meth c H locs cells slots Q (F0 m pc ls (As.reverse ++ rest)) := by
  have hH2 := g_HS_split hH is hp hC hr
  have cw := va_cwS (R := R) (args := args) (s := s) (own := own) (index := index) (ws := ws_ y bytes maxL ret) (rm := rm) (mc := mc) (ms := ms) n hF.1.2.2.2.2 (lw_S h1 h2 h3 h4) rfl hrc hrs hd hR
  exact g_called (va_runS hF.1 (hM H.size) cw ⟨g_blind, g_pre hH2 As⟩ rfl hn hls rfl (lv_room hW) hdg hf) hH2 kk
theorem g_cI (As : List Value) (n : Nat) (hn : As.length = n) (hF : g_F p m c cc nL s args own meth rt) (hM : g_Met l d y bytes maxL none rm (.ref b :: As) wc mc ms post) (h1 : Cond.methodLink own index y ∈ lw_all) (h2 : Cond.instanceMethod y ∈ lw_all) (h3 : Cond.initialized y.cls ∈ lw_all) (h4 : Cond.code y bytes maxL none ∈ lw_all) (hy1 : y.name = "<init>")
    (hrc : rm.cells = mc) (hrs : rm.slots = ms) (hd : y.cls ≠ "java/lang/invoke/MethodHandle" ∧ y.cls ≠ "java/lang/invoke/VarHandle" ∧ (parseMethodDescriptor y.desc).map (fun d => d.parameters.length) = some n) (hR : rm.frames + 1 ≤ R.frames ∧ 8 + (maxL + 11) + rm.locals ≤ R.locals)
    (hH : g_HS d A s cs H locs) (is : List Nat) (hp : g_ok is cs.length = true) (hC : is.filterMap (fun i => cs[i]?) = wc) (hr : (g_rest is cs.length).filterMap (fun i => cs[i]?) = wr)
    (hls : ls.size = nL) (hW : (rest.map fun v => v.category).sum ≤ 8) (hdg : decode cc pc = .ok (.invokespecial index, 3)) (hf : cells + mc ≤ R.cells ∧ slots + ms ≤ R.slots)
    (kk : ∀ (v : Option Value) (w1 : List va_W) (H1 : Heap) (locs1 : List Loc), post v w1 → g_HS d A s (wr ++ w1) H1 locs1 → W p l e R s m args below meth c H1 locs1 (cells + mc) (slots + ms) Q (F0 m (pc + 3) ls (v.toList ++ rest))) : W p l e R s m args below meth c H locs cells slots Q (F0 m pc ls (As.reverse ++ .ref b :: rest)) := by
  have hH2 := g_HS_split hH is hp hC hr
  have ht := hF.1.2.2.2.2
  have cw := cwI (R := R) (args := args) (s := s) (own := own) (index := index) (ws := ws_ y bytes maxL none) (rm := rm) (mc := mc) (ms := ms) n ht (lw_meth h4) rfl hrc hrs (ht _ h3) (ht _ h1) (ht _ h2) hy1 hd hR
  exact g_called (va_runI hF.1 (hM H.size) cw ⟨g_blind, g_pre hH2 (.ref b :: As)⟩ rfl hn hls rfl (lv_room hW) hdg hf) hH2 kk
/-! a method's start and its ends -/
theorem g_enter {as : List Value} (hy : plainName y.cls = true) (hnl : (lg_sl as).length ≤ nL)
    (body : ∀ (p : Program) (e : Env) (s : State) (m : MethodId) (args : Array Value) (below : List Frame) (meth : Method) (c : Code) (A : Nat → Prop) (ls : Array Slot), g_F p m c cc nL s args y.cls meth rt → g_HS d A s wc s.heap [] → lv_has ls nL (lv_args 0 as) → (y.name = "<init>" → meth.name = "<init>") →
      W p l e rm s m args below meth c s.heap [] 0 0 (g_E d post A below args s mc ms) (F0 m 0 ls [])) : g_Met l d y cc nL rt rm as wc mc ms post := by
  intro sz
  refine Met.ofW (cc := cc) (maxL := nL) (ret := rt) hy rfl ?_
  intro p e s m args below meth c s₁ B hml hv
  obtain ⟨rfl, hsz, hP, hD, hG⟩ := hv
  have hts := atoms_spec (ws := ws_ y cc nL rt) B.pre
  have hts : ∀ w ∈ lw_all, w.before _ s = true := fun w h => hts w (List.mem_cons_of_mem _ h)
  have hown : s.vm.findClass y.cls = some m.cls := findClass_of_methodNamed B.named
  have hlocks := B.notSynchronized
  have hin := (name_of_methodNamed B.named B.method).1
  subst hsz
  rw [lg_entry_eq]
  exact body p e s m as.toArray below meth c (va_A wc.flatten s.heap.size) _ ⟨⟨B.exec, B.bytes, hml, hown, hts⟩, B.returns, hlocks⟩ ⟨hP, ⟨hD.1, fun q hq => g_A_in hq⟩, va_S.rf, fun q h => Or.inr h, hG⟩ (lv_entry as hnl) (fun h => hin.trans h)
theorem g_q {v : Option Value} (hH : g_HS d A s cs H locs) (hq : post v cs) : ∀ t : State, t.heap = H → s.WarmedH t.vm → g_Qc d post A args s (.returned v) t :=
  fun t ht hW => ⟨⟨v, cs, rfl, hq, by rw [ht]; exact hH.1, hH.2.1⟩, hH.2.2.1.F ht⟩
theorem g_iret (hF : g_F p m c cc nL s args own meth (some .int)) {v : Int32} (hH : g_HS d A s cs H locs) (hq : post (some (.int v)) cs) (hdg : decode cc pc = .ok (.ireturn, 1)) : W p l e R s m args below meth c H locs mc ms (g_E d post A below args s mc ms) (F0 m pc ls [.int v]) :=
  W.iret hF.1.1 hF.1.2.1 hF.2.1 (g_q hH hq) hH.2.2.1.2.2 hdg hF.2.2
theorem g_zret (hF : g_F p m c cc nL s args own meth (some .boolean)) {v : Int32} (hn : narrow .boolean (.int v) = .int v) (hH : g_HS d A s cs H locs) (hq : post (some (.int v)) cs) (hdg : decode cc pc = .ok (.ireturn, 1)) : W p l e R s m args below meth c H locs mc ms (g_E d post A below args s mc ms) (F0 m pc ls [.int v]) :=
  W.zret hF.1.1 hF.1.2.1 hF.2.1 hn (g_q hH hq) hH.2.2.1.2.2 hdg hF.2.2
theorem g_vret (hF : g_F p m c cc nL s args own meth none) (hH : g_HS d A s cs H locs) (hq : post none cs) (hdg : decode cc pc = .ok (.return_, 1)) : W p l e R s m args below meth c H locs mc ms (g_E d post A below args s mc ms) (F0 m pc ls []) :=
  W.vret hF.1.1 hF.1.2.1 hF.2.1 (g_q hH hq) hH.2.2.1.2.2 hdg hF.2.2
theorem g_lret (hF : g_F p m c cc nL s args own meth (some .long)) {v : Int64} (hH : g_HS d A s cs H locs) (hq : post (some (.long v)) cs) (hdg : decode cc pc = .ok (.lreturn, 1)) : W p l e R s m args below meth c H locs mc ms (g_E d post A below args s mc ms) (F0 m pc ls [.long v]) :=
  W.lret hF.1.1 hF.1.2.1 hF.2.1 (g_q hH hq) hH.2.2.1.2.2 hdg hF.2.2
theorem g_aret {ty : FieldType} (hF : g_F p m c cc nL s args own meth (some ty)) (hty : (∃ n, ty = .object n) ∨ ∃ t, ty = .array t) {v : Value} (hv : v = .null ∨ ∃ a, v = .ref a) (hH : g_HS d A s cs H locs) (hq : post (some v) cs) (hdg : decode cc pc = .ok (.areturn, 1)) : W p l e R s m args below meth c H locs mc ms (g_E d post A below args s mc ms) (F0 m pc ls [v]) :=
  W.aret hF.1.1 hF.1.2.1 hF.2.1 hty hv (g_q hH hq) hH.2.2.1.2.2 hdg hF.2.2
end GC
theorem g_b01 {v : Int32} (h : v = 0 ∨ v = 1) : narrow .boolean (.int v) = .int v := by rcases h with rfl | rfl <;> rfl
