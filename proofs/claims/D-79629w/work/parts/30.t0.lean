/-! a contract about a part of a world serves the whole: what isn't touched stays -/
theorem g_Met.frame {l : Launch} {d : g_D} {y : MethodName} {cc : ByteArray} {nL : Nat} {rt : Option FieldType} {rm : Room} {as : List Value} {wc wr wc' : List va_W} {mc ms : Nat} {post : Option Value → List va_W → Prop} (h : g_Met l d y cc nL rt rm as wc mc ms post) (e : (wc ++ wr).flatten.Perm wc'.flatten) : g_Met l d y cc nL rt rm as wc' mc ms (fun v w' => ∃ w1, post v w1 ∧ w' = wr ++ w1) := by
  intro sz p e0 ha hc hk s m args below hf happ hP _
  obtain ⟨hargs, hsz, hHP, hHD, hG⟩ := hP
  subst hsz
  have hH : g_HS d (va_A wc'.flatten s.heap.size) s (wc ++ wr) s.heap [] :=
    ⟨fun q hq => hHP q (e.mem_iff.mp hq), ⟨((e.map _).nodup_iff).mpr hHD.1, fun q hq => g_A_in (e.mem_iff.mp hq)⟩, va_S.rf, fun q hq => Or.inr hq, hG⟩
  have hpre := g_pre hH as s rfl (State.WarmedH.refl s)
  rw [← hargs] at hpre
  obtain ⟨k, o, h1, h2, h3, ⟨⟨v, w1, ho, hp1, hP1, hD1⟩, hF⟩, L, hFE, hL⟩ := h s.heap.size p e0 ha hc hk s m args below hf happ hpre trivial
  have hfr := g_free hH
  have hb := g_behind (locs1 := []) hH hP1 hD1 hF.2 ⟨hF.1, fun q h1 h2 => hF.2 q h1 (fun z => h2 (hfr q z)), fun q hq => nomatch hq⟩
  exact ⟨k, o, h1, h2, h3, ⟨⟨v, wr ++ w1, ho, ⟨w1, hp1, rfl⟩, hb.1, hb.2.1⟩, hF.1, fun q h1 h2 => hF.2 q h1 (fun z => h2 (hfr q z))⟩, L, hFE, fun q hq => hfr q.base (hL q hq)⟩
/-- the same, with the whole world named behind it -/
theorem g_Met.fr {l : Launch} {d : g_D} {y : MethodName} {cc : ByteArray} {nL : Nat} {rt : Option FieldType} {rm : Room} {as : List Value} {wc wr wc' : List va_W} {mc ms : Nat} {post post' : Option Value → List va_W → Prop} (h : g_Met l d y cc nL rt rm as wc mc ms post) (e : (wc ++ wr).flatten.Perm wc'.flatten) (hp : ∀ v w1, post v w1 → ∃ w', (w1 ++ wr).flatten.Perm w'.flatten ∧ post' v w') : g_Met l d y cc nL rt rm as wc' mc ms post' := by
  intro sz p e0 ha hc hk s m args below hf happ hP ht
  obtain ⟨k, o, h1, h2, h3, ⟨⟨v, w2, ho, ⟨w1, hp1, rfl⟩, hP1, hD1⟩, hF⟩, hfr⟩ := h.frame (wr := wr) e sz p e0 ha hc hk s m args below hf happ hP ht
  obtain ⟨w', e2, hp2⟩ := hp v w1 hp1
  have e3 : (wr ++ w1).flatten.Perm w'.flatten := by
    refine List.Perm.trans ?_ e2
    rw [List.flatten_append, List.flatten_append]
    exact List.perm_append_comm
  exact ⟨k, o, h1, h2, h3, ⟨⟨v, w', ho, hp2, fun q hq => hP1 q (e3.mem_iff.mpr hq), ⟨((e3.map _).nodup_iff).mp hD1.1, fun q hq => hD1.2 q (e3.mem_iff.mpr hq)⟩⟩, hF⟩, hfr⟩
/-! lists of nodes: the header at x, its array at y; a node k lies at an k -/
def g_cap (n : Nat) : Nat := if n ≤ 10 then 10 else if n ≤ 15 then 15 else 22
def g_ef (an : Nat → Nat) (ks : List Nat) : Nat → Option Nat := fun i => (ks[i]?).map an
def g_AL (d : g_D) (x y : Nat) (an : Nat → Nat) (ks : List Nat) : va_W := match ks with
  | [] => [(x, .inr (11, [.int 0, .ref (d.2.2 4), .int 0]))]
  | k :: l => [(x, .inr (11, [.int (nI (l.length + 1)), .ref y, .int (nI (l.length + 1))])), (y, .inl (d.2.1 6, g_cap (l.length + 1), .inr (.inr (.inr (.inr (g_ef an (k :: l)))))))]
/-- a walk over such a list that stands at its place n -/
def g_IT (d : g_D) (ia x n len : Nat) : va_W := [(ia, .inr (12, [.int (nI n), .int (nI n - 1), .int (nI len), .ref x]))]
theorem g_AL_cons (d : g_D) (x y : Nat) (an : Nat → Nat) {ks : List Nat} (h : ks ≠ []) : g_AL d x y an ks = [(x, .inr (11, [.int (nI ks.length), .ref y, .int (nI ks.length)])), (y, .inl (d.2.1 6, g_cap ks.length, .inr (.inr (.inr (.inr (g_ef an ks))))))] := by
  cases ks with
  | nil => exact absurd rfl h
  | cons k l => rfl
theorem met_J10_size_A (l : Launch) (hl0 : l.stackTraces = false) (d : g_D) (x y : Nat) (an : Nat → Nat) (ks : List Nat) (Q : Int32 → Prop) (hw : Q (nI ks.length)) : g_Met l d yJ10_size cJ10_size 1 (Option.some FieldType.int) ({ frames := 0, cells := 0, slots := 0, locals := 0 } : Room) [.ref x] [g_AL d x y an ks] 0 0 (fun v w1 => ∃ (r : Int32), v = some (.int r) ∧ w1 = [g_AL d x y an ks] ∧ Q r) := by
  cases ks with
  | nil => exact met_J10_size l hl0 d x 0 (d.2.2 4) 0 Q hw
  | cons k ks =>
    refine (met_J10_size l hl0 d x (nI (ks.length + 1)) y (nI (ks.length + 1)) Q hw).fr (wr := [[(y, .inl (d.2.1 6, g_cap (ks.length + 1), .inr (.inr (.inr (.inr (g_ef an (k :: ks)))))))]]) (List.Perm.refl _) ?_
    rintro v w1 ⟨r, rfl, rfl, h⟩
    exact ⟨[g_AL d x y an (k :: ks)], List.Perm.refl _, r, rfl, rfl, h⟩
def wp_J10_get_A (i : Int32) (ks : List Nat) (Q : Nat → Prop) : Prop := ∃ j k, i = nI j ∧ ks[j]? = some k ∧ ks.length < 23 ∧ Q k
theorem g_cap_le (n : Nat) (h : n < 23) : n ≤ g_cap n ∧ g_cap n < 23 := by
  unfold g_cap
  split
  · omega
  · split <;> omega
theorem met_J10_get_A (l : Launch) (hl0 : l.stackTraces = false) (d : g_D) (x y : Nat) (an : Nat → Nat) (i : Int32) (ks : List Nat) (Q : Nat → Prop) (hw : wp_J10_get_A i ks Q) : g_Met l d yJ10_get cJ10_get 2 (Option.some (FieldType.object "java/lang/Object")) ({ frames := 2, cells := 0, slots := 0, locals := 43 } : Room) [.ref x, .int i] [g_AL d x y an ks] 0 0 (fun v w1 => ∃ (k : Nat), v = some (.ref (an k)) ∧ w1 = [g_AL d x y an ks] ∧ Q k) := by
  obtain ⟨j, k, rfl, hj, hlen, hq⟩ := hw
  have hjl : j < ks.length := (List.getElem?_eq_some_iff.mp hj).1
  have hne : ks ≠ [] := by rintro rfl; simp at hj
  have hcap := g_cap_le ks.length hlen
  have hw1 : wp_J10_get (nI j) (nI ks.length) (nI ks.length) (g_ef an ks) (g_cap ks.length) (fun rq => rq = some (an k)) := by
    refine ⟨fun h => absurd h (nI_pos (by omega)), fun _ => ⟨fun _ => ⟨vp_in_nI (by omega) (by omega), ?_⟩, fun h => absurd (nI_lt hjl (by omega)) h⟩⟩
    rw [nI_clamp (by omega)]
    unfold g_ef
    rw [hj]
    rfl
  have h := met_J10_get l hl0 d x (nI j) (nI ks.length) y (nI ks.length) (g_ef an ks) (g_cap ks.length) _ hw1
  rw [g_AL_cons d x y an hne]
  refine (h.fl (wc' := [[(x, .inr (11, [.int (nI ks.length), .ref y, .int (nI ks.length)])), (y, .inl (d.2.1 6, g_cap ks.length, .inr (.inr (.inr (.inr (g_ef an ks))))))]]) rfl).post ?_
  rintro v w1 ⟨rq, rfl, rfl, rfl⟩
  exact ⟨[[(x, .inr (11, [.int (nI ks.length), .ref y, .int (nI ks.length)])), (y, .inl (d.2.1 6, g_cap ks.length, .inr (.inr (.inr (.inr (g_ef an ks))))))]], rfl, k, rfl, rfl, hq⟩
theorem met_J10_iterator_A (l : Launch) (hl0 : l.stackTraces = false) (d : g_D) (x y : Nat) (an : Nat → Nat) (ks : List Nat) (Q : Prop) (hw : Q) : g_Met l d yJ10_iterator cJ10_iterator 1 (Option.some (FieldType.object "java/util/Iterator")) ({ frames := 2, cells := 1, slots := 4, locals := 33 } : Room) [.ref x] [g_AL d x y an ks] 1 4 (fun v w1 => ∃ (ia : Nat), v = some (.ref ia) ∧ w1 = [g_AL d x y an ks, g_IT d ia x 0 ks.length] ∧ Q) := by
  cases ks with
  | nil =>
    refine (met_J10_iterator l hl0 d x 0 (d.2.2 4) 0 Q hw).post ?_
    rintro v w1 ⟨ia, rfl, rfl, h⟩
    exact ⟨_, rfl, ia, rfl, rfl, h⟩
  | cons k ks =>
    refine (met_J10_iterator l hl0 d x (nI (ks.length + 1)) y (nI (ks.length + 1)) Q hw).fr (wr := [[(y, .inl (d.2.1 6, g_cap (ks.length + 1), .inr (.inr (.inr (.inr (g_ef an (k :: ks)))))))]]) (List.Perm.refl _) ?_
    rintro v w1 ⟨ia, rfl, rfl, h⟩
    refine ⟨[g_AL d x y an (k :: ks), g_IT d ia x 0 (k :: ks).length], ?_, ia, rfl, rfl, h⟩
    exact List.Perm.cons _ (List.Perm.swap _ _ _)
def wp_J16_hasNext_A (n len : Nat) (Q : Int32 → Prop) : Prop := n < 2 ^ 31 ∧ len < 2 ^ 31 ∧ (n = len → Q 0) ∧ (n ≠ len → Q 1)
theorem met_J16_hasNext_A (l : Launch) (hl0 : l.stackTraces = false) (d : g_D) (ia n x y : Nat) (an : Nat → Nat) (ks : List Nat) (Q : Int32 → Prop) (hw : wp_J16_hasNext_A n ks.length Q) : g_Met l d yJ16_hasNext cJ16_hasNext 1 (Option.some FieldType.boolean) ({ frames := 0, cells := 0, slots := 0, locals := 0 } : Room) [.ref ia] [g_IT d ia x n ks.length, g_AL d x y an ks] 0 0 (fun v w1 => ∃ (r : Int32), v = some (.int r) ∧ w1 = [g_IT d ia x n ks.length, g_AL d x y an ks] ∧ Q r) := by
  obtain ⟨hn, hl, h0, h1⟩ := hw
  have hw1 : wp_J16_hasNext (nI n) (nI n - 1) (nI ks.length) (nI ks.length) (nI ks.length) Q :=
    ⟨fun e => h0 ((nI_eq hn hl).mp e), fun e => h1 (fun z => e (by rw [z]))⟩
  cases ks with
  | nil => exact met_J16_hasNext l hl0 d ia (nI n) (nI n - 1) 0 x 0 (d.2.2 4) 0 Q hw1
  | cons k ks =>
    refine (met_J16_hasNext l hl0 d ia (nI n) (nI n - 1) (nI (ks.length + 1)) x (nI (ks.length + 1)) y (nI (ks.length + 1)) Q hw1).fr (wr := [[(y, .inl (d.2.1 6, g_cap (ks.length + 1), .inr (.inr (.inr (.inr (g_ef an (k :: ks)))))))]]) (List.Perm.refl _) ?_
    rintro v w1 ⟨r, rfl, rfl, h⟩
    exact ⟨[g_IT d ia x n (k :: ks).length, g_AL d x y an (k :: ks)], List.Perm.refl _, r, rfl, rfl, h⟩
def wp_J16_next_A (n : Nat) (ks : List Nat) (Q : Nat → Prop) : Prop := ∃ k, ks[n]? = some k ∧ ks.length < 23 ∧ Q k
theorem met_J16_next_A (l : Launch) (hl0 : l.stackTraces = false) (d : g_D) (ia n x y : Nat) (an : Nat → Nat) (ks : List Nat) (Q : Nat → Prop) (hw : wp_J16_next_A n ks Q) : g_Met l d yJ16_next cJ16_next 3 (Option.some (FieldType.object "java/lang/Object")) ({ frames := 1, cells := 0, slots := 0, locals := 20 } : Room) [.ref ia] [g_IT d ia x n ks.length, g_AL d x y an ks] 0 0 (fun v w1 => ∃ (k : Nat), v = some (.ref (an k)) ∧ w1 = [g_IT d ia x (n + 1) ks.length, g_AL d x y an ks] ∧ Q k) := by
  obtain ⟨k, hj, hlen, hq⟩ := hw
  have hjl : n < ks.length := (List.getElem?_eq_some_iff.mp hj).1
  have hne : ks ≠ [] := by rintro rfl; simp at hj
  have hcap := g_cap_le ks.length hlen
  have hw1 : wp_J16_next (nI n) (nI n - 1) (nI ks.length) (nI ks.length) (nI ks.length) (g_ef an ks) (g_cap ks.length) (fun rq c2 l2 => rq = some (an k) ∧ c2 = nI (n + 1) ∧ l2 = nI (n + 1) - 1) := by
    refine ⟨fun _ => ⟨fun _ => ⟨fun _ => ⟨vp_in_nI (by omega) (by omega), ?_, nI_1 n, (nI_pred n).symm⟩, fun h => absurd (nI_lt (by omega) (by omega)) h⟩, fun h => absurd (nI_lt hjl (by omega)) h⟩, fun h => absurd rfl h⟩
    rw [nI_clamp (by omega)]
    unfold g_ef
    rw [hj]
    rfl
  have h := met_J16_next l hl0 d ia (nI n) (nI n - 1) (nI ks.length) x (nI ks.length) y (nI ks.length) (g_ef an ks) (g_cap ks.length) _ hw1
  rw [g_AL_cons d x y an hne]
  refine (h.fl (wc' := [g_IT d ia x n ks.length, [(x, .inr (11, [.int (nI ks.length), .ref y, .int (nI ks.length)])), (y, .inl (d.2.1 6, g_cap ks.length, .inr (.inr (.inr (.inr (g_ef an ks))))))]]) rfl).post ?_
  rintro v w1 ⟨rq, c2, l2, rfl, rfl, rfl, rfl, rfl⟩
  exact ⟨[g_IT d ia x (n + 1) ks.length, [(x, .inr (11, [.int (nI ks.length), .ref y, .int (nI ks.length)])), (y, .inl (d.2.1 6, g_cap ks.length, .inr (.inr (.inr (.inr (g_ef an ks))))))]], rfl, k, rfl, rfl, hq⟩
