/-! a tree's nodes by their numbers (their sets): the node k lies at tn k, its children's list at tl k, that list's array at tr k -/
abbrev g_TC : Type := List Nat × (Nat → Option Nat) × (Nat → Nat) × (Nat → List Nat)
def g_tn (d : g_D) (tn tl tr : Nat → Nat) (c : g_TC) (k : Nat) : va_W :=
  if c.2.2.1 k = 0 then [(tn k, .inr (5, [.int (nI k), va_rf ((c.2.1 k).map tn)]))]
  else (tn k, .inr (6, [.int (nI k), va_rf ((c.2.1 k).map tn), .ref (d.2.2 (c.2.2.1 k)), .ref (tl k)])) :: g_AL d (tl k) (tr k) tn (c.2.2.2 k)
def g_T (d : g_D) (tn tl tr : Nat → Nat) (c : g_TC) : va_W := c.1.flatMap (g_tn d tn tl tr c)
theorem g_tn_leaf {d : g_D} {tn tl tr : Nat → Nat} {c : g_TC} {k : Nat} (h : c.2.2.1 k = 0) : g_tn d tn tl tr c k = [(tn k, .inr (5, [.int (nI k), va_rf ((c.2.1 k).map tn)]))] := if_pos h
theorem g_tn_inner {d : g_D} {tn tl tr : Nat → Nat} {c : g_TC} {k : Nat} (h : c.2.2.1 k ≠ 0) : g_tn d tn tl tr c k = (tn k, .inr (6, [.int (nI k), va_rf ((c.2.1 k).map tn), .ref (d.2.2 (c.2.2.1 k)), .ref (tl k)])) :: g_AL d (tl k) (tr k) tn (c.2.2.2 k) := if_neg h
theorem g_T_mem {d : g_D} {tn tl tr : Nat → Nat} {c : g_TC} {k : Nat} (hk : k ∈ c.1) {q : Nat × va_E} (hq : q ∈ g_tn d tn tl tr c k) : q ∈ g_T d tn tl tr c := List.mem_flatMap.mpr ⟨k, hk, hq⟩
theorem g_T_leaf {d : g_D} {tn tl tr : Nat → Nat} {c : g_TC} {k : Nat} (hk : k ∈ c.1) (h : c.2.2.1 k = 0) : (tn k, (Sum.inr (5, [.int (nI k), va_rf ((c.2.1 k).map tn)]) : va_E)) ∈ g_T d tn tl tr c :=
  g_T_mem hk (by rw [g_tn_leaf h]; exact List.mem_cons_self)
theorem g_T_inner {d : g_D} {tn tl tr : Nat → Nat} {c : g_TC} {k : Nat} (hk : k ∈ c.1) (h : c.2.2.1 k ≠ 0) : (tn k, (Sum.inr (6, [.int (nI k), va_rf ((c.2.1 k).map tn), .ref (d.2.2 (c.2.2.1 k)), .ref (tl k)]) : va_E)) ∈ g_T d tn tl tr c :=
  g_T_mem hk (by rw [g_tn_inner h]; exact List.mem_cons_self)
theorem g_T_in {d : g_D} {tn tl tr : Nat → Nat} {c : g_TC} {k : Nat} (hk : k ∈ c.1) : g_in (g_T d tn tl tr c) (tn k) := by
  by_cases h : c.2.2.1 k = 0
  · exact ⟨5, _, g_T_leaf hk h, Or.inl rfl⟩
  · exact ⟨6, _, g_T_inner hk h, Or.inr rfl⟩
theorem g_T_split {d : g_D} {tn tl tr : Nat → Nat} {c : g_TC} {k : Nat} (hk : k ∈ c.1) : ∃ rest : va_W, (g_tn d tn tl tr c k ++ rest).Perm (g_T d tn tl tr c) := by
  obtain ⟨s, t, e⟩ := List.append_of_mem hk
  refine ⟨s.flatMap (g_tn d tn tl tr c) ++ t.flatMap (g_tn d tn tl tr c), ?_⟩
  unfold g_T
  rw [e, List.flatMap_append, List.flatMap_cons]
  exact List.perm_append_comm_assoc _ _ _
theorem g_T_list {d : g_D} {tn tl tr : Nat → Nat} {c : g_TC} {k : Nat} (hk : k ∈ c.1) (h : c.2.2.1 k ≠ 0) : ∃ rest : va_W, (g_AL d (tl k) (tr k) tn (c.2.2.2 k) ++ rest).Perm (g_T d tn tl tr c) := by
  obtain ⟨rest, hp⟩ := g_T_split (d := d) (tn := tn) (tl := tl) (tr := tr) hk
  rw [g_tn_inner h] at hp
  refine ⟨(tn k, .inr (6, [.int (nI k), va_rf ((c.2.1 k).map tn), .ref (d.2.2 (c.2.2.1 k)), .ref (tl k)])) :: rest, List.Perm.trans ?_ hp⟩
  exact List.perm_middle
/-! the children's lists, read -/
def wp_J10_size_T (c : g_TC) (k : Nat) (Q : Int32 → Prop) : Prop := k ∈ c.1 ∧ c.2.2.1 k ≠ 0 ∧ Q (nI (c.2.2.2 k).length)
theorem met_J10_size_T (l : Launch) (hl0 : l.stackTraces = false) (d : g_D) (tn tl tr : Nat → Nat) (c : g_TC) (k : Nat) (Q : Int32 → Prop) (hw : wp_J10_size_T c k Q) : g_Met l d yJ10_size cJ10_size 1 (Option.some FieldType.int) ({ frames := 0, cells := 0, slots := 0, locals := 0 } : Room) [.ref (tl k)] [g_T d tn tl tr c] 0 0 (fun v w1 => ∃ (r : Int32), v = some (.int r) ∧ w1 = [g_T d tn tl tr c] ∧ Q r) := by
  obtain ⟨hk, hn, hq⟩ := hw
  obtain ⟨rest, hp⟩ := g_T_list (d := d) (tn := tn) (tl := tl) (tr := tr) hk hn
  refine (met_J10_size_A l hl0 d (tl k) (tr k) tn (c.2.2.2 k) Q hq).fr (wr := [rest]) (by simpa using hp) ?_
  rintro v w1 ⟨r, rfl, rfl, h⟩
  exact ⟨[g_T d tn tl tr c], by simpa using hp, r, rfl, rfl, h⟩
def wp_J10_get_T (i : Int32) (c : g_TC) (k : Nat) (Q : Nat → Prop) : Prop := k ∈ c.1 ∧ c.2.2.1 k ≠ 0 ∧ wp_J10_get_A i (c.2.2.2 k) Q
theorem met_J10_get_T (l : Launch) (hl0 : l.stackTraces = false) (d : g_D) (tn tl tr : Nat → Nat) (i : Int32) (c : g_TC) (k : Nat) (Q : Nat → Prop) (hw : wp_J10_get_T i c k Q) : g_Met l d yJ10_get cJ10_get 2 (Option.some (FieldType.object "java/lang/Object")) ({ frames := 2, cells := 0, slots := 0, locals := 43 } : Room) [.ref (tl k), .int i] [g_T d tn tl tr c] 0 0 (fun v w1 => ∃ (k2 : Nat), v = some (.ref (tn k2)) ∧ w1 = [g_T d tn tl tr c] ∧ Q k2) := by
  obtain ⟨hk, hn, hq⟩ := hw
  obtain ⟨rest, hp⟩ := g_T_list (d := d) (tn := tn) (tl := tl) (tr := tr) hk hn
  refine (met_J10_get_A l hl0 d (tl k) (tr k) tn i (c.2.2.2 k) Q hq).fr (wr := [rest]) (by simpa using hp) ?_
  rintro v w1 ⟨r, rfl, rfl, h⟩
  exact ⟨[g_T d tn tl tr c], by simpa using hp, r, rfl, rfl, h⟩
def wp_J10_iterator_T (c : g_TC) (k : Nat) (Q : Prop) : Prop := k ∈ c.1 ∧ c.2.2.1 k ≠ 0 ∧ Q
theorem met_J10_iterator_T (l : Launch) (hl0 : l.stackTraces = false) (d : g_D) (tn tl tr : Nat → Nat) (c : g_TC) (k : Nat) (Q : Prop) (hw : wp_J10_iterator_T c k Q) : g_Met l d yJ10_iterator cJ10_iterator 1 (Option.some (FieldType.object "java/util/Iterator")) ({ frames := 2, cells := 1, slots := 4, locals := 33 } : Room) [.ref (tl k)] [g_T d tn tl tr c] 1 4 (fun v w1 => ∃ (ia : Nat), v = some (.ref ia) ∧ w1 = [g_T d tn tl tr c, g_IT d ia (tl k) 0 (c.2.2.2 k).length] ∧ Q) := by
  obtain ⟨hk, hn, hq⟩ := hw
  obtain ⟨rest, hp⟩ := g_T_list (d := d) (tn := tn) (tl := tl) (tr := tr) hk hn
  refine (met_J10_iterator_A l hl0 d (tl k) (tr k) tn (c.2.2.2 k) Q hq).fr (wr := [rest]) (by simpa using hp) ?_
  rintro v w1 ⟨ia, rfl, rfl, h⟩
  refine ⟨[g_T d tn tl tr c, g_IT d ia (tl k) 0 (c.2.2.2 k).length], ?_, ia, rfl, rfl, h⟩
  refine List.Perm.trans ?_ (List.Perm.append_right _ hp)
  simp only [List.cons_append, List.nil_append, List.flatten_cons, List.flatten_nil, List.append_nil, List.append_assoc]
  exact List.Perm.append_left _ List.perm_append_comm
def wp_J16_hasNext_T (n : Nat) (c : g_TC) (k : Nat) (Q : Int32 → Prop) : Prop := k ∈ c.1 ∧ c.2.2.1 k ≠ 0 ∧ wp_J16_hasNext_A n (c.2.2.2 k).length Q
theorem met_J16_hasNext_T (l : Launch) (hl0 : l.stackTraces = false) (d : g_D) (ia n : Nat) (tn tl tr : Nat → Nat) (c : g_TC) (k : Nat) (Q : Int32 → Prop) (hw : wp_J16_hasNext_T n c k Q) : g_Met l d yJ16_hasNext cJ16_hasNext 1 (Option.some FieldType.boolean) ({ frames := 0, cells := 0, slots := 0, locals := 0 } : Room) [.ref ia] [g_IT d ia (tl k) n (c.2.2.2 k).length, g_T d tn tl tr c] 0 0 (fun v w1 => ∃ (r : Int32), v = some (.int r) ∧ w1 = [g_IT d ia (tl k) n (c.2.2.2 k).length, g_T d tn tl tr c] ∧ Q r) := by
  obtain ⟨hk, hn, hq⟩ := hw
  obtain ⟨rest, hp⟩ := g_T_list (d := d) (tn := tn) (tl := tl) (tr := tr) hk hn
  have e9 : ([g_IT d ia (tl k) n (c.2.2.2 k).length, g_AL d (tl k) (tr k) tn (c.2.2.2 k)] ++ [rest]).flatten.Perm [g_IT d ia (tl k) n (c.2.2.2 k).length, g_T d tn tl tr c].flatten := by
    simp only [List.cons_append, List.nil_append, List.flatten_cons, List.flatten_nil, List.append_nil]
    exact List.Perm.append_left _ hp
  refine (met_J16_hasNext_A l hl0 d ia n (tl k) (tr k) tn (c.2.2.2 k) Q hq).fr (wr := [rest]) e9 ?_
  rintro v w1 ⟨r, rfl, rfl, h⟩
  exact ⟨_, e9, r, rfl, rfl, h⟩
def wp_J16_next_T (n : Nat) (c : g_TC) (k : Nat) (Q : Nat → Prop) : Prop := k ∈ c.1 ∧ c.2.2.1 k ≠ 0 ∧ wp_J16_next_A n (c.2.2.2 k) Q
theorem met_J16_next_T (l : Launch) (hl0 : l.stackTraces = false) (d : g_D) (ia n : Nat) (tn tl tr : Nat → Nat) (c : g_TC) (k : Nat) (Q : Nat → Prop) (hw : wp_J16_next_T n c k Q) : g_Met l d yJ16_next cJ16_next 3 (Option.some (FieldType.object "java/lang/Object")) ({ frames := 1, cells := 0, slots := 0, locals := 20 } : Room) [.ref ia] [g_IT d ia (tl k) n (c.2.2.2 k).length, g_T d tn tl tr c] 0 0 (fun v w1 => ∃ (k2 : Nat), v = some (.ref (tn k2)) ∧ w1 = [g_IT d ia (tl k) (n + 1) (c.2.2.2 k).length, g_T d tn tl tr c] ∧ Q k2) := by
  obtain ⟨hk, hn, hq⟩ := hw
  obtain ⟨rest, hp⟩ := g_T_list (d := d) (tn := tn) (tl := tl) (tr := tr) hk hn
  have e9 : ∀ j : Nat, ([g_IT d ia (tl k) j (c.2.2.2 k).length, g_AL d (tl k) (tr k) tn (c.2.2.2 k)] ++ [rest]).flatten.Perm [g_IT d ia (tl k) j (c.2.2.2 k).length, g_T d tn tl tr c].flatten := by
    intro j
    simp only [List.cons_append, List.nil_append, List.flatten_cons, List.flatten_nil, List.append_nil]
    exact List.Perm.append_left _ hp
  refine (met_J16_next_A l hl0 d ia n (tl k) (tr k) tn (c.2.2.2 k) Q hq).fr (wr := [rest]) (e9 n) ?_
  rintro v w1 ⟨r, rfl, rfl, h⟩
  exact ⟨_, e9 (n + 1), r, rfl, rfl, h⟩
