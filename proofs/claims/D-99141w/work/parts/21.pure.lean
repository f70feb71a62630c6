/-! ===== instructions that touch stack and locals alone ===== -/
theorem lget_lt : ∀ (L : ALoc) (j : Nat) (v : AV), lget L j = some v → j < L.length := by
  intro L
  induction L with
  | nil => intro j v h; simp [lget] at h
  | cons x L ih =>
    intro j v h
    cases j with
    | zero => simp
    | succ j => have := ih j v h; simp; omega
theorem lget_lst1 : ∀ (L : ALoc) (i : Nat) (v : AV) (j : Nat), lget (lst1 L i v) j = if j = i then some v else if j + 1 = i then lkill (lget L j) else lget L j := by
  intro L i v
  induction L, i, v using lst1.induct with
  | case1 v => intro j; cases j <;> simp [lst1, lget]
  | case2 i v ih => intro j; cases j with
    | zero => simp [lst1, lget, lkill]
    | succ j => simp only [lst1, lget, ih]; by_cases h1 : j = i <;> by_cases h2 : j + 1 = i <;> simp_all
  | case3 x L v => intro j; cases j <;> simp [lst1, lget]
  | case4 x L v ih => intro j; cases j with
    | zero => simp [lst1, lget]
    | succ j => simp only [lst1, lget, ih]; cases j <;> simp
  | case5 x L i v ih => intro j; cases j with
    | zero => simp [lst1, lget]
    | succ j => simp only [lst1, lget, ih]; by_cases h1 : j = i + 1 <;> by_cases h2 : j = i <;> simp_all
theorem lget_lst2 : ∀ (L : ALoc) (i : Nat) (v : AV) (j : Nat), lget (lst2 L i v) j = if j = i then some v else if j = i + 1 then none else if j + 1 = i then lkill (lget L j) else lget L j := by
  intro L i v
  induction L, i, v using lst2.induct with
  | case1 v => intro j; match j with
    | 0 => simp [lst2, lget]
    | 1 => simp [lst2, lget]
    | j + 2 => simp [lst2, lget]
  | case2 i v ih => intro j; cases j with
    | zero => simp [lst2, lget, lkill]
    | succ j => simp only [lst2, lget, ih]; by_cases h1 : j = i <;> by_cases h2 : j + 1 = i <;> by_cases h3 : j = i + 1 <;> simp_all [lkill]
  | case3 x v => intro j; match j with
    | 0 => simp [lst2, lget]
    | 1 => simp [lst2, lget]
    | j + 2 => simp [lst2, lget]
  | case4 x y L v => intro j; match j with
    | 0 => simp [lst2, lget]
    | 1 => simp [lst2, lget]
    | j + 2 => simp [lst2, lget]
  | case5 x L v ih => intro j; cases j with
    | zero => simp [lst2, lget]
    | succ j => simp only [lst2, lget, ih]; match j with
      | 0 => simp
      | 1 => simp
      | j + 2 => simp
  | case6 x L i v ih => intro j; cases j with
    | zero => simp [lst2, lget]
    | succ j =>
      simp only [lst2, lget, ih]
      simp
def la (G : GG) (L : ALoc) : List (Nat × Value) := (List.range L.length).filterMap (fun j => (lget L j).map (fun v => (j, cv G v)))
theorem la_mem {G : GG} {L : ALoc} {q : Nat × Value} : q ∈ la G L ↔ ∃ v, lget L q.1 = some v ∧ q.2 = cv G v := by
  unfold la
  rw [List.mem_filterMap]
  constructor
  · rintro ⟨j, hj, h⟩
    obtain ⟨v, h1, h2⟩ := Option.map_eq_some_iff.mp h
    subst h2
    exact ⟨v, h1, rfl⟩
  · rintro ⟨v, h1, h2⟩
    exact ⟨q.1, List.mem_range.mpr (lget_lt _ _ _ h1), by rw [h1]; simp [← h2]⟩
theorem cat_cr {G : GG} (hE : ∀ z, z < 0 → G.2.1 z = .null ∨ ∃ q, q < G.1 ∧ G.2.1 z = .ref q) (z : Int) : (cr G z).category = 1 := by
  unfold cr
  split
  · rfl
  · split
    · rename_i h
      rcases hE z h with e | ⟨q, -, e⟩ <;> rw [e] <;> rfl
    · rfl
theorem cr_rf {G : GG} (hE : ∀ z, z < 0 → G.2.1 z = .null ∨ ∃ q, q < G.1 ∧ G.2.1 z = .ref q) (z : Int) : ∃ u, cr G z = va_rf u := by
  unfold cr
  split
  · exact ⟨none, rfl⟩
  · split
    · rename_i h
      rcases hE z h with e | ⟨q, -, e⟩
      · exact ⟨none, e⟩
      · exact ⟨some q, e⟩
    · exact ⟨some _, rfl⟩
theorem KS.hE {G : GG} {s : State} (h : KS G s) : ∀ z, z < 0 → G.2.1 z = .null ∨ ∃ q, q < G.1 ∧ G.2.1 z = .ref q := h.2.2.2.2.2.2.2
theorem cat_lk {G : GG} (hE : ∀ z, z < 0 → G.2.1 z = .null ∨ ∃ q, q < G.1 ∧ G.2.1 z = .ref q) {x : Option AV} {u : AV} (h : lkill x = some u) : x = some u ∧ (cv G u).category = 1 := by
  match x, h with
  | some (.inl z), h => cases h; exact ⟨rfl, rfl⟩
  | some (.inr (.inr z)), h => cases h; exact ⟨rfl, cat_cr hE z⟩
theorem St.has {G : GG} {nL : Nat} {n0 s0 : Int} {s : State} {L : ALoc} {st : AStk} {h : AH} {H : Heap} {locs : List Jvm.Loc} {cells slots : Nat} {ls : Array Slot} {sv : List Value} (S : St G nL n0 s0 s L st h H locs cells slots ls sv) : lv_has ls nL (la G L) := by
  obtain ⟨h1, h2, h3⟩ := S.2.2.2.2.1
  refine ⟨h1, h2, fun q hq => ?_⟩
  obtain ⟨v, e1, e2⟩ := la_mem.mp hq
  rw [e2]
  exact (h3 _ _ e1).2
theorem St.put1 {G : GG} {nL : Nat} {n0 s0 : Int} {s : State} {L : ALoc} {st : AStk} {h : AH} {H : Heap} {locs : List Jvm.Loc} {cells slots : Nat} {ls : Array Slot} {sv : List Value} (S : St G nL n0 s0 s L st h H locs cells slots ls sv) (hE : ∀ z, z < 0 → G.2.1 z = .null ∨ ∃ q, q < G.1 ∧ G.2.1 z = .ref q) {i : Nat} {v : AV} (hv : wfv v) {ls' : Array Slot} (hl : lv_has ls' nL ((i, cv G v) :: (la G L).filter (fun q => !(q.1 == i) && !(q.1 + 1 == i && q.2.category == 2)))) (st' : AStk) (hw : ∀ u ∈ st', wfv u) : St G nL n0 s0 s (lst1 L i v) st' h H locs cells slots ls' (st'.map (cv G)) := by
  refine ⟨S.1, S.2.1, S.2.2.1, S.2.2.2.1, ⟨hl.1, hl.2.1, fun j u hj => ?_⟩, rfl, hw⟩
  rw [lget_lst1] at hj
  by_cases h1 : j = i
  · rw [if_pos h1] at hj
    cases hj
    exact ⟨hv, by rw [h1]; exact hl.2.2 (i, cv G v) List.mem_cons_self⟩
  · rw [if_neg h1] at hj
    by_cases h2 : j + 1 = i
    · rw [if_pos h2] at hj
      obtain ⟨e1, e2⟩ := cat_lk hE hj
      refine ⟨(S.2.2.2.2.1.2.2 j u e1).1, hl.2.2 (j, cv G u) (List.mem_cons_of_mem _ (List.mem_filter.mpr ⟨la_mem.mpr ⟨u, e1, rfl⟩, ?_⟩))⟩
      simp [h1, e2]
    · rw [if_neg h2] at hj
      refine ⟨(S.2.2.2.2.1.2.2 j u hj).1, hl.2.2 (j, cv G u) (List.mem_cons_of_mem _ (List.mem_filter.mpr ⟨la_mem.mpr ⟨u, hj, rfl⟩, ?_⟩))⟩
      simp [h1, h2]
theorem St.put2 {G : GG} {nL : Nat} {n0 s0 : Int} {s : State} {L : ALoc} {st : AStk} {h : AH} {H : Heap} {locs : List Jvm.Loc} {cells slots : Nat} {ls : Array Slot} {sv : List Value} (S : St G nL n0 s0 s L st h H locs cells slots ls sv) (hE : ∀ z, z < 0 → G.2.1 z = .null ∨ ∃ q, q < G.1 ∧ G.2.1 z = .ref q) {i : Nat} {v : AV} (hv : wfv v) {ls' : Array Slot} (hl : lv_has ls' nL ((i, cv G v) :: (la G L).filter (fun q => !(q.1 == i) && (!(q.1 == i + 1) && !(q.1 + 1 == i && q.2.category == 2))))) (st' : AStk) (hw : ∀ u ∈ st', wfv u) : St G nL n0 s0 s (lst2 L i v) st' h H locs cells slots ls' (st'.map (cv G)) := by
  refine ⟨S.1, S.2.1, S.2.2.1, S.2.2.2.1, ⟨hl.1, hl.2.1, fun j u hj => ?_⟩, rfl, hw⟩
  rw [lget_lst2] at hj
  by_cases h1 : j = i
  · rw [if_pos h1] at hj
    cases hj
    exact ⟨hv, by rw [h1]; exact hl.2.2 (i, cv G v) List.mem_cons_self⟩
  · rw [if_neg h1] at hj
    by_cases h0 : j = i + 1
    · rw [if_pos h0] at hj; cases hj
    · rw [if_neg h0] at hj
      by_cases h2 : j + 1 = i
      · rw [if_pos h2] at hj
        obtain ⟨e1, e2⟩ := cat_lk hE hj
        refine ⟨(S.2.2.2.2.1.2.2 j u e1).1, hl.2.2 (j, cv G u) (List.mem_cons_of_mem _ (List.mem_filter.mpr ⟨la_mem.mpr ⟨u, e1, rfl⟩, ?_⟩))⟩
        simp [h1, h0, e2]
      · rw [if_neg h2] at hj
        refine ⟨(S.2.2.2.2.1.2.2 j u hj).1, hl.2.2 (j, cv G u) (List.mem_cons_of_mem _ (List.mem_filter.mpr ⟨la_mem.mpr ⟨u, hj, rfl⟩, ?_⟩))⟩
        simp [h1, h2, h0]
/-! rows by shape -/
section SHAPE
variable {own : String} {cc : ByteArray} {nL : Nat} {nm : String} {pc len : Nat} {x : AI}
theorem sh_push {v : AV} (hs : ∀ L st h, sem1 x L st h = some (L, v :: st, h)) (hw : wfv v)
    (row : ∀ {G : GG} {d : Nat} {p : Program} {l : Launch} {e : Env} {R : Room} {s : State} {m : MethodId} {args : Array Value} {below : List Frame} {meth : Method} {c : Code} {h : AH} {H : Heap} {locs : List Jvm.Loc} {cells slots : Nat} {Q : State → Prop} {ls : Array Slot} {rest : List Value}, Cx G own cc nL nm d p R s m args meth c → RH G s h H → W p l e R s m args below meth c H locs cells slots Q (F0 m (pc + len) ls (cv G v :: rest)) → W p l e R s m args below meth c H locs cells slots Q (F0 m pc ls rest)) : StepOk own cc nL nm pc len x := by
  intro G d p l e R s m args below meth c C n0 s0 L st h L' st' h' hs1 h1 h2 H locs cells slots ls sv Q S k
  rw [hs] at hs1
  cases hs1
  rw [S.2.2.2.2.2.1]
  exact row C S.1 (k _ _ _ _ _ _ (S.stk (v :: st) (wf_c hw S.2.2.2.2.2.2)))
theorem sh_ld0 {i : Nat} (hs : ∀ L st h, sem1 x L st h = ld0 L i st h)
    (row : ∀ {p : Program} {l : Launch} {e : Env} {R : Room} {s : State} {m : MethodId} {args : Array Value} {below : List Frame} {meth : Method} {c : Code} {H : Heap} {locs : List Jvm.Loc} {cells slots : Nat} {Q : State → Prop} {ls : Array Slot} {rest : List Value} {u : Int32}, p.tables.exec = Jvm.exec → c.code = cc → ls[i]? = some (.val (.int u)) → W p l e R s m args below meth c H locs cells slots Q (F0 m (pc + len) ls (.int u :: rest)) → W p l e R s m args below meth c H locs cells slots Q (F0 m pc ls rest)) : StepOk own cc nL nm pc len x := by
  intro G d p l e R s m args below meth c C n0 s0 L st h L' st' h' hs1 h1 h2 H locs cells slots ls sv Q S k
  rw [hs] at hs1
  unfold ld0 at hs1
  split at hs1
  · rename_i z hz
    cases hs1
    rw [S.2.2.2.2.2.1]
    obtain ⟨w1, w2⟩ := S.2.2.2.2.1.2.2 _ _ hz
    exact row C.1 C.2.1 w2 (k _ _ _ _ _ _ (S.stk (.inl z :: st) (wf_c w1 S.2.2.2.2.2.2)))
  · cases hs1
theorem sh_ld1 {i : Nat} (hs : ∀ L st h, sem1 x L st h = ld1 L i st h)
    (row : ∀ {p : Program} {l : Launch} {e : Env} {R : Room} {s : State} {m : MethodId} {args : Array Value} {below : List Frame} {meth : Method} {c : Code} {H : Heap} {locs : List Jvm.Loc} {cells slots : Nat} {Q : State → Prop} {ls : Array Slot} {rest : List Value} {u : Int64}, p.tables.exec = Jvm.exec → c.code = cc → ls[i]? = some (.val (.long u)) → W p l e R s m args below meth c H locs cells slots Q (F0 m (pc + len) ls (.long u :: rest)) → W p l e R s m args below meth c H locs cells slots Q (F0 m pc ls rest)) : StepOk own cc nL nm pc len x := by
  intro G d p l e R s m args below meth c C n0 s0 L st h L' st' h' hs1 h1 h2 H locs cells slots ls sv Q S k
  rw [hs] at hs1
  unfold ld1 at hs1
  split at hs1
  · rename_i z hz
    cases hs1
    rw [S.2.2.2.2.2.1]
    obtain ⟨w1, w2⟩ := S.2.2.2.2.1.2.2 _ _ hz
    exact row C.1 C.2.1 w2 (k _ _ _ _ _ _ (S.stk (.inr (.inl z) :: st) (wf_c w1 S.2.2.2.2.2.2)))
  · cases hs1
theorem sh_ld2 {i : Nat} (hs : ∀ L st h, sem1 x L st h = ld2 L i st h)
    (row : ∀ {p : Program} {l : Launch} {e : Env} {R : Room} {s : State} {m : MethodId} {args : Array Value} {below : List Frame} {meth : Method} {c : Code} {H : Heap} {locs : List Jvm.Loc} {cells slots : Nat} {Q : State → Prop} {ls : Array Slot} {rest : List Value} {u : Option Nat}, p.tables.exec = Jvm.exec → c.code = cc → ls[i]? = some (.val (va_rf u)) → W p l e R s m args below meth c H locs cells slots Q (F0 m (pc + len) ls (va_rf u :: rest)) → W p l e R s m args below meth c H locs cells slots Q (F0 m pc ls rest)) : StepOk own cc nL nm pc len x := by
  intro G d p l e R s m args below meth c C n0 s0 L st h L' st' h' hs1 h1 h2 H locs cells slots ls sv Q S k
  rw [hs] at hs1
  unfold ld2 at hs1
  split at hs1
  · rename_i z hz
    cases hs1
    rw [S.2.2.2.2.2.1]
    obtain ⟨w1, w2⟩ := S.2.2.2.2.1.2.2 _ _ hz
    obtain ⟨u, hu⟩ : ∃ u, cv G (.inr (.inr z)) = va_rf u := cr_rf C.2.2.2.2.2.1.hE z
    have k9 := k _ _ _ _ _ _ (S.stk (.inr (.inr z) :: st) (wf_c w1 S.2.2.2.2.2.2))
    rw [List.map_cons, hu] at k9
    exact row C.1 C.2.1 (by rw [← hu]; exact w2) k9
  · cases hs1
end SHAPE
