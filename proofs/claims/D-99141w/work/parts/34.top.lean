/-! ===== every method: by fuel ===== -/
theorem lget_lent : ∀ (as : List AV) (G : GG) (hE : ∀ z, z < 0 → G.2.1 z = .null ∨ ∃ q, q < G.1 ∧ G.2.1 z = .ref q) (o j : Nat) (v : AV), lget (lent as) j = some v → v ∈ as ∧ (o + j, cv G v) ∈ lv_args o (as.map (cv G)) := by
  intro as G hE
  induction as with
  | nil => intro o j v h; simp [lent, lget] at h
  | cons x as ih =>
    intro o j v h
    match x, h with
    | .inl z, h =>
      cases j with
      | zero => simp [lent, lget] at h; subst h; exact ⟨List.mem_cons_self, List.mem_cons_self⟩
      | succ j =>
        obtain ⟨h1, h2⟩ := ih (o + 1) j v h
        refine ⟨List.mem_cons_of_mem _ h1, List.mem_cons_of_mem _ ?_⟩
        rw [show o + (j + 1) = o + 1 + j by omega]
        exact h2
    | .inr (.inr z), h =>
      cases j with
      | zero => simp [lent, lget] at h; subst h; exact ⟨List.mem_cons_self, List.mem_cons_self⟩
      | succ j =>
        obtain ⟨h1, h2⟩ := ih (o + 1) j v h
        refine ⟨List.mem_cons_of_mem _ h1, List.mem_cons_of_mem _ ?_⟩
        rw [show o + (j + 1) = o + 1 + j by omega, if_neg (by rw [show (cv G (.inr (.inr z))).category = 1 from cat_cr hE z]; decide)]
        exact h2
    | .inr (.inl z), h =>
      match j, h with
      | 0, h => simp [lent, lget] at h; subst h; exact ⟨List.mem_cons_self, List.mem_cons_self⟩
      | 1, h => simp [lent, lget] at h
      | j + 2, h =>
        obtain ⟨h1, h2⟩ := ih (o + 2) j v h
        refine ⟨List.mem_cons_of_mem _ h1, List.mem_cons_of_mem _ ?_⟩
        rw [show o + (j + 2) = o + 2 + j by omega]
        exact h2
theorem lent_len : ∀ (as : List AV) (G : GG) (hE : ∀ z, z < 0 → G.2.1 z = .null ∨ ∃ q, q < G.1 ∧ G.2.1 z = .ref q), (lg_sl (as.map (cv G))).length = (lent as).length := by
  intro as G hE
  induction as with
  | nil => rfl
  | cons x as ih =>
    have e : lg_sl ((x :: as).map (cv G)) = (if (cv G x).category = 2 then [.val (cv G x), .second] else [.val (cv G x)]) ++ lg_sl (as.map (cv G)) := by
      unfold lg_sl
      rw [List.map_cons, List.flatMap_cons]
    rw [e, List.length_append, ih]
    match x with
    | .inl z => show 1 + _ = (lent as).length + 1; omega
    | .inr (.inl z) => show 2 + _ = (lent as).length + 1 + 1; omega
    | .inr (.inr z) =>
      rw [if_neg (by rw [show (cv G (.inr (.inr z))).category = 1 from cat_cr hE z]; decide)]
      show 1 + _ = (lent as).length + 1
      omega
theorem met_of {l : Launch} {y : MT} {rm : Room} {Pc : Array Value → State → Prop} {Qc : Array Value → State → Outcome → State → Prop} {XC : Addr → String → State → State → Prop} {mc ms : Nat} {free : Addr → Prop} (hy : plainFor y.1 = true)
    (body : ∀ p e s m args below meth c s₁, BodyLoose p l y.1 (headSpec (mtW y) rm) y.2.1 y.2.2.1 y.2.2.2.1 e s m args below meth c s₁ → c.maxLocals = y.2.2.1 → XT c y.2.2.2.2 → Pc args s →
      W p l e (headSpec (mtW y) rm).room s m args below meth c s.heap [] 0 0 (vx_MQ below Qc XC args s mc ms free) (entryFrame m args y.2.2.1)) : vx_Met l y.1 (mtW y) rm Pc Qc XC mc ms free := by
  obtain ⟨y1, cc, nL, ret, hh⟩ := y
  refine MetFree.of_bodySF (code := cc) (maxLocals := nL) (ret := ret) hy ?_ ?_
  · intro args s m h hn
    have hw := atoms_spec (ws := mtW (y1, cc, nL, ret, hh)) h _ List.mem_cons_self
    cases hh with
    | nil =>
      obtain ⟨meth, c, h1, h2, h3, h4, h5, h6, -, -⟩ := Cond.code_spec hn hw
      exact ⟨meth, c, h1, h2, h3, h4, h5, h6⟩
    | cons x hh =>
      obtain ⟨m9, meth, c, hn9, h1, h2, h3, h4, -, h5, h6, -⟩ := Cond.codeWith_spec hw
      cases hn.symm.trans hn9
      exact ⟨meth, c, h1, h2, h3, h4, h5, h6⟩
  · intro p e s m args below meth c s₁ B hml hP _
    have hh0 : s₁.heap = s.heap := by rw [B.state]; rfl
    have hw := atoms_spec (ws := mtW (y1, cc, nL, ret, hh)) B.pre _ List.mem_cons_self
    have hxt : XT c hh := by
      cases hh with
      | nil =>
        obtain ⟨meth9, c9, h1, h2, -, -, -, -, h7, -⟩ := Cond.code_spec B.named hw
        cases Option.some.inj (h1.symm.trans B.method)
        cases Option.some.inj (h2.symm.trans (Stand.of_body B).code)
        show c.exceptionTable.toList = _
        rw [Array.isEmpty_iff.mp h7]
        rfl
      | cons x hh => exact vx_table (x := y1) B hw
    obtain ⟨t, a1, o, b1, b2, b3⟩ := body p e s m args below meth c s₁ B hml hxt hP s₁ hh0 (Stand.of_body B)
    exact ⟨t, o, a1, b1, b2, b3⟩
section TOP
variable {mt : Nat → MT} {P : Nat → Nat → List AI} {ML : Nat → Nat} {G : GG} {l0 : Launch}
theorem sound (hP : ∀ m l, okL mt (mt m) l (P m l)) (hM : ∀ m, 0 < m → P m 0 ≠ [] → MOk ML m (mt m)) : ∀ (n d m l : Nat) (L : ALoc) (st : AStk) (h : AH) (out : AOut) (h' : AH), ex P ML n d m l L st h = some (out, h') →
    ∀ (p : Program) (e : Env) (R : Room) (s : State) (mid : MethodId) (args : Array Value) (below : List Frame) (meth : Method) (c : Code), Cx G (mt m).1.cls (mt m).2.1 (mt m).2.2.1 (mt m).1.name d p R s mid args meth c → XT c (mt m).2.2.2.2 → meth.sig.returnType = (mt m).2.2.2.1 →
    BOk G (mt m) p l0 e R s mid args below meth c l L st h out h' := by
  intro n
  induction n with
  | zero => intro d m l L st h out h' hs; cases hs
  | succ n ih =>
    intro d m l L st h out h' hs p e R s mid args below meth c C hxt hret
    refine soundL C hxt hret (fun l L st h out h' q => ih _ _ _ _ _ _ _ _ q p e R s mid args below meth c C hxt hret) (fun k as h out h' q => ?_) (P m l) l L st h out h' (hP m l) hs
    cases d with
    | zero => cases q
    | succ d =>
      refine ⟨d, rfl, ?_⟩
      dsimp only at q
      split at q
      · rename_i hlen
        obtain ⟨hk0, hlen⟩ := hlen
        have hne : P k 0 ≠ [] := by
          intro h0
          cases n with
          | zero => cases q
          | succ n => simp only [ex, h0, exL] at q; cases q
        obtain ⟨m1, m2, m3⟩ := hM k hk0 hne
        have hE := C.2.2.2.2.2.1.hE
        have key := fun p e R s mid args below meth c => ih d k 0 (lent as) [] h out h' q p e R s mid args below meth c
        have hgr : Gr h h' := by
          obtain ⟨a1, a2⟩ := ex_gr q
          exact ⟨a1, a2⟩
        refine ⟨hgr, met_of m1 ?_⟩
        intro p e s m args below meth c s₁ B hml hxt hv
        obtain ⟨rfl, hRH, hKS, hwf⟩ := hv
        have hl := lv_entry (as.map (cv G)) (n := (mt k).2.2.1) (by rw [lent_len as G hE, ← m3]; exact hlen)
        rw [lg_entry_eq]
        generalize (lg_sl (as.map (cv G)) ++ List.replicate ((mt k).2.2.1 - (lg_sl (as.map (cv G))).length) Slot.unset).toArray = ls at hl ⊢
        have hts := atoms_spec (ws := mtW (mt k)) B.pre
        have hts : ∀ w ∈ lw_all, w.before _ s = true := fun w h => hts w (List.mem_cons_of_mem _ h)
        have hown : s.vm.findClass (mt k).1.cls = some m.cls := findClass_of_methodNamed B.named
        have hin : meth.name = (mt k).1.name := (name_of_methodNamed B.named B.method).1
        have C2 : Cx G (mt k).1.cls (mt k).2.1 (mt k).2.2.1 (mt k).1.name d p (headSpec (mtW (mt k)) (mtR d (ah_n h' - ah_n h).toNat (ah_s h' - ah_s h).toNat)).room s m (as.map (cv G)).toArray meth c := ⟨B.exec, B.bytes, hml, hown, hts, hKS, B.notSynchronized, hin, Nat.le_refl _, Nat.le_refl _⟩
        have r1 := hgr.1
        have r2 := hgr.2
        have := (key p e _ s m _ below meth c C2 hxt B.returns).2 (ah_n h) (ah_s h) s.heap [] 0 0 ls [] ⟨hRH, fun _ h => (by cases h), ⟨Int.le_refl _, by omega⟩, ⟨Int.le_refl _, by omega⟩, ⟨hl.1, hl.2.1, fun j v hj => ?_⟩, rfl, fun _ h => (by cases h)⟩ (by show _ ≤ (((ah_n h' - ah_n h).toNat : Nat) : Int); omega) (by show _ ≤ (((ah_s h' - ah_s h).toNat : Nat) : Int); omega)
        · exact this
        · obtain ⟨g1, g2⟩ := lget_lent as G hE 0 j v hj
          rw [Nat.zero_add] at g2
          exact ⟨hwf v g1, hl.2.2 _ g2⟩
      · cases q
end TOP
