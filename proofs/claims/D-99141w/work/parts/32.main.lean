/-! ===== THE SOUNDNESS THEOREM ===== -/
def XT (c : Code) (hh : List (Nat × Nat × Nat × Nat)) : Prop := c.exceptionTable.toList = tableOf hh
def HOk (y : MT) (pc : Nat) (a : Int) : Prop := (a = 0 → ∀ x ∈ tableOf y.2.2.2.2, covers x pc = false) ∧ (0 < a → ∃ x : ExceptionTableEntry, tableOf y.2.2.2.2 = [x] ∧ covers x pc = true ∧ x.catchType ≠ 0 ∧ (x.handlerPc : Int) = a ∧ Cond.classLink y.1.cls x.catchType "GardenChess$Fault" ∈ lw_all ∧ Cond.castable "GardenChess$Fault" "GardenChess$Fault" ∈ lw_tbl)
/-- a call through an object: every class that t names -/
def VOk (mt : Nat → MT) (y : MT) (pc len : Nat) (t : List (Int × Int)) (n : Nat) : Prop := ∀ x ∈ t, x.1 ≠ 0 ∧ ∃ C D, tgName x.1 = some C ∧ (D = none ∨ D = some C) ∧ CallOk y.1.cls y.2.1 y.2.2.1 pc len (some D) (mt x.2.toNat) n
def okL (mt : Nat → MT) (y : MT) : Nat → List AI → Prop
  | _, [] => True
  | pc, (i, a, b, t) :: is => match i with
    | .nop => a = (pc : Int)
    | .goto off => decode y.2.1 pc = .ok (.goto off, 3) ∧ (pc : Int) + off = a ∧ 0 ≤ a
    | .ifCond c off => decode y.2.1 pc = .ok (.ifCond c off, 3) ∧ (pc : Int) + off = a ∧ 0 ≤ a ∧ okL mt y (pc + 3) is
    | .if_icmp c off => decode y.2.1 pc = .ok (.if_icmp c off, 3) ∧ (pc : Int) + off = a ∧ 0 ≤ a ∧ okL mt y (pc + 3) is
    | .if_acmp c off => decode y.2.1 pc = .ok (.if_acmp c off, 3) ∧ (pc : Int) + off = a ∧ 0 ≤ a ∧ okL mt y (pc + 3) is
    | .ifnull off => decode y.2.1 pc = .ok (.ifnull off, 3) ∧ (pc : Int) + off = a ∧ 0 ≤ a ∧ okL mt y (pc + 3) is
    | .ifnonnull off => decode y.2.1 pc = .ok (.ifnonnull off, 3) ∧ (pc : Int) + off = a ∧ 0 ≤ a ∧ okL mt y (pc + 3) is
    | .tableswitch dflt lo hi offs => ∃ len, decode y.2.1 pc = .ok (.tableswitch dflt lo hi offs, len) ∧ (pc : Int) + dflt = a ∧ 0 ≤ a ∧ (∀ x ∈ t, lo ≤ x.1 ∧ x.1 ≤ hi ∧ 0 ≤ x.2) ∧ ∀ j, j < (hi - lo + 1).toNat → ∃ off, offs[j]? = some off ∧ asc t (lo + j) = some ((pc : Int) + off)
    | .lookupswitch dflt ps => ∃ len, decode y.2.1 pc = .ok (.lookupswitch dflt ps, len) ∧ (pc : Int) + dflt = a ∧ 0 ≤ a ∧ (ps.toList.zip (ps.toList.drop 1)).all (fun (a, next) => a.1 < next.1) = true ∧ t = ps.toList.map (fun q => (q.1, (pc : Int) + q.2)) ∧ ∀ x ∈ t, 0 ≤ x.2
    | .return_ => decode y.2.1 pc = .ok (.return_, 1) ∧ y.2.2.2.1 = none
    | .ireturn => decode y.2.1 pc = .ok (.ireturn, 1) ∧ ((a = 0 ∧ y.2.2.2.1 = some .int) ∨ (a = 1 ∧ y.2.2.2.1 = some .boolean) ∨ (a = 2 ∧ y.2.2.2.1 = some .char) ∨ (a = 3 ∧ y.2.2.2.1 = some .byte))
    | .lreturn => decode y.2.1 pc = .ok (.lreturn, 1) ∧ y.2.2.2.1 = some .long
    | .areturn => decode y.2.1 pc = .ok (.areturn, 1) ∧ ∃ rt, y.2.2.2.1 = some rt ∧ ((∃ n, rt = .object n) ∨ ∃ t, rt = .array t)
    | .athrow => decode y.2.1 pc = .ok (.athrow, 1) ∧ t = [(5, 0)] ∧ y.2.2.2.2 = []
    | .invokestatic _ => if a = -1 then StepOkF y.1.cls y.2.1 y.2.2.1 y.1.name pc 3 (semCopy t) ∧ okL mt y (pc + 3) is
        else (∀ x ∈ t, CallOk y.1.cls y.2.1 y.2.2.1 pc 3 none (mt x.2.toNat) b.toNat) ∧ HOk y pc a ∧ okL mt y (pc + 3) is
    | .invokespecial idx => if a = -3 then decode y.2.1 pc = .ok (.invokespecial idx, 3) ∧ Cond.methodLink y.1.cls idx Lib.objectInit ∈ lw_all ∧ Cond.instanceMethod Lib.objectInit ∈ lw_all ∧ Cond.code Lib.objectInit ⟨#[0xb1]⟩ 1 none ∈ lw_all ∧ okL mt y (pc + 3) is
        else VOk mt y pc 3 t (b.toNat + 1) ∧ HOk y pc a ∧ okL mt y (pc + 3) is
    | .invokevirtual _ => if a = -2 then StepOkF y.1.cls y.2.1 y.2.2.1 y.1.name pc 3 (semGC b) ∧ okL mt y (pc + 3) is
        else VOk mt y pc 3 t (b.toNat + 1) ∧ HOk y pc a ∧ okL mt y (pc + 3) is
    | .invokeinterface _ _ => VOk mt y pc 5 t (b.toNat + 1) ∧ HOk y pc a ∧ okL mt y (pc + 5) is
    | i => ∃ len, StepOk y.1.cls y.2.1 y.2.2.1 y.1.name pc len (i, a, b, t) ∧ okL mt y (pc + len) is
def MOk (ML : Nat → Nat) (m : Nat) (y : MT) : Prop := plainFor y.1 = true ∧ mtC y ∈ lw_all ∧ ML m = y.2.2.1
def QcO (G : GG) (out : AOut) (h' : AH) : Array Value → State → Outcome → State → Prop := fun _ _ o t => ∃ v, out = .inl v ∧ o = .returned (v.map (cv G)) ∧ (∀ x, v = some x → wfv x) ∧ RH G t h' t.heap
def XcO (G : GG) (out : AOut) (h' : AH) : Addr → String → State → State → Prop := fun q E _ t => ∃ z, out = .inr z ∧ E = "GardenChess$Fault" ∧ cr G z = .ref q ∧ (ah_t h' z).1 = 5 ∧ RH G t h' t.heap
def PcO (G : GG) (as : List AV) (h : AH) : Array Value → State → Prop := fun a U => a = (as.map (cv G)).toArray ∧ RH G U h U.heap ∧ KS G U ∧ ∀ v ∈ as, wfv v
theorem PcO.blind {G : GG} {as : List AV} {h : AH} : FrameBlind (PcO G as h) := fun a U g mk q => ⟨q.1, RH.moved (u := U) (Vm.Alike.refl U.vm) q.2.1, q.2.2.1.calling, q.2.2.2⟩
/-- a block's run, in one frame of the machine -/
def BOk (G : GG) (y : MT) (p : Program) (l0 : Launch) (e : Env) (R : Room) (s : State) (mid : MethodId) (args : Array Value) (below : List Frame) (meth : Method) (c : Code) (pc : Nat) (L : ALoc) (st : AStk) (h : AH) (out : AOut) (h' : AH) : Prop :=
  Gr h h' ∧ ∀ (n0 s0 : Int) (H : Heap) (locs : List Jvm.Loc) (cells slots : Nat) (ls : Array Slot) (sv : List Value), St G y.2.2.1 n0 s0 s L st h H locs cells slots ls sv → ah_n h' - n0 ≤ R.cells → ah_s h' - s0 ≤ R.slots →
    W p l0 e R s mid args below meth c H locs cells slots (vx_MQ below (QcO G out h') (XcO G out h') args s (ah_n h' - n0).toNat (ah_s h' - s0).toNat (fun q => G.1 ≤ q)) (F0 mid pc ls sv)
/-- a callee's run, as a contract -/
def COk (G : GG) (l0 : Launch) (d : Nat) (y : MT) (as : List AV) (h : AH) (out : AOut) (h' : AH) : Prop :=
  Gr h h' ∧ vx_Met l0 y.1 (mtW y) (mtR d (ah_n h' - ah_n h).toNat (ah_s h' - ah_s h).toNat) (PcO G as h) (QcO G out h') (XcO G out h') (ah_n h' - ah_n h).toNat (ah_s h' - ah_s h).toNat (fun q => G.1 ≤ q)
theorem popN_spec : ∀ (n : Nat) (st : AStk) (acc as : List AV) (rest : AStk), popN n st acc = some (as, rest) → ∃ xs, as = xs ++ acc ∧ xs.length = n ∧ st = xs.reverse ++ rest := by
  intro n
  induction n with
  | zero => intro st acc as rest h; cases h; exact ⟨[], rfl, rfl, rfl⟩
  | succ n ih =>
    intro st acc as rest h
    match st, h with
    | v :: st, h =>
      obtain ⟨xs, e1, e2, e3⟩ := ih st (v :: acc) as rest h
      refine ⟨xs ++ [v], by rw [e1]; simp, by simp [e2], by rw [e3]; simp⟩
theorem popN_0 {n : Nat} {st : AStk} {as : List AV} {rest : AStk} (h : popN n st [] = some (as, rest)) : as.length = n ∧ st = as.reverse ++ rest := by
  obtain ⟨xs, e1, e2, e3⟩ := popN_spec _ _ _ _ _ h
  rw [List.append_nil] at e1
  subst e1
  exact ⟨e2, e3⟩
/-- behind a call -/
theorem call_ok {mt : Nat → MT} {G : GG} {y yc : MT} {d : Nat} {p : Program} {l0 : Launch} {e : Env} {R : Room} {s : State} {mid : MethodId} {args : Array Value} {below : List Frame} {meth : Method} {c : Code}
    (C : Cx G y.1.cls y.2.1 y.2.2.1 y.1.name (d + 1) p R s mid args meth c) (hxt : XT c y.2.2.2.2) {pc len : Nat} {Cn : Option (Option String)} {n : Nat} {a : Int} {as : List AV} {rest : AStk} {L : ALoc} {h h1 h' : AH} {out1 out : AOut} {recB : Nat → ALoc → AStk → AH → Option ARes} {k : ALoc → AStk → AH → Option ARes}
    (hcall : CallOk y.1.cls y.2.1 y.2.2.1 pc len Cn yc n) (hh : HOk y pc a) (hlen : as.length = n) (hrl : stw rest ≤ 8) (hC : COk G l0 d yc as h out1 h1)
    (hrec : ∀ (n0 s0 : Int) (H : Heap) (locs : List Jvm.Loc) (cells slots : Nat) (ls : Array Slot) (sv : List Value), St G y.2.2.1 n0 s0 s L (as.reverse ++ rest) h H locs cells slots ls sv → RecvOk s H Cn (as.map (cv G)))
    (hB : ∀ l L st h out h', recB l L st h = some (out, h') → BOk G y p l0 e R s mid args below meth c l L st h out h')
    (hk : ∀ L st h out h', k L st h = some (out, h') → BOk G y p l0 e R s mid args below meth c (pc + len) L st h out h')
    (hs : after recB k a L rest (some (out1, h1)) = some (out, h')) : BOk G y p l0 e R s mid args below meth c pc L (as.reverse ++ rest) h out h' := by
  obtain ⟨hgr1, hM⟩ := hC
  have hE := C.2.2.2.2.2.1.hE
  have hgr2 : Gr h1 h' := by
    match out1, hs with
    | .inl none, hs => exact (hk _ _ _ _ _ hs).1
    | .inl (some v), hs => exact (hk _ _ _ _ _ hs).1
    | .inr z, hs =>
      simp only [after] at hs
      split at hs
      · cases hs; exact Gr.refl _
      · split at hs
        · cases hs
        · exact (hB _ _ _ _ _ _ hs).1
  refine ⟨hgr1.trans hgr2, fun n0 s0 H locs cells slots ls sv S b1 b2 => ?_⟩
  have g1 := S.2.2.1
  have g2 := S.2.2.2.1
  have hw := S.2.2.2.2.2.2
  have hwas : ∀ v ∈ as, wfv v := fun v hv => hw v (List.mem_append_left _ (List.mem_reverse.mpr hv))
  have hwr : ∀ v ∈ rest, wfv v := fun v hv => hw v (List.mem_append_right _ hv)
  obtain ⟨r1, r2⟩ := hgr1
  obtain ⟨r3, r4⟩ := hgr2
  have hsv : sv = (as.map (cv G)).reverse ++ rest.map (cv G) := by rw [S.2.2.2.2.2.1, List.map_append, List.map_reverse]
  have hrun := hcall G d _ p l0 e R s mid args below meth c C H locs cells slots ls _ _ _ _ _ _ (as.map (cv G)) (rest.map (cv G)) hM PcO.blind (hrec _ _ _ _ _ _ _ _ S) (fun U hU hW => ⟨rfl, by rw [hU]; exact S.1.moved hW.alike, C.2.2.2.2.2.1.warm hW, hwas⟩) (by rw [List.length_map]; exact hlen) S.2.2.2.2.1.1 (by have := cat_sum hE rest; omega) (by omega) (by omega)
  rw [hsv]
  intro T hT X
  have hlocs : ∀ L9 : List Jvm.Loc, (∀ q ∈ L9, G.1 ≤ q.base) → ∀ x ∈ locs ++ L9, G.1 ≤ x.base := fun L9 h9 x hx => (List.mem_append.mp hx).elim (S.2.1 x) (h9 x)
  have hSt : ∀ (T' t : State) (L9 : List Jvm.Loc) (st' : AStk), (∀ q ∈ L9, G.1 ≤ q.base) → s.vm.Alike t.vm → RH G t h1 t.heap → (∀ v ∈ st', wfv v) → St G y.2.2.1 n0 s0 s L st' h1 t.heap (locs ++ L9) (cells + (ah_n h1 - ah_n h).toNat) (slots + (ah_s h1 - ah_s h).toNat) ls (st'.map (cv G)) := fun T' t L9 st' h9 hal hRH hw' =>
    ⟨hRH.moved hal.symm, hlocs L9 h9, ⟨by omega, by omega⟩, ⟨by omega, by omega⟩, S.2.2.2.2.1, rfl, hw'⟩
  rcases hrun T hT X with ⟨v, st₀, t, T', L9, e0, X', hL9, e1, e2, ⟨v1, rfl, e3, e4, e5⟩, go⟩ | ⟨q, st₀, t, T', L9, E, ce, e0, X', hL9, e1, e2, ⟨z, rfl, e3, e4, e45, e5⟩, e6, e7, e8, go⟩
  · have hal : s.vm.Alike t.vm := by rw [← e2]; exact X'.warmed.alike
    cases e3
    match v1, hs, e4, go with
    | none, hs, e4, go =>
      have := (hk _ _ _ _ _ hs).2 n0 s0 _ _ _ _ ls _ (hSt T' t L9 rest hL9 hal e5 hwr) b1 b2 T' e1 X'
      obtain ⟨t9, a1, b9⟩ := this
      exact ⟨t9, go t9 a1, b9⟩
    | some v1, hs, e4, go =>
      have := (hk _ _ _ _ _ hs).2 n0 s0 _ _ _ _ ls _ (hSt T' t L9 (v1 :: rest) hL9 hal e5 (wf_c (e4 _ rfl) hwr)) b1 b2 T' e1 X'
      obtain ⟨t9, a1, b9⟩ := this
      exact ⟨t9, go t9 a1, b9⟩
  · have hal : s.vm.Alike t.vm := by rw [← e2]; exact X'.warmed.alike
    subst e3
    simp only [after] at hs
    have hRH := e5.moved hal.symm
    split at hs
    · rename_i ha
      cases hs
      have hx : vx_W p l0 e R s mid args below meth c t.heap (locs ++ L9) (cells + (ah_n h1 - ah_n h).toNat) (slots + (ah_s h1 - ah_s h).toNat) (vx_MQ below (QcO G (.inr z) h1) (XcO G (.inr z) h1) args s (ah_n h1 - n0).toNat (ah_s h1 - s0).toNat (fun q => G.1 ≤ q)) (F0 mid pc ls (rest.map (cv G))) q :=
        vx_out (by rw [show c.exceptionTable.toList = tableOf y.2.2.2.2 from hxt]; exact hh.1 ha) C.2.2.2.2.2.2.1 e6 e7 e8 (fun t9 h9 hal9 => ⟨z, rfl, rfl, e4, e45, by rw [h9]; exact hRH.moved hal9⟩) (hlocs L9 hL9) (by omega) (by omega)
      obtain ⟨t9, a1, b9⟩ := hx T' e1 X'
      exact ⟨t9, go.trans a1, b9⟩
    · split at hs
      · cases hs
      · rename_i ha1 ha2
        obtain ⟨x, x1, x2, x3, x4, x5, x6⟩ := hh.2 (by omega)
        have hb9 := hB _ _ _ _ _ _ hs
        have hx : vx_W p l0 e R s mid args below meth c t.heap (locs ++ L9) (cells + (ah_n h1 - ah_n h).toNat) (slots + (ah_s h1 - ah_s h).toNat) (vx_MQ below (QcO G out h') (XcO G out h') args s (ah_n h' - n0).toNat (ah_s h' - s0).toNat (fun q => G.1 ≤ q)) (F0 mid pc ls (rest.map (cv G))) q := by
          refine vx_catch (E := "GardenChess$Fault") (name := "GardenChess$Fault") C.2.2.2.1 [] x [] (by rw [show c.exceptionTable.toList = tableOf y.2.2.2.2 from hxt, x1]; rfl) (fun z hz => by cases hz) x2 x3 (C.2.2.2.2.1 _ x5) (va_Nw.use rfl (C.2.2.2.2.2.1.2.1 _ x6 rfl)) e6 e7 e8 ?_
          have := hb9.2 n0 s0 _ _ _ _ ls _ (hSt T' t L9 [.inr (.inr z)] hL9 hal e5 (wf_c trivial (fun _ h => by cases h))) b1 b2
          rw [List.map_cons, show cv G (.inr (.inr z)) = .ref q from e4] at this
          rw [show a.toNat = x.handlerPc by omega] at this
          exact this
        obtain ⟨t9, a1, b9⟩ := hx T' e1 X'
        exact ⟨t9, go.trans a1, b9⟩
