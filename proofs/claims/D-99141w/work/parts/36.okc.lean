/-! ===== a block's proof, instruction by instruction ===== -/
def isCtl : Instr → Bool
  | .nop | .goto _ | .ifCond _ _ | .if_icmp _ _ | .if_acmp _ _ | .ifnull _ | .ifnonnull _ | .tableswitch _ _ _ _ | .lookupswitch _ _ | .return_ | .ireturn | .lreturn | .areturn | .athrow | .invokestatic _ | .invokespecial _ | .invokevirtual _ | .invokeinterface _ _ => true
  | _ => false
section OKC
variable {mt : Nat → MT} {y : MT} {pc : Nat} {is : List AI} {a b : Int} {t : List (Int × Int)}
theorem oc {x : AI} {len : Nat} (h : StepOk y.1.cls y.2.1 y.2.2.1 y.1.name pc len x) (q : Nat) (hq : pc + len = q) (r : okL mt y q is) (hc : isCtl x.1 = false := by rfl) : okL mt y pc (x :: is) := by
  obtain ⟨i, a, b, t⟩ := x
  cases i
  all_goals first
    | (cases hc; done)
    | (subst hq; exact ⟨len, h, r⟩)
theorem oc_end : okL mt y pc [] := trivial
theorem oc_fall (h : a = (pc : Int)) : okL mt y pc ((.nop, a, b, t) :: is) := h
theorem oc_goto {off : Int} (hd : decode y.2.1 pc = .ok (.goto off, 3)) (h : (pc : Int) + off = a ∧ 0 ≤ a) : okL mt y pc ((.goto off, a, b, t) :: is) := ⟨hd, h⟩
theorem oc_if {c : Jvm.ClassFile.Cond} {off : Int} (hd : decode y.2.1 pc = .ok (.ifCond c off, 3)) (h : (pc : Int) + off = a ∧ 0 ≤ a) (q : Nat) (hq : pc + 3 = q) (r : okL mt y q is) : okL mt y pc ((.ifCond c off, a, b, t) :: is) := ⟨hd, h.1, h.2, hq ▸ r⟩
theorem oc_icmp {c : Jvm.ClassFile.Cond} {off : Int} (hd : decode y.2.1 pc = .ok (.if_icmp c off, 3)) (h : (pc : Int) + off = a ∧ 0 ≤ a) (q : Nat) (hq : pc + 3 = q) (r : okL mt y q is) : okL mt y pc ((.if_icmp c off, a, b, t) :: is) := ⟨hd, h.1, h.2, hq ▸ r⟩
theorem oc_acmp {c : ACond} {off : Int} (hd : decode y.2.1 pc = .ok (.if_acmp c off, 3)) (h : (pc : Int) + off = a ∧ 0 ≤ a) (q : Nat) (hq : pc + 3 = q) (r : okL mt y q is) : okL mt y pc ((.if_acmp c off, a, b, t) :: is) := ⟨hd, h.1, h.2, hq ▸ r⟩
theorem oc_null {off : Int} (hd : decode y.2.1 pc = .ok (.ifnull off, 3)) (h : (pc : Int) + off = a ∧ 0 ≤ a) (q : Nat) (hq : pc + 3 = q) (r : okL mt y q is) : okL mt y pc ((.ifnull off, a, b, t) :: is) := ⟨hd, h.1, h.2, hq ▸ r⟩
theorem oc_nonnull {off : Int} (hd : decode y.2.1 pc = .ok (.ifnonnull off, 3)) (h : (pc : Int) + off = a ∧ 0 ≤ a) (q : Nat) (hq : pc + 3 = q) (r : okL mt y q is) : okL mt y pc ((.ifnonnull off, a, b, t) :: is) := ⟨hd, h.1, h.2, hq ▸ r⟩
def tswB (pc : Nat) (lo hi : Int) (offs : Array Int) (a : Int) (t : List (Int × Int)) : Bool := decide (0 ≤ a) && t.all (fun x => decide (lo ≤ x.1) && decide (x.1 ≤ hi) && decide (0 ≤ x.2)) && (List.range (hi - lo + 1).toNat).all (fun j => match offs[j]? with
  | some off => asc t (lo + j) == some ((pc : Int) + off)
  | none => false)
theorem oc_tsw {dflt lo hi : Int} {offs : Array Int} {len : Nat} (hd : decode y.2.1 pc = .ok (.tableswitch dflt lo hi offs, len)) (h : (pc : Int) + dflt = a) (hb : tswB pc lo hi offs a t = true) : okL mt y pc ((.tableswitch dflt lo hi offs, a, b, t) :: is) := by
  unfold tswB at hb
  simp only [Bool.and_eq_true, decide_eq_true_eq, List.all_eq_true] at hb
  obtain ⟨⟨h1, h2⟩, h3⟩ := hb
  refine ⟨len, hd, h, h1, fun x hx => ⟨(h2 x hx).1.1, (h2 x hx).1.2, (h2 x hx).2⟩, fun j hj => ?_⟩
  have := h3 j (List.mem_range.mpr hj)
  split at this
  · rename_i off e
    exact ⟨off, e, by simpa using this⟩
  · cases this
theorem oc_lsw {dflt : Int} {ps : Array (Int × Int)} {len : Nat} (hd : decode y.2.1 pc = .ok (.lookupswitch dflt ps, len)) (h : (pc : Int) + dflt = a ∧ 0 ≤ a) (h1 : (ps.toList.zip (ps.toList.drop 1)).all (fun (a, next) => a.1 < next.1) = true) (h2 : t = ps.toList.map (fun q => (q.1, (pc : Int) + q.2))) (h3 : t.all (fun x => decide (0 ≤ x.2)) = true) : okL mt y pc ((.lookupswitch dflt ps, a, b, t) :: is) :=
  ⟨len, hd, h.1, h.2, h1, h2, fun x hx => of_decide_eq_true (List.all_eq_true.mp h3 x hx)⟩
theorem oc_ret (hd : decode y.2.1 pc = .ok (.return_, 1)) (h : y.2.2.2.1 = none) : okL mt y pc ((.return_, a, b, t) :: is) := ⟨hd, h⟩
theorem oc_iret (hd : decode y.2.1 pc = .ok (.ireturn, 1)) (h : y.2.2.2.1 = some .int) : okL mt y pc ((.ireturn, 0, b, t) :: is) := ⟨hd, Or.inl ⟨rfl, h⟩⟩
theorem oc_zret (hd : decode y.2.1 pc = .ok (.ireturn, 1)) (h : y.2.2.2.1 = some .boolean) : okL mt y pc ((.ireturn, 1, b, t) :: is) := ⟨hd, Or.inr (Or.inl ⟨rfl, h⟩)⟩
theorem oc_cret (hd : decode y.2.1 pc = .ok (.ireturn, 1)) (h : y.2.2.2.1 = some .char) : okL mt y pc ((.ireturn, 2, b, t) :: is) := ⟨hd, Or.inr (Or.inr (Or.inl ⟨rfl, h⟩))⟩
theorem oc_bret (hd : decode y.2.1 pc = .ok (.ireturn, 1)) (h : y.2.2.2.1 = some .byte) : okL mt y pc ((.ireturn, 3, b, t) :: is) := ⟨hd, Or.inr (Or.inr (Or.inr ⟨rfl, h⟩))⟩
theorem oc_lret (hd : decode y.2.1 pc = .ok (.lreturn, 1)) (h : y.2.2.2.1 = some .long) : okL mt y pc ((.lreturn, a, b, t) :: is) := ⟨hd, h⟩
theorem oc_aretO {n : String} (hd : decode y.2.1 pc = .ok (.areturn, 1)) (h : y.2.2.2.1 = some (.object n)) : okL mt y pc ((.areturn, a, b, t) :: is) := ⟨hd, _, h, Or.inl ⟨n, rfl⟩⟩
theorem oc_aretA {n : FieldType} (hd : decode y.2.1 pc = .ok (.areturn, 1)) (h : y.2.2.2.1 = some (.array n)) : okL mt y pc ((.areturn, a, b, t) :: is) := ⟨hd, _, h, Or.inr ⟨n, rfl⟩⟩
theorem oc_throw (hd : decode y.2.1 pc = .ok (.athrow, 1)) (h : y.2.2.2.2 = []) : okL mt y pc ((.athrow, a, b, [(5, 0)]) :: is) := ⟨hd, rfl, h⟩
theorem hok0 (h : y.2.2.2.2 = []) : HOk y pc 0 := ⟨fun _ x hx => (by rw [h] at hx; cases hx), fun h => absurd h (by decide)⟩
theorem hokN {a : Int} (h : a < 0) : HOk y pc a := ⟨fun e => absurd e (by omega), fun e => absurd e (by omega)⟩
theorem oc_S {idx : Nat} {k : Int} {M : MT} (hm : mt k.toNat = M) (hc : CallOk y.1.cls y.2.1 y.2.2.1 pc 3 none M b.toNat) (hh : HOk y pc a) (ha : a ≠ -1) (q : Nat) (hq : pc + 3 = q) (r : okL mt y q is) : okL mt y pc ((.invokestatic idx, a, b, [(0, k)]) :: is) := by
  show (if a = -1 then _ else _)
  rw [if_neg ha]
  refine ⟨fun x hx => ?_, hh, hq ▸ r⟩
  rw [List.mem_singleton.mp hx, hm]
  exact hc
theorem oc_copy {idx : Nat} (h : StepOkF y.1.cls y.2.1 y.2.2.1 y.1.name pc 3 (semCopy t)) (q : Nat) (hq : pc + 3 = q) (r : okL mt y q is) : okL mt y pc ((.invokestatic idx, -1, b, t) :: is) := by
  simp only [okL, ↓reduceIte]
  exact ⟨h, hq ▸ r⟩
theorem oc_oi {idx : Nat} (hd : decode y.2.1 pc = .ok (.invokespecial idx, 3)) (w1 : Cond.methodLink y.1.cls idx Lib.objectInit ∈ lw_all) (w2 : Cond.instanceMethod Lib.objectInit ∈ lw_all) (w3 : Cond.code Lib.objectInit ⟨#[0xb1]⟩ 1 none ∈ lw_all) (q : Nat) (hq : pc + 3 = q) (r : okL mt y q is) : okL mt y pc ((.invokespecial idx, -3, b, t) :: is) := by
  simp only [okL, ↓reduceIte]
  exact ⟨hd, w1, w2, w3, hq ▸ r⟩
theorem vnil {len n : Nat} : VOk mt y pc len [] n := fun x hx => by cases hx
theorem vcons {len n : Nat} {g k : Int} {M : MT} {C : String} {D : Option String} (h0 : g ≠ 0) (hn : tgName g = some C) (hD : D = none ∨ D = some C) (hm : mt k.toNat = M) (hc : CallOk y.1.cls y.2.1 y.2.2.1 pc len (some D) M n) {t : List (Int × Int)} (r : VOk mt y pc len t n) : VOk mt y pc len ((g, k) :: t) n := by
  intro x hx
  rcases List.mem_cons.mp hx with e | e
  · rw [e]
    exact ⟨h0, C, D, hn, hD, by rw [hm]; exact hc⟩
  · exact r x e
theorem oc_I {idx : Nat} (hv : VOk mt y pc 3 t (b.toNat + 1)) (hh : HOk y pc a) (ha : a ≠ -3) (q : Nat) (hq : pc + 3 = q) (r : okL mt y q is) : okL mt y pc ((.invokespecial idx, a, b, t) :: is) := by
  show (if a = -3 then _ else _)
  rw [if_neg ha]
  exact ⟨hv, hh, hq ▸ r⟩
theorem oc_V {idx : Nat} (hv : VOk mt y pc 3 t (b.toNat + 1)) (hh : HOk y pc a) (ha : a ≠ -2) (q : Nat) (hq : pc + 3 = q) (r : okL mt y q is) : okL mt y pc ((.invokevirtual idx, a, b, t) :: is) := by
  show (if a = -2 then _ else _)
  rw [if_neg ha]
  exact ⟨hv, hh, hq ▸ r⟩
theorem oc_GC {idx : Nat} (h : StepOkF y.1.cls y.2.1 y.2.2.1 y.1.name pc 3 (semGC b)) (q : Nat) (hq : pc + 3 = q) (r : okL mt y q is) : okL mt y pc ((.invokevirtual idx, -2, b, t) :: is) := by
  simp only [okL, ↓reduceIte]
  exact ⟨h, hq ▸ r⟩
theorem oc_F {idx cnt : Nat} (hv : VOk mt y pc 5 t (b.toNat + 1)) (hh : HOk y pc a) (q : Nat) (hq : pc + 5 = q) (r : okL mt y q is) : okL mt y pc ((.invokeinterface idx cnt, a, b, t) :: is) := ⟨hv, hh, hq ▸ r⟩
/-- field tables, entry by entry -/
theorem fg_nil {own : String} {idx : Nat} {a : Int} : ∀ x ∈ ([] : List (Int × Int)), ∃ r, FOk own idx x r ∧ kdT (gty (x.1.toNat - 1) x.2.toNat) = a := fun x hx => by cases hx
theorem fg {own : String} {idx : Nat} {a g k : Int} {r : vw_C} (h1 : gcl[g.toNat - 1]? = some r) (h2 : (0 < g ∧ 0 ≤ k) ∧ k.toNat < r.2.2) {ref : String} (h3 : Cond.fieldLink own idx ref (r.2.1 k.toNat).2.1 (r.2.1 k.toNat).2.2.1 ∈ lw_all ∨ ∃ host, Cond.fieldLinkNest own idx ref (r.2.1 k.toNat).2.1 (r.2.1 k.toNat).2.2.1 host ∈ lw_tbl) (h4 : ref = (r.2.1 k.toNat).1 ∨ Cond.sameField ref (r.2.1 k.toNat).1 (r.2.1 k.toNat).2.1 (r.2.1 k.toNat).2.2.1 ∈ lw_all) (h5 : kdT (gty (g.toNat - 1) k.toNat) = a) {t : List (Int × Int)} (rest : ∀ x ∈ t, ∃ r, FOk own idx x r ∧ kdT (gty (x.1.toNat - 1) x.2.toNat) = a) : ∀ x ∈ (g, k) :: t, ∃ r, FOk own idx x r ∧ kdT (gty (x.1.toNat - 1) x.2.toNat) = a := by
  intro x hx
  rcases List.mem_cons.mp hx with e | e
  · rw [e]
    exact ⟨r, ⟨h1, h2.1.1, h2.1.2, h2.2, ref, h3, h4⟩, h5⟩
  · exact rest x e
theorem fp_nil {own nm : String} {idx : Nat} {a : Int} : ∀ x ∈ ([] : List (Int × Int)), ∃ r, FOk own idx x r ∧ kdP (gty (x.1.toNat - 1) x.2.toNat) = a ∧ ((r.2.1 x.2.toNat).2.2.2 = false ∨ ((r.2.1 x.2.toNat).2.2.2 = true ∧ nm = "<init>" ∧ (r.2.1 x.2.toNat).1 = own ∧ Cond.fieldLink own idx own (r.2.1 x.2.toNat).2.1 (r.2.1 x.2.toNat).2.2.1 ∈ lw_all)) := fun x hx => by cases hx
theorem fp {own nm : String} {idx : Nat} {a g k : Int} {r : vw_C} (h1 : gcl[g.toNat - 1]? = some r) (h2 : (0 < g ∧ 0 ≤ k) ∧ k.toNat < r.2.2) {ref : String} (h3 : Cond.fieldLink own idx ref (r.2.1 k.toNat).2.1 (r.2.1 k.toNat).2.2.1 ∈ lw_all ∨ ∃ host, Cond.fieldLinkNest own idx ref (r.2.1 k.toNat).2.1 (r.2.1 k.toNat).2.2.1 host ∈ lw_tbl) (h4 : ref = (r.2.1 k.toNat).1 ∨ Cond.sameField ref (r.2.1 k.toNat).1 (r.2.1 k.toNat).2.1 (r.2.1 k.toNat).2.2.1 ∈ lw_all) (h5 : kdP (gty (g.toNat - 1) k.toNat) = a)
    (h6 : (r.2.1 k.toNat).2.2.2 = false ∨ ((r.2.1 k.toNat).2.2.2 = true ∧ nm = "<init>" ∧ (r.2.1 k.toNat).1 = own ∧ Cond.fieldLink own idx own (r.2.1 k.toNat).2.1 (r.2.1 k.toNat).2.2.1 ∈ lw_all)) {t : List (Int × Int)}
    (rest : ∀ x ∈ t, ∃ r, FOk own idx x r ∧ kdP (gty (x.1.toNat - 1) x.2.toNat) = a ∧ ((r.2.1 x.2.toNat).2.2.2 = false ∨ ((r.2.1 x.2.toNat).2.2.2 = true ∧ nm = "<init>" ∧ (r.2.1 x.2.toNat).1 = own ∧ Cond.fieldLink own idx own (r.2.1 x.2.toNat).2.1 (r.2.1 x.2.toNat).2.2.1 ∈ lw_all))) :
    ∀ x ∈ (g, k) :: t, ∃ r, FOk own idx x r ∧ kdP (gty (x.1.toNat - 1) x.2.toNat) = a ∧ ((r.2.1 x.2.toNat).2.2.2 = false ∨ ((r.2.1 x.2.toNat).2.2.2 = true ∧ nm = "<init>" ∧ (r.2.1 x.2.toNat).1 = own ∧ Cond.fieldLink own idx own (r.2.1 x.2.toNat).2.1 (r.2.1 x.2.toNat).2.2.1 ∈ lw_all)) := by
  intro x hx
  rcases List.mem_cons.mp hx with e | e
  · rw [e]
    exact ⟨r, ⟨h1, h2.1.1, h2.1.2, h2.2, ref, h3, h4⟩, h5, h6⟩
  · exact rest x e
theorem ct_nil {E : String} : ∀ x ∈ ([] : List (Int × Int)), x.1 ≠ 0 ∧ ∃ C, tgName x.1 = some C ∧ Asg C E := fun x hx => by cases hx
theorem ct {E C : String} {g k : Int} (h0 : g ≠ 0) (h1 : tgName g = some C) (h2 : Asg C E) {t : List (Int × Int)} (r : ∀ x ∈ t, x.1 ≠ 0 ∧ ∃ C, tgName x.1 = some C ∧ Asg C E) : ∀ x ∈ (g, k) :: t, x.1 ≠ 0 ∧ ∃ C, tgName x.1 = some C ∧ Asg C E := by
  intro x hx
  rcases List.mem_cons.mp hx with e | e
  · rw [e]; exact ⟨h0, C, h1, h2⟩
  · exact r x e
theorem it1 {E C : String} {g : Int} (h0 : g ≠ 0) (h1 : tgName g = some C) (h2 : Asg C E) : ∀ x ∈ [(g, (1 : Int))], x.1 ≠ 0 ∧ x.2 = 1 ∧ ∃ C, tgName x.1 = some C ∧ Asg C E := by
  intro x hx
  rw [List.mem_singleton.mp hx]
  exact ⟨h0, rfl, C, h1, h2⟩
end OKC
def blk : List (Nat × List AI) → Nat → List AI
  | [], _ => []
  | (k, b) :: r, l => if l = k then b else blk r l
theorem blk_ok {mt : Nat → MT} {M : MT} : ∀ (pr : List (Nat × List AI)), (∀ q ∈ pr, okL mt M q.1 q.2) → ∀ l, okL mt M l (blk pr l) := by
  intro pr
  induction pr with
  | nil => intro _ l; exact trivial
  | cons q pr ih =>
    obtain ⟨k, b⟩ := q
    intro h l
    unfold blk
    by_cases e : l = k
    · rw [if_pos e, e]; exact h (k, b) List.mem_cons_self
    · rw [if_neg e]; exact ih (fun q hq => h q (List.mem_cons_of_mem _ hq)) l
theorem pk_n {mt : Nat → MT} {M : MT} : ∀ q ∈ ([] : List (Nat × List AI)), okL mt M q.1 q.2 := fun q hq => by cases hq
theorem pk_c {mt : Nat → MT} {M : MT} {k : Nat} {b : List AI} (h : okL mt M k b) {pr : List (Nat × List AI)} (r : ∀ q ∈ pr, okL mt M q.1 q.2) : ∀ q ∈ (k, b) :: pr, okL mt M q.1 q.2 := by
  intro q hq
  rcases List.mem_cons.mp hq with e | e
  · rw [e]; exact h
  · exact r q e
