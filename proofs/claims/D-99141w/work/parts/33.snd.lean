section BR
variable {p : Program} {l : Launch} {e : Env} {R : Room} {s : State} {m : MethodId} {args : Array Value} {below : List Frame} {meth : Method} {c : Code} {H : Heap} {locs : List Jvm.Loc} {cells slots : Nat} {Q : State → Prop} {cc : ByteArray} {pc : Nat} {ls : Array Slot} {rest : List Value}
theorem r32_0 : r32 0 := by unfold r32; omega
theorem br_if {cd : Jvm.ClassFile.Cond} {off : Int} {tgt : Nat} {x : Int} (hx : p.tables.exec = Jvm.exec) (hb : c.code = cc) (hd : decode cc pc = .ok (.ifCond cd off, 3)) (ht : (pc : Int) + off = (tgt : Int)) (rx : r32 x)
    (kt : cnd cd x 0 = true → W p l e R s m args below meth c H locs cells slots Q (F0 m tgt ls rest)) (kf : ¬ cnd cd x 0 = true → W p l e R s m args below meth c H locs cells slots Q (F0 m (pc + 3) ls rest)) : W p l e R s m args below meth c H locs cells slots Q (F0 m pc ls (.int (Int32.ofInt x) :: rest)) := by
  have e1 := i32_inj rx r32_0
  have e2 := i32_lt rx r32_0
  have e3 := i32_lt r32_0 rx
  have e4 := i32_le rx r32_0
  have e5 := i32_le r32_0 rx
  simp only [show Int32.ofInt 0 = (0 : Int32) from rfl] at e1 e2 e3 e4 e5
  cases cd <;> simp only [cnd, decide_eq_true_eq] at kt kf
  · exact lv_if_eq hx hb hd ht (fun h => kt (e1.mp h)) (fun h => kf (fun q => h (e1.mpr q)))
  · exact lv_if_ne hx hb hd ht (fun h => kt (fun q => h (e1.mpr q))) (fun h => kf (fun q => q (e1.mp h)))
  · exact lv_if_lt hx hb hd ht (fun h => kt (e2.mp h)) (fun h => kf (fun q => h (e2.mpr q)))
  · exact lv_if_ge hx hb hd ht (fun h => kt (e5.mp h)) (fun h => kf (fun q => h (e5.mpr q)))
  · exact lv_if_gt hx hb hd ht (fun h => kt (e3.mp h)) (fun h => kf (fun q => h (e3.mpr q)))
  · exact lv_if_le hx hb hd ht (fun h => kt (e4.mp h)) (fun h => kf (fun q => h (e4.mpr q)))
theorem br_icmp {cd : Jvm.ClassFile.Cond} {off : Int} {tgt : Nat} {x y : Int} (hx : p.tables.exec = Jvm.exec) (hb : c.code = cc) (hd : decode cc pc = .ok (.if_icmp cd off, 3)) (ht : (pc : Int) + off = (tgt : Int)) (rx : r32 x) (ry : r32 y)
    (kt : cnd cd x y = true → W p l e R s m args below meth c H locs cells slots Q (F0 m tgt ls rest)) (kf : ¬ cnd cd x y = true → W p l e R s m args below meth c H locs cells slots Q (F0 m (pc + 3) ls rest)) : W p l e R s m args below meth c H locs cells slots Q (F0 m pc ls (.int (Int32.ofInt y) :: .int (Int32.ofInt x) :: rest)) := by
  have e1 := i32_inj rx ry
  have e2 := i32_lt rx ry
  have e3 := i32_lt ry rx
  have e4 := i32_le rx ry
  have e5 := i32_le ry rx
  cases cd <;> simp only [cnd, decide_eq_true_eq] at kt kf
  · exact lv_icmp_eq hx hb hd ht (fun h => kt (e1.mp h)) (fun h => kf (fun q => h (e1.mpr q)))
  · exact lv_icmp_ne hx hb hd ht (fun h => kt (fun q => h (e1.mpr q))) (fun h => kf (fun q => q (e1.mp h)))
  · exact lv_icmp_lt hx hb hd ht (fun h => kt (e2.mp h)) (fun h => kf (fun q => h (e2.mpr q)))
  · exact lv_icmp_ge hx hb hd ht (fun h => kt (e5.mp h)) (fun h => kf (fun q => h (e5.mpr q)))
  · exact lv_icmp_gt hx hb hd ht (fun h => kt (e3.mp h)) (fun h => kf (fun q => h (e3.mpr q)))
  · exact lv_icmp_le hx hb hd ht (fun h => kt (e4.mp h)) (fun h => kf (fun q => h (e4.mpr q)))
end BR
theorem cr_ne {G : GG} (hE : ∀ z, z < 0 → G.2.1 z = .null ∨ ∃ q, q < G.1 ∧ G.2.1 z = .ref q) {x y : Int} (h : x ≠ y) (h0 : 0 < x ∨ 0 < y) : cr G x ≠ cr G y := by
  intro q
  rcases h0 with h0 | h0
  · exact cr_inj hE h0 (cr_pos h0) (q ▸ cr_pos h0) (fun e => h e.symm) rfl
  · exact cr_inj hE h0 (cr_pos h0) (q.symm ▸ cr_pos h0) h rfl
theorem asc_none : ∀ {t : List (Int × Int)} {x : Int}, (∀ q ∈ t, q.1 ≠ x) → asc t x = none := by
  intro t
  induction t with
  | nil => intros; rfl
  | cons q t ih =>
    obtain ⟨a, b⟩ := q
    intro x h
    unfold asc
    rw [if_neg (fun e => h (a, b) List.mem_cons_self e.symm)]
    exact ih (fun q hq => h q (List.mem_cons_of_mem _ hq))
theorem asc_look (pc dflt x : Int) : ∀ ps : List (Int × Int), (asc (ps.map (fun q => (q.1, pc + q.2))) x).getD (pc + dflt) = pc + Op.lookupswitch.offset ps dflt x := by
  intro ps
  induction ps with
  | nil => rfl
  | cons q ps ih =>
    obtain ⟨a, b⟩ := q
    rw [List.map_cons]
    unfold asc Op.lookupswitch.offset
    by_cases h : x = a
    · subst h; simp
    · rw [if_neg h]
      first
        | (rw [if_neg (fun e => h e.symm)]; exact ih)
        | (rw [if_neg h]; exact ih)
        | (simp [Ne.symm h, h]; exact ih)
section SOUND
variable {mt : Nat → MT} {G : GG} {y : MT} {d : Nat} {p : Program} {l0 : Launch} {e : Env} {R : Room} {s : State} {mid : MethodId} {args : Array Value} {below : List Frame} {meth : Method} {c : Code}
theorem step_case (C : Cx G y.1.cls y.2.1 y.2.2.1 y.1.name d p R s mid args meth c) {pc len : Nat} {F : ALoc → AStk → AH → Option (ALoc × AStk × AH)} (hgr : ∀ {L st h L' st' h'}, F L st h = some (L', st', h') → Gr h h') (h1 : StepOkF y.1.cls y.2.1 y.2.2.1 y.1.name pc len F) {k : ALoc → AStk → AH → Option ARes} {L : ALoc} {st : AStk} {h : AH} {out : AOut} {h' : AH}
    (hk : ∀ L st h out h', k L st h = some (out, h') → BOk G y p l0 e R s mid args below meth c (pc + len) L st h out h') (hs : (match F L st h with | some (L, st, h) => k L st h | none => none) = some (out, h')) : BOk G y p l0 e R s mid args below meth c pc L st h out h' := by
  split at hs
  · rename_i L1 st1 hh1 e1
    obtain ⟨q1, q2⟩ := hk _ _ _ _ _ hs
    have g1 := hgr e1
    refine ⟨g1.trans q1, fun n0 s0 H locs cells slots ls sv S b1 b2 => ?_⟩
    exact h1 G d p l0 e R s mid args below meth c C n0 s0 L st h L1 st1 hh1 e1 (by have := q1.1; omega) (by have := q1.2; omega) H locs cells slots ls sv _ S (fun H' locs' cells' slots' ls' sv' S' => q2 n0 s0 H' locs' cells' slots' ls' sv' S' b1 b2)
  · cases hs
theorem virt_case (C : Cx G y.1.cls y.2.1 y.2.2.1 y.1.name d p R s mid args meth c) (hxt : XT c y.2.2.2.2) {recB : Nat → ALoc → AStk → AH → Option ARes} {recC : Nat → List AV → AH → Option ARes}
    (hB : ∀ l L st h out h', recB l L st h = some (out, h') → BOk G y p l0 e R s mid args below meth c l L st h out h')
    (hC : ∀ k as h out h', recC k as h = some (out, h') → ∃ d', d = d' + 1 ∧ COk G l0 d' (mt k) as h out h')
    {pc len : Nat} {k : ALoc → AStk → AH → Option ARes} (hk : ∀ L st h out h', k L st h = some (out, h') → BOk G y p l0 e R s mid args below meth c (pc + len) L st h out h')
    {a b : Int} {t : List (Int × Int)} {L : ALoc} {st : AStk} {h : AH} {out : AOut} {h' : AH} (hv : VOk mt y pc len t (b.toNat + 1)) (hh : HOk y pc a)
    (hs : (match popN (b.toNat + 1) st [] with
      | some (.inr (.inr z) :: as, rest) => match asc t (ah_t h z).1 with
        | some y => if stw rest ≤ 8 then after recB k a L rest (recC y.toNat (.inr (.inr z) :: as) h) else none
        | none => none
      | _ => none) = some (out, h')) : BOk G y p l0 e R s mid args below meth c pc L st h out h' := by
  split at hs
  · rename_i z as rest hpop
    split at hs
    · rename_i k1 hk1
      split at hs
      · rename_i hrl
        obtain ⟨q1, q2⟩ := popN_0 hpop
        obtain ⟨h0, Cn, Dn, hn, hD, hcall⟩ := hv _ (asc_mem hk1)
        cases hr : recC k1.toNat (.inr (.inr z) :: as) h with
        | none => rw [hr] at hs; cases hs
        | some r =>
          obtain ⟨out1, h1⟩ := r
          rw [hr] at hs
          obtain ⟨d', rfl, hCO⟩ := hC _ _ _ _ _ hr
          rw [q2]
          refine call_ok (mt := mt) C hxt hcall hh q1 hrl hCO (fun n0 s0 H locs cells slots ls sv S => ?_) hB hk hs
          obtain ⟨q, cell, b1, b2, b3, b4, -⟩ := cls_of S.1 C.2.2.2.2.2.1 h0 hn
          rcases hD with rfl | rfl
          · exact ⟨q, as.map (cv G), by rw [List.map_cons, show cv G (.inr (.inr z)) = .ref q from b1]⟩
          · exact ⟨q, as.map (cv G), cell, by rw [List.map_cons, show cv G (.inr (.inr z)) = .ref q from b1], b2, b3, b4⟩
      · cases hs
    · cases hs
  · cases hs
set_option maxHeartbeats 4000000 in
theorem soundL (C : Cx G y.1.cls y.2.1 y.2.2.1 y.1.name d p R s mid args meth c) (hxt : XT c y.2.2.2.2) (hret : meth.sig.returnType = y.2.2.2.1) {recB : Nat → ALoc → AStk → AH → Option ARes} {recC : Nat → List AV → AH → Option ARes}
    (hB : ∀ l L st h out h', recB l L st h = some (out, h') → BOk G y p l0 e R s mid args below meth c l L st h out h')
    (hC : ∀ k as h out h', recC k as h = some (out, h') → ∃ d', d = d' + 1 ∧ COk G l0 d' (mt k) as h out h') :
    ∀ (is : List AI) (pc : Nat) (L : ALoc) (st : AStk) (h : AH) (out : AOut) (h' : AH), okL mt y pc is → exL recB recC is L st h = some (out, h') → BOk G y p l0 e R s mid args below meth c pc L st h out h' := by
  intro is
  induction is with
  | nil => intro pc L st h out h' ho hs; cases hs
  | cons x is ih =>
    obtain ⟨i, a, b, t⟩ := x
    intro pc L st h out h' ho hs
    obtain ⟨hx, hb, hml, hown, hts, hKS, hlk, hnm, hfr, hlo⟩ := id C
    have hE := hKS.hE
    have hfree : ∀ {n0 s0 : Int} {L : ALoc} {st : AStk} {h : AH} {H : Heap} {locs : List Jvm.Loc} {cells slots : Nat} {ls : Array Slot} {sv : List Value}, St G y.2.2.1 n0 s0 s L st h H locs cells slots ls sv → ∀ q ∈ locs, G.1 ≤ q.base := fun S => S.2.1
    cases i
    case nop =>
      have ho : a = (pc : Int) := ho
      have hs : recB a.toNat L st h = some (out, h') := hs
      have := hB _ _ _ _ _ _ hs
      rw [show a.toNat = pc by omega] at this
      exact this
    case goto off =>
      obtain ⟨o1, o2, o3⟩ := ho
      have hs : recB a.toNat L st h = some (out, h') := hs
      obtain ⟨q1, q2⟩ := hB _ _ _ _ _ _ hs
      exact ⟨q1, fun n0 s0 H locs cells slots ls sv S b1 b2 => lv_goto hx hb o1 (by omega) (q2 n0 s0 H locs cells slots ls sv S b1 b2)⟩
    case ifCond cd off =>
      obtain ⟨o1, o2, o3, o4⟩ := ho
      simp only [exL] at hs
      split at hs
      · rename_i x st
        have key : Gr h h' := by
          split at hs
          · exact (hB _ _ _ _ _ _ hs).1
          · exact (ih _ _ _ _ _ _ o4 hs).1
        refine ⟨key, fun n0 s0 H locs cells slots ls sv S b1 b2 => ?_⟩
        have hw := S.2.2.2.2.2.2
        rw [S.2.2.2.2.2.1]
        refine br_if hx hb o1 (by omega : (pc : Int) + off = ((a.toNat : Nat) : Int)) (wf_h hw) (fun hc => ?_) (fun hc => ?_)
        · rw [if_pos hc] at hs
          exact (hB _ _ _ _ _ _ hs).2 n0 s0 H locs cells slots ls _ (S.stk st (wf_t hw)) b1 b2
        · rw [if_neg hc] at hs
          exact (ih _ _ _ _ _ _ o4 hs).2 n0 s0 H locs cells slots ls _ (S.stk st (wf_t hw)) b1 b2
      · cases hs
    case if_icmp cd off =>
      obtain ⟨o1, o2, o3, o4⟩ := ho
      simp only [exL] at hs
      split at hs
      · rename_i y1 x1 st
        have key : Gr h h' := by
          split at hs
          · exact (hB _ _ _ _ _ _ hs).1
          · exact (ih _ _ _ _ _ _ o4 hs).1
        refine ⟨key, fun n0 s0 H locs cells slots ls sv S b1 b2 => ?_⟩
        have hw := S.2.2.2.2.2.2
        rw [S.2.2.2.2.2.1]
        refine br_icmp hx hb o1 (by omega : (pc : Int) + off = ((a.toNat : Nat) : Int)) (wf_h (wf_t hw)) (wf_h hw) (fun hc => ?_) (fun hc => ?_)
        · rw [if_pos hc] at hs
          exact (hB _ _ _ _ _ _ hs).2 n0 s0 H locs cells slots ls _ (S.stk st (wf_t (wf_t hw))) b1 b2
        · rw [if_neg hc] at hs
          exact (ih _ _ _ _ _ _ o4 hs).2 n0 s0 H locs cells slots ls _ (S.stk st (wf_t (wf_t hw))) b1 b2
      · cases hs
    case if_acmp cd off =>
      obtain ⟨o1, o2, o3, o4⟩ := ho
      simp only [exL] at hs
      split at hs
      · rename_i y1 x1 st
        obtain ⟨ux, hux⟩ := cr_rf hE x1
        obtain ⟨uy, huy⟩ := cr_rf hE y1
        have inj : ∀ u v, va_rf u = va_rf v → u = v := by intro u v h9; cases u <;> cases v <;> first | rfl | (cases h9; done) | (cases h9; rfl)
        have key : Gr h h' := by
          repeat' split at hs
          all_goals first
            | exact (hB _ _ _ _ _ _ hs).1
            | exact (ih _ _ _ _ _ _ o4 hs).1
            | (cases hs; done)
        refine ⟨key, fun n0 s0 H locs cells slots ls sv S b1 b2 => ?_⟩
        have hw := S.2.2.2.2.2.2
        rw [S.2.2.2.2.2.1, List.map_cons, List.map_cons, show cv G (.inr (.inr y1)) = va_rf uy from huy, show cv G (.inr (.inr x1)) = va_rf ux from hux]
        have S2 := S.stk st (wf_t (wf_t hw))
        have ht : (pc : Int) + off = ((a.toNat : Nat) : Int) := by omega
        by_cases hxy : x1 = y1
        · rw [if_pos hxy] at hs
          have heq : ux = uy := inj _ _ (by rw [← hux, ← huy, hxy])
          cases cd
          · rw [if_pos rfl] at hs
            exact lv_acmp_eq hx hb o1 ht (fun _ => (hB _ _ _ _ _ _ hs).2 n0 s0 H locs cells slots ls _ S2 b1 b2) (fun hc => absurd heq hc)
          · rw [if_neg (by decide)] at hs
            exact lv_acmp_ne hx hb o1 ht (fun hc => absurd heq hc) (fun _ => (ih _ _ _ _ _ _ o4 hs).2 n0 s0 H locs cells slots ls _ S2 b1 b2)
        · rw [if_neg hxy] at hs
          split at hs
          · rename_i h0
            have hne : ux ≠ uy := fun q => cr_ne hE hxy h0 (by rw [hux, huy, q])
            cases cd
            · rw [if_neg (by decide)] at hs
              exact lv_acmp_eq hx hb o1 ht (fun hc => absurd hc hne) (fun _ => (ih _ _ _ _ _ _ o4 hs).2 n0 s0 H locs cells slots ls _ S2 b1 b2)
            · rw [if_pos rfl] at hs
              exact lv_acmp_ne hx hb o1 ht (fun _ => (hB _ _ _ _ _ _ hs).2 n0 s0 H locs cells slots ls _ S2 b1 b2) (fun hc => absurd hc hne)
          · cases hs
      · cases hs
    case ifnull off =>
      obtain ⟨o1, o2, o3, o4⟩ := ho
      simp only [exL] at hs
      split at hs
      · rename_i x1 st
        by_cases h0 : x1 = 0
        · subst h0
          rw [if_pos rfl] at hs
          obtain ⟨q1, q2⟩ := hB _ _ _ _ _ _ hs
          refine ⟨q1, fun n0 s0 H locs cells slots ls sv S b1 b2 => ?_⟩
          rw [S.2.2.2.2.2.1]
          exact lv_ifnullN hx hb o1 (by omega) (q2 n0 s0 H locs cells slots ls _ (S.stk st (wf_t S.2.2.2.2.2.2)) b1 b2)
        · rw [if_neg h0] at hs
          split at hs
          · rename_i hp
            obtain ⟨q1, q2⟩ := ih _ _ _ _ _ _ o4 hs
            refine ⟨q1, fun n0 s0 H locs cells slots ls sv S b1 b2 => ?_⟩
            rw [S.2.2.2.2.2.1, List.map_cons, show cv G (.inr (.inr x1)) = .ref _ from cr_pos hp]
            exact lv_ifnull hx hb o1 (q2 n0 s0 H locs cells slots ls _ (S.stk st (wf_t S.2.2.2.2.2.2)) b1 b2)
          · cases hs
      · cases hs
    case ifnonnull off =>
      obtain ⟨o1, o2, o3, o4⟩ := ho
      simp only [exL] at hs
      split at hs
      · rename_i x1 st
        by_cases h0 : x1 = 0
        · subst h0
          rw [if_pos rfl] at hs
          obtain ⟨q1, q2⟩ := ih _ _ _ _ _ _ o4 hs
          refine ⟨q1, fun n0 s0 H locs cells slots ls sv S b1 b2 => ?_⟩
          rw [S.2.2.2.2.2.1]
          exact lv_ifnonnullN hx hb o1 (q2 n0 s0 H locs cells slots ls _ (S.stk st (wf_t S.2.2.2.2.2.2)) b1 b2)
        · rw [if_neg h0] at hs
          split at hs
          · rename_i hp
            obtain ⟨q1, q2⟩ := hB _ _ _ _ _ _ hs
            refine ⟨q1, fun n0 s0 H locs cells slots ls sv S b1 b2 => ?_⟩
            rw [S.2.2.2.2.2.1, List.map_cons, show cv G (.inr (.inr x1)) = .ref _ from cr_pos hp]
            exact lv_ifnonnull hx hb o1 (by omega) (q2 n0 s0 H locs cells slots ls _ (S.stk st (wf_t S.2.2.2.2.2.2)) b1 b2)
          · cases hs
      · cases hs
    case tableswitch dflt lo hi offs =>
      obtain ⟨len, o1, o2, o3, o4, o5⟩ := ho
      simp only [exL] at hs
      split at hs
      · rename_i x1 st
        obtain ⟨q1, q2⟩ := hB _ _ _ _ _ _ hs
        refine ⟨q1, fun n0 s0 H locs cells slots ls sv S b1 b2 => ?_⟩
        have hw := S.2.2.2.2.2.2
        have rx : r32 x1 := wf_h hw
        rw [S.2.2.2.2.2.1]
        have k9 := q2 n0 s0 H locs cells slots ls _ (S.stk st (wf_t hw)) b1 b2
        by_cases hr : lo ≤ x1 ∧ x1 ≤ hi
        · obtain ⟨off, p1, p2⟩ := o5 (x1 - lo).toNat (by omega)
          rw [show lo + ((x1 - lo).toNat : Int) = x1 by omega] at p2
          have p3 := (o4 _ (asc_mem p2)).2.2
          rw [p2] at k9
          exact lv_tableIn hx hb o1 (by rw [t32 rx]; omega) (by rw [t32 rx]; omega) (by rw [t32 rx]; exact p1) (by show (pc : Int) + off = ((((pc : Int) + off).toNat : Nat) : Int); dsimp only at p3; omega) k9
        · rw [asc_none (fun q hq e => hr (by have := o4 q hq; omega))] at k9
          exact lv_tableOut hx hb o1 (by rw [t32 rx]; omega) (by show (pc : Int) + dflt = ((a.toNat : Nat) : Int); omega) k9
      · cases hs
    case lookupswitch dflt ps =>
      obtain ⟨len, o1, o2, o3, o4, o5, o6⟩ := ho
      simp only [exL] at hs
      split at hs
      · rename_i x1 st
        obtain ⟨q1, q2⟩ := hB _ _ _ _ _ _ hs
        refine ⟨q1, fun n0 s0 H locs cells slots ls sv S b1 b2 => ?_⟩
        have hw := S.2.2.2.2.2.2
        have rx : r32 x1 := wf_h hw
        rw [S.2.2.2.2.2.1]
        have k9 := q2 n0 s0 H locs cells slots ls _ (S.stk st (wf_t hw)) b1 b2
        have hge : 0 ≤ (asc t x1).getD a := by
          cases hq : asc t x1 with
          | none => exact o3
          | some v => exact o6 _ (asc_mem hq)
        have e1 : (asc t x1).getD a = (pc : Int) + Op.lookupswitch.offset ps.toList dflt x1 := by rw [o5, ← o2]; exact asc_look _ _ _ _
        exact lv_lookup hx hb o1 o4 rfl (by rw [t32 rx]; omega) k9
      · cases hs
    case return_ =>
      obtain ⟨o1, o2⟩ := ho
      simp only [exL] at hs
      split at hs
      · cases hs
        refine ⟨Gr.refl _, fun n0 s0 H locs cells slots ls sv S b1 b2 => ?_⟩
        rw [← S.2.2.1.2, ← S.2.2.2.1.2, S.2.2.2.2.2.1]
        exact vx_ret (W.vret hx hb (hret.trans o2) (fun t9 h9 hW => ⟨none, rfl, rfl, fun _ h => (by cases h), by rw [h9]; exact S.1.moved hW.alike⟩) (hfree S) o1 hlk)
      · cases hs
    case ireturn =>
      obtain ⟨o1, o2⟩ := ho
      simp only [exL] at hs
      split at hs
      · rename_i z
        split at hs
        · rename_i hz
          cases hs
          refine ⟨Gr.refl _, fun n0 s0 H locs cells slots ls sv S b1 b2 => ?_⟩
          have rz : r32 z := wf_h S.2.2.2.2.2.2
          rw [← S.2.2.1.2, ← S.2.2.2.1.2, S.2.2.2.2.2.1]
          have hq : ∀ t9 : State, t9.heap = H → s.WarmedH t9.vm → QcO G (.inl (some (.inl z))) h args s (.returned (some (.int (Int32.ofInt z)))) t9 := fun t9 h9 hW => ⟨some (.inl z), rfl, rfl, fun x hx => (by cases hx; exact rz), by rw [h9]; exact S.1.moved hW.alike⟩
          rcases o2 with ⟨rfl, o2⟩ | ⟨rfl, o2⟩ | ⟨rfl, o2⟩ | ⟨rfl, o2⟩
          · exact vx_ret (W.iret hx hb (hret.trans o2) hq (hfree S) o1 hlk)
          · refine vx_ret (W.zret hx hb (hret.trans o2) ?_ hq (hfree S) o1 hlk)
            rcases hz with hz | ⟨-, hz⟩ | ⟨hz, -⟩ | ⟨hz, -⟩
            · exact absurd hz (by decide)
            · rcases hz with rfl | rfl <;> rfl
            · exact absurd hz (by decide)
            · exact absurd hz (by decide)
          · refine vx_ret (W.zret hx hb (hret.trans o2) ?_ hq (hfree S) o1 hlk)
            rcases hz with hz | ⟨hz, -⟩ | ⟨-, hz1, hz2⟩ | ⟨hz, -⟩
            · exact absurd hz (by decide)
            · exact absurd hz (by decide)
            · rw [nar16 rz, show w16 z = z by unfold w16; omega]
            · exact absurd hz (by decide)
          · refine vx_ret (W.zret hx hb (hret.trans o2) ?_ hq (hfree S) o1 hlk)
            rcases hz with hz | ⟨hz, -⟩ | ⟨hz, -⟩ | ⟨-, hz1, hz2⟩
            · exact absurd hz (by decide)
            · exact absurd hz (by decide)
            · exact absurd hz (by decide)
            · show Value.int (Int32.ofInt z).toInt8.toInt32 = _
              rw [i2b_eq, show w8 z = z by unfold w8; omega]
        · cases hs
      · cases hs
    case lreturn =>
      obtain ⟨o1, o2⟩ := ho
      simp only [exL] at hs
      split at hs
      · rename_i z
        cases hs
        refine ⟨Gr.refl _, fun n0 s0 H locs cells slots ls sv S b1 b2 => ?_⟩
        rw [← S.2.2.1.2, ← S.2.2.2.1.2, S.2.2.2.2.2.1]
        exact vx_ret (W.lret hx hb (hret.trans o2) (fun t9 h9 hW => ⟨some (.inr (.inl z)), rfl, rfl, fun x hx => (by cases hx; exact wf_h S.2.2.2.2.2.2), by rw [h9]; exact S.1.moved hW.alike⟩) (hfree S) o1 hlk)
      · cases hs
    case areturn =>
      obtain ⟨o1, rt, o2, o3⟩ := ho
      simp only [exL] at hs
      split at hs
      · rename_i z
        cases hs
        refine ⟨Gr.refl _, fun n0 s0 H locs cells slots ls sv S b1 b2 => ?_⟩
        rw [← S.2.2.1.2, ← S.2.2.2.1.2, S.2.2.2.2.2.1]
        obtain ⟨u, hu⟩ := cr_rf hE z
        exact vx_ret (W.aret hx hb (hret.trans o2) o3 (by show cr G z = _ ∨ ∃ a, cr G z = _; rw [hu]; cases u with | none => exact Or.inl rfl | some u => exact Or.inr ⟨u, rfl⟩) (fun t9 h9 hW => ⟨some (.inr (.inr z)), rfl, rfl, fun x hx => (by cases hx; exact trivial), by rw [h9]; exact S.1.moved hW.alike⟩) (hfree S) o1 hlk)
      · cases hs
    case athrow =>
      obtain ⟨o1, o2, o3⟩ := ho
      simp only [exL] at hs
      split at hs
      · rename_i z st
        split at hs
        · rename_i hz
          cases hs
          refine ⟨Gr.refl _, fun n0 s0 H locs cells slots ls sv S b1 b2 => ?_⟩
          have h5 : (ah_t h z).1 = 5 := by
            have := asc_mem hz.1
            rw [o2] at this
            simp at this
            exact this
          obtain ⟨q, r, c1, c2, ⟨cell, d1, d2, d3, d4⟩, c4⟩ := S.1.2.2.2.1 z (by omega)
          rw [h5] at c2 d2
          have hr : r.1 = "GardenChess$Fault" := by
            have : gcl[4]? = some r := c2
            cases this
            rfl
          obtain ⟨-, hfc, -⟩ := hKS.1.1 4 r c2
          rw [← S.2.2.1.2, ← S.2.2.2.1.2, S.2.2.2.2.2.1, List.map_cons, show cv G (.inr (.inr z)) = .ref q from c1]
          refine vx_athrow hx hb o1 (vx_out (E := "GardenChess$Fault") ?_ hlk d1 d3 (by rw [d2, ← hr]; exact hfc) (fun t9 h9 hal => ⟨z, rfl, rfl, c1, h5, by rw [h9]; exact S.1.moved hal⟩) (hfree S) (Nat.le_refl _) (Nat.le_refl _))
          rw [show c.exceptionTable.toList = tableOf y.2.2.2.2 from hxt, o3]
          intro x hx9
          cases hx9
        · cases hs
      · cases hs
    case invokestatic idx =>
      simp only [exL] at hs
      simp only [okL] at ho
      split at ho
      · rename_i ha
        rw [if_pos ha] at hs
        exact step_case C semCopy_gr ho.1 (fun L st h out h' q => ih _ _ _ _ _ _ ho.2 q) hs
      · rename_i ha
        rw [if_neg ha] at hs
        obtain ⟨o1, o2, o3⟩ := ho
        split at hs
        · rename_i as rest hpop
          split at hs
          · rename_i hrl
            split at hs
            · rename_i k0 k1 t1
              obtain ⟨q1, q2⟩ := popN_0 hpop
              cases hr : recC k1.toNat as h with
              | none => rw [hr] at hs; cases hs
              | some r =>
                obtain ⟨out1, h1⟩ := r
                rw [hr] at hs
                obtain ⟨d', rfl, hCO⟩ := hC _ _ _ _ _ hr
                rw [q2]
                exact call_ok (mt := mt) C hxt (o1 _ List.mem_cons_self) o2 q1 hrl hCO (fun n0 s0 H locs cells slots ls sv S => trivial) hB (fun L st h out h' q => ih _ _ _ _ _ _ o3 q) hs
            · cases hs
          · cases hs
        · cases hs
    case invokespecial idx =>
      simp only [exL] at hs
      simp only [okL] at ho
      split at ho
      · rename_i ha
        rw [if_pos ha] at hs
        obtain ⟨o1, w1, w2, w3, o4⟩ := ho
        split at hs
        · rename_i z st
          split at hs
          · rename_i hz
            obtain ⟨q1, q2⟩ := ih _ _ _ _ _ _ o4 hs
            refine ⟨q1, fun n0 s0 H locs cells slots ls sv S b1 b2 => ?_⟩
            rw [S.2.2.2.2.2.1, List.map_cons, show cv G (.inr (.inr z)) = .ref _ from cr_pos hz.1]
            exact W.objInit hx hb hown (hts _ w1) (hts _ w2) (hts _ w3) (g := F0 mid pc ls _) rfl (by rw [hml]; exact S.2.2.2.2.1.1) rfl o1 (by omega) (by have := cat_sum hE st; show 2 * 0 + _ + 12 ≤ _; omega) (q2 n0 s0 H locs cells slots ls _ (S.stk st (wf_t S.2.2.2.2.2.2)) b1 b2)
          · cases hs
        · cases hs
      · rename_i ha
        rw [if_neg ha] at hs
        exact virt_case C hxt hB hC (fun L st h out h' q => ih _ _ _ _ _ _ ho.2.2 q) ho.1 ho.2.1 hs
    case invokevirtual idx =>
      simp only [exL] at hs
      simp only [okL] at ho
      split at ho
      · rename_i ha
        rw [if_pos ha] at hs
        split at hs
        · rename_i z st
          split at hs
          · rename_i hz
            refine step_case C (F := semGC b) (fun {L st h L' st' h'} q => ?_) ho.1 (fun L st h out h' q => ih _ _ _ _ _ _ ho.2 q) (by simp only [semGC]; rw [if_pos hz]; exact hs)
            unfold semGC at q
            split at q
            · split at q
              · cases q; exact Gr.refl _
              · cases q
            · cases q
          · cases hs
        · cases hs
      · rename_i ha
        rw [if_neg ha] at hs
        exact virt_case C hxt hB hC (fun L st h out h' q => ih _ _ _ _ _ _ ho.2.2 q) ho.1 ho.2.1 hs
    case invokeinterface idx cnt =>
      simp only [exL] at hs
      simp only [okL] at ho
      exact virt_case C hxt hB hC (fun L st h out h' q => ih _ _ _ _ _ _ ho.2.2 q) ho.1 ho.2.1 hs
    all_goals
      obtain ⟨len, o1, o2⟩ := ho
      exact step_case C sem1_gr (F := sem1 _) o1 (fun L st h out h' q => ih _ _ _ _ _ _ o2 q) hs
end SOUND
