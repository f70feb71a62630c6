section HEAP2
variable {own : String} {cc : ByteArray} {nL : Nat} {nm : String} {pc : Nat} {a b : Int} {t : List (Int × Int)}
theorem St.wr {G : GG} {n0 s0 : Int} {s : State} {L : ALoc} {st : AStk} {h h' : AH} {H H1 : Heap} {locs : List Jvm.Loc} {cells slots : Nat} {ls : Array Slot} {sv : List Value} {z : Int} {q sl : Nat} (S : St G nL n0 s0 s L st h H locs cells slots ls sv) (hE : ∀ z, z < 0 → G.2.1 z = .null ∨ ∃ q, q < G.1 ∧ G.2.1 z = .ref q) (hz : 0 < z) (hq : cr G z = .ref q) (h1 : H1.size = H.size) (h2 : ∀ y, y ≠ q → H1[y]? = H[y]?)
    (hn : ah_n h' = ah_n h) (hs : ah_s h' = ah_s h) (ht : ∀ y, ah_t h' y = ah_t h y) (hm : ∀ y k, y ≠ z → ah_m h' y k = ah_m h y k) (hO : 0 < (ah_t h z).1 → cellO G h' H1 z) (hA : (ah_t h z).1 < 0 → cellA G s h' H1 z) (st' : AStk) (hw : ∀ u ∈ st', wfv u) : St G nL n0 s0 s L st' h' H1 (locs ++ [⟨q, sl⟩]) cells slots ls (st'.map (cv G)) := by
  refine ⟨S.1.upd hE hz hq h1 h2 hn ht hm hO hA, fun x hx => ?_, by rw [hn]; exact S.2.2.1, by rw [hs]; exact S.2.2.2.1, S.2.2.2.2.1, rfl, hw⟩
  rcases List.mem_append.mp hx with hx | hx
  · exact S.2.1 x hx
  · rw [List.mem_singleton.mp hx]
    rw [cr_pos hz] at hq
    cases hq
    show G.1 ≤ G.1 + (z.toNat - 1)
    omega
theorem ok_putfield {idx : Nat} (hd : decode cc pc = .ok (.putfield idx, 3)) (ht : ∀ x ∈ t, ∃ r, FOk own idx x r ∧ kdP (gty (x.1.toNat - 1) x.2.toNat) = a ∧ ((r.2.1 x.2.toNat).2.2.2 = false ∨ ((r.2.1 x.2.toNat).2.2.2 = true ∧ nm = "<init>" ∧ (r.2.1 x.2.toNat).1 = own ∧ Cond.fieldLink own idx own (r.2.1 x.2.toNat).2.1 (r.2.1 x.2.toNat).2.2.1 ∈ lw_all))) : StepOk own cc nL nm pc 3 (.putfield idx, a, b, t) := by
  intro G d p l e R s m args below meth c C n0 s0 L st h L' st' h' hs1 h1 h2 H locs cells slots ls sv Q S k
  simp only [sem1] at hs1
  split at hs1
  · rename_i v z st2
    split at hs1
    · rename_i k1 x1 hk1 hx1
      split at hs1
      · rename_i hz
        cases hs1
        obtain ⟨r, ⟨hr, hp, hk0, hkN, ref, hl, hsm⟩, hkd, hfin⟩ := ht _ (asc_mem hk1)
        obtain ⟨hx, hb, hml, hown, hts, hKS, hlk, hnm, hfr, hlo⟩ := C
        have hE := hKS.hE
        dsimp only at hr hp hk0 hkN hl hsm hkd hfin
        obtain ⟨q, r2, hq, hr2, ⟨cell, q1, q2, q3, q4⟩, hin⟩ := S.1.2.2.2.1 z hp
        obtain rfl := Option.some.inj (hr.symm.trans hr2)
        obtain ⟨hin9, hty9, hnm9⟩ := gcl_ok _ _ hr
        have hap := va_apart (own := own) hts hin9 _ hty9 hnm9 hKS.1 hr
        obtain ⟨hSl, hfc, kC, hkC, hkind⟩ := hKS.1.1 _ _ hr
        obtain ⟨cf_, kf, fi, f, hi, hsl⟩ := hSl k1.toNat hkN
        have hst := (u_facts hfc hkC (u_lays hts hin9 hkN) hi).1
        have hw := S.2.2.2.2.2.2
        obtain ⟨t1, t2, t3, t4⟩ := toK_ok hE (ty := gty ((ah_t h z).1.toNat - 1) k1.toNat) (wf_h hw) (by rw [hkd]; exact hx1)
        have hsame := FLink.same (idx := idx) (own := own) hts hsm
        have k9 : ∀ H1 : Heap, H1[q]? = some (cell.setSlot f.slot (cv G v)) → H1.size = H.size → (∀ y, y ≠ q → H1[y]? = H[y]?) → W p l e R s m args below meth c H1 (locs ++ [⟨q, f.slot⟩]) cells slots Q (F0 m (pc + 3) ls (st'.map (cv G))) := by
          intro H1 g1 g2 g3
          refine k _ _ _ _ _ _ (S.wr (h' := ah_w h z k1 x1) hE hz hq g2 g3 rfl rfl (fun _ => rfl) (fun y k hy => if_neg (fun q9 => hy q9.1)) (fun _ => ?_) (fun h9 => absurd h9 (by omega)) _ (wf_t (wf_t hw)))
          refine ⟨q, r, hq, hr, ⟨_, g1, q2, q3, fun j hj => ?_⟩, fun j hj => ?_⟩
          · rw [hsl]
            refine Eq.trans (t_set q4 hap hkN (cv G v) j hj) ?_
            unfold updV
            by_cases e : j = k1.toNat
            · rw [if_pos e, t2, e]
              show some (cf G _ x1) = some (cf G _ (if z = z ∧ ((k1.toNat : Nat) : Int) = k1 then x1 else ah_m h z _))
              rw [if_pos ⟨rfl, by omega⟩]
              rfl
            · rw [if_neg e]
              show some (cf G _ _) = some (cf G _ (if z = z ∧ (j : Int) = k1 then x1 else ah_m h z _))
              rw [if_neg (fun q9 => e (by omega))]
              rfl
          · show inR (gty ((ah_t h z).1.toNat - 1) j) (if z = z ∧ (j : Int) = k1 then x1 else ah_m h z j)
            by_cases e : j = k1.toNat
            · rw [if_pos ⟨rfl, by omega⟩, e]
              exact t1
            · rw [if_neg (fun q9 => e (by omega))]
              exact hin j hj
        rw [S.2.2.2.2.2.1, List.map_cons, List.map_cons, show cv G (.inr (.inr z)) = .ref q from hq]
        rcases hfin with hfin | ⟨hfin, hini, hdecl, hl2⟩
        · have hlay := hts _ (hin9 _ (u_in_lay hkN))
          unfold u_lay at hlay
          rw [if_neg (by rw [hfin]; decide)] at hlay
          have h6 := u_store hfc hkC hkind hlay hi (hty9 _ hkN) t3 t4
          rcases hl with hl | ⟨host, hl⟩
          · exact W.putK hx hb (f := f) ⟨hown, hts _ hl, ⟨_, _, _, hsame _ hi⟩, hst⟩ (by rw [q2]; exact h6) q1 q3 (by rw [hsl]; exact k2_hasslot (q4 _ hkN)) (g := F0 m pc ls _) rfl rfl hd k9
          · exact va_WputK hx hb (f := f) hown (va_Nw.use rfl (hKS.2.1 _ hl rfl)) (hsame _ hi) hst (by rw [q2]; exact h6) q1 q3 (by rw [hsl]; exact k2_hasslot (q4 _ hkN)) (g := F0 m pc ls _) rfl rfl hd k9
        · have hlay := hts _ (hin9 _ (u_in_lay hkN))
          unfold u_lay at hlay
          rw [if_pos hfin] at hlay
          have hcf : m.cls = cf_ := by
            obtain ⟨_, _, c', _, _, _, -, -, hf', -, -, -, hown2, -⟩ := Cond.laysFinal_spec hlay
            have e1 : c' = cf_ := by have := hi.symm.trans hf'; simp at this; exact this.1.symm
            rw [hdecl] at hown2
            rw [← e1]; exact Option.some.inj (hown.symm.trans hown2)
          have h6 := u_fits hfc hkC hkind (Or.inr hlay) hi (hty9 _ hkN) t3 t4
          rw [hdecl] at hi
          exact W.putFinK hx hb hown (hts _ hl2) hi hst hcf (by rw [hnm, hini]) (by rw [q2]; exact h6) q1 q3 (by rw [hsl]; exact k2_hasslot (q4 _ hkN)) (g := F0 m pc ls _) rfl rfl hd k9
      · cases hs1
    · cases hs1
  · cases hs1
theorem St.nw {G : GG} {n0 s0 : Int} {s : State} {L : ALoc} {st : AStk} {h : AH} {H H1 : Heap} {locs : List Jvm.Loc} {cells slots : Nat} {ls : Array Slot} {sv : List Value} {tg : Int × Int} {N : Nat} (S : St G nL n0 s0 s L st h H locs cells slots ls sv) (hE : ∀ z, z < 0 → G.2.1 z = .null ∨ ∃ q, q < G.1 ∧ G.2.1 z = .ref q) (h1 : H1.size = H.size + 1) (h2 : ∀ y, y < H.size → H1[y]? = H[y]?)
    (hO : 0 < tg.1 → cellO G (ah_new h tg N) H1 (ah_n h)) (hA : tg.1 < 0 → cellA G s (ah_new h tg N) H1 (ah_n h)) (st' : AStk) (hw : ∀ u ∈ st', wfv u) : St G nL n0 s0 s L (.inr (.inr (ah_n h)) :: st') (ah_new h tg N) H1 locs (cells + 1) (slots + N) ls (.ref H.size :: st'.map (cv G)) := by
  obtain ⟨S1, S2, ⟨c1, c2⟩, ⟨c3, c4⟩, S5, S6, S7⟩ := S
  refine ⟨S1.new hE h1 h2 hO hA, S2, ⟨?_, ?_⟩, ⟨?_, ?_⟩, S5, ?_, wf_c trivial hw⟩
  · show n0 ≤ ah_n h + 1
    omega
  · show cells + 1 = (ah_n h + 1 - n0).toNat
    omega
  · show s0 ≤ ah_s h + N
    omega
  · show slots + N = (ah_s h + N - s0).toNat
    omega
  · rw [List.map_cons, show cv G (.inr (.inr (ah_n h))) = .ref H.size from S1.next]
theorem ok_new {idx : Nat} {C : String} {T : u_T} {N ci : Nat} (hd : decode cc pc = .ok (.new idx, 3)) (hci : gcl[ci]? = some (C, T, N)) (ha : a = (ci : Int) + 1) (hb : b = (N : Int)) (hf : ∀ k, k < N → gty ci k ≠ .float ∧ gty ci k ≠ .double) (w1 : Cond.classLink own idx C ∈ lw_all) (w2 : Cond.instantiable C N ∈ lw_all) (w3 : Cond.initialized C ∈ lw_all) : StepOk own cc nL nm pc 3 (.new idx, a, b, t) := by
  intro G d p l e R s m args below meth c C1 n0 s0 L st h L' st' h' hs1 h1 h2 H locs cells slots ls sv Q S k
  simp only [sem1] at hs1
  cases hs1
  obtain ⟨hx, hb1, hml, hown, hts, hKS, hlk, hnm, hfr, hlo⟩ := C1
  have hKn := hKS.1.1 _ _ hci
  obtain ⟨hin9, hty9, hnm9⟩ := gcl_ok _ _ hci
  subst ha hb
  rw [show ((N : Int).toNat : Int) = (N : Int) by omega] at h1 h2 k
  have e1 : ah_n h + 1 - n0 ≤ R.cells := h1
  have e2 : ah_s h + N - s0 ≤ R.slots := h2
  have g1 := S.2.2.1
  have g2 := S.2.2.2.1
  refine W.newcK hx hb1 hown (hts _ w1) (hts _ w2) (hts _ w3) (g := F0 m pc ls sv) rfl hd (by omega) (by omega) hKn.2.1 rfl fun H1 kC hkC e1 z1 o1 => ?_
  have e4 : ((ci : Int) + 1).toNat - 1 = ci := by omega
  have hw := S.2.2.2.2.2.2
  rw [show sv = st.map (cv G) from S.2.2.2.2.2.1]
  refine k _ _ _ _ _ _ (S.nw hKS.hE z1 o1 (fun _ => ?_) (fun h9 => absurd h9 (by dsimp only; omega)) st hw)
  unfold cellO
  rw [show ah_t (ah_new h ((ci : Int) + 1, 0) N) (ah_n h) = ((ci : Int) + 1, 0) from if_pos rfl]
  dsimp only
  rw [e4]
  have hm : ∀ k, ah_m (ah_new h ((ci : Int) + 1, 0) N) (ah_n h) k = 0 := fun k => if_pos rfl
  exact ⟨_, _, S.1.next, hci, (u_born (gty ci) hts hin9 hKn hkC e1 hty9).to (fun k hk => by rw [hm, cf_0 G _ (hf k hk)]), fun k hk => by rw [hm]; exact inR_0 _⟩
end HEAP2
