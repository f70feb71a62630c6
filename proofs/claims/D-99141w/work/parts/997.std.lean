/-! ===== a board that stands obeys; a board refused leaves the old one ===== -/
section STD
variable {d : Nat} {h h' h0 : AH} {Q : QQ} {x y z m k s l w a b c v n p r o : Int} {S T T' : Int → Int → Int} {t nw : Int → Int}
set_option maxHeartbeats 4000000
theorem zs_72 {i : Int} : zstd S 1072 i = if 3 ≤ i ∧ i < 6 then S 1072 (i - 3) else S 1072 i := by
  unfold zstd zcp zw; simp only [Int.reduceEq, false_and, if_false, true_and, Int.reduceAdd]
theorem zs_73 {i : Int} : zstd S 1073 i = if 24 ≤ i ∧ i < 48 then S 1073 (i - 24) else S 1073 i := by
  unfold zstd zcp zw; simp only [Int.reduceEq, false_and, if_false, true_and, Int.reduceAdd]
theorem zs_74 {i : Int} : zstd S 1074 i = if 4 ≤ i ∧ i < 8 then S 1074 (i - 4) else S 1074 i := by
  unfold zstd zcp zw; simp only [Int.reduceEq, false_and, if_false, true_and, Int.reduceAdd]
theorem zs_75 {i : Int} : zstd S 1075 i = if 20 ≤ i ∧ i < 40 then S 1075 (i - 20) else S 1075 i := by
  unfold zstd zcp zw; simp only [Int.reduceEq, false_and, if_false, true_and, Int.reduceAdd]
theorem zs_76 {i : Int} : zstd S 1076 i = if 16 ≤ i ∧ i < 32 then S 1076 (i - 16) else S 1076 i := by
  unfold zstd zcp zw; simp only [Int.reduceEq, false_and, if_false, true_and, Int.reduceAdd]
theorem zs_78 {i : Int} : zstd S 1078 i = if 18 ≤ i ∧ i < 36 then S 1078 (i - 18) else S 1078 i := by
  unfold zstd zcp zw; simp only [Int.reduceEq, false_and, if_false, true_and, Int.reduceAdd]
theorem zs_79 {i : Int} : zstd S 1079 i = if 2 ≤ i ∧ i < 4 then S 1079 (i - 2) else S 1079 i := by
  unfold zstd zcp zw; simp only [Int.reduceEq, false_and, if_false, true_and, Int.reduceAdd]
theorem zs_80 : zstd S 1080 1 = S 1080 0 := rfl
theorem zs_81 : zstd S 1081 1 = S 1081 0 := rfl
theorem zs_82 {i : Int} : zstd S 1082 i = if 1600 ≤ i ∧ i < 1600 + zcdd S then S 1082 (i - 1600) else S 1082 i := by
  unfold zstd
  rw [show ∀ (S' : Int → Int → Int) (c : Int), zcp S' 1082 1600 c 1082 i = if 1600 ≤ i ∧ i < 1600 + c then S' 1082 (i - 1600) else S' 1082 i from fun S' c => by unfold zcp; simp only [true_and]]
  have e : ∀ j, zw (zw (zcp (zcp (zcp (zcp (zcp (zcp (zcp S 1072 3 3) 1073 24 24) 1074 4 4) 1075 20 20) 1076 16 16) 1078 18 18) 1079 2 2) 1080 1 (S 1080 0)) 1081 1 (S 1081 0) 1082 j = S 1082 j := fun j => by
    unfold zcp zw; simp only [Int.reduceEq, false_and, if_false]
  rw [e, e]
theorem TV_std (hP : SP S) : TV (zstd S) := by
  obtain ⟨a1, a2, a3, a4, a5, a6, a7, a8, a9⟩ := hP
  have c0 := a1.1; have c1 := a1.2.1; have c2 := a1.2.2
  have e3 : zstd S 1072 3 = S 1072 0 := rfl
  have e4 : zstd S 1072 4 = S 1072 1 := rfl
  have e5 : zstd S 1072 5 = S 1072 2 := rfl
  have e6 : zstd S 1074 4 = S 1074 0 := rfl
  have e7 : zstd S 1074 5 = S 1074 1 := rfl
  have e8 : zstd S 1074 6 = S 1074 2 := rfl
  have e9 : zstd S 1074 7 = S 1074 3 := rfl
  have f2 : zstd S 1079 2 = S 1079 0 := rfl
  have f3 : zstd S 1079 3 = S 1079 1 := rfl
  have g76 : ∀ i, 16 ≤ i → i < 32 → zstd S 1076 i = S 1076 (i - 16) := fun i a b => by rw [zs_76, if_pos ⟨a, b⟩]
  unfold TV
  rw [e3, e4, e5, e6, e7, e8, e9, f2, f3]
  refine ⟨c0, c1, c2, by omega, by omega, fun m p q => ?_, fun k p q => ?_, fun f p q => ?_, a8.1, a8.2, by omega, by omega, fun m p q => ?_⟩
  · rw [g76 _ (by omega) (by omega), g76 _ (by omega) (by omega), show 16 + 2 * m - 16 = 2 * m by omega, show 17 + 2 * m - 16 = 2 * m + 1 by omega]
    exact a4.1 m p q
  · rw [zs_75, zs_75, zs_75, zs_75, if_pos (by omega), if_pos (by omega), if_pos (by omega), if_pos (by omega), show 20 + 4 * k - 20 = 4 * k by omega, show 21 + 4 * k - 20 = 4 * k + 1 by omega, show 22 + 4 * k - 20 = 4 * k + 2 by omega, show 23 + 4 * k - 20 = 4 * k + 3 by omega]
    exact a4.2.1 k p q
  · rw [zs_78, zs_78, zs_78, if_pos (by omega), if_pos (by omega), if_pos (by omega), show 18 + 3 * f - 18 = 3 * f by omega, show 19 + 3 * f - 18 = 3 * f + 1 by omega, show 20 + 3 * f - 18 = 3 * f + 2 by omega]
    exact a4.2.2.1 f p q
  · rw [g76 _ (by omega) (by omega), show 16 + 2 * m - 16 = 2 * m by omega]; exact a5 m p q
theorem NV_std (hP : SP S) : NV (zstd S) (znw0 S nw) := by
  obtain ⟨a1, a2, a3, a4, a5, a6, a7, a8, a9⟩ := hP
  have c1 := a1.2.1; have c2 := a1.2.2
  have e4 : zstd S 1072 4 = S 1072 1 := rfl
  have e6 : zstd S 1074 4 = S 1074 0 := rfl
  have e7 : zstd S 1074 5 = S 1074 1 := rfl
  have pl : ∀ m, 0 ≤ m → m < S 1072 1 → znw0 S nw (2 + 2 * m) = S 1077 (2 * m) ∧ znw0 S nw (3 + 2 * m) = S 1077 (2 * m + 1) := fun m p q => by
    unfold znw0
    rw [if_neg (by omega), if_pos (by omega), if_neg (by omega), if_pos (by omega), show 2 + 2 * m - 2 = 2 * m by omega, show 3 + 2 * m - 2 = 2 * m + 1 by omega]
    exact ⟨rfl, rfl⟩
  have pz : ∀ m, 0 ≤ m → m < 8 → ¬ m < S 1072 1 → znw0 S nw (2 + 2 * m) = 0 ∧ znw0 S nw (3 + 2 * m) = 0 := fun m p q u => by
    unfold znw0
    rw [if_neg (by omega), if_neg (by omega), if_pos (by omega), if_neg (by omega), if_neg (by omega), if_pos (by omega)]
    exact ⟨rfl, rfl⟩
  unfold NV
  rw [e4, e6, e7]
  refine ⟨fun m p q => ?_, fun m p q => ?_, fun m u p q u0 u1 ne _ => ?_, Or.inl ?_⟩
  · by_cases g : m < S 1072 1
    · rw [(pl m p g).1, (pl m p g).2]
      have h1 := a4.2.2.2.2 (2 * m) (by omega) (by omega)
      have h2 := a4.2.2.2.2 (2 * m + 1) (by omega) (by omega)
      omega
    · rw [(pz m p q g).1, (pz m p q g).2]; omega
  · rw [(pl m p q).1, (pl m p q).2]
    have h1 := a4.2.2.2.2 (2 * m) (by omega) (by omega)
    have h2 := a4.2.2.2.2 (2 * m + 1) (by omega) (by omega)
    have h3 := a6 m p q
    exact Or.inr ⟨⟨h1.1, h3.1⟩, h2.1, h3.2⟩
  · rw [(pl m p q).1, (pl m p q).2, (pl u u0 u1).1, (pl u u0 u1).2]
    by_cases g : u < m
    · exact a7 m u p q u0 g
    · intro z; exact a7 u m u0 u1 p (by omega) ⟨z.1.symm, z.2.symm⟩
  · unfold znw0; rw [if_neg (by omega), if_neg (by omega), if_pos (by omega)]
theorem FV_std (hP : SP S) : FV (znw0 S nw) := by
  have c1 := hP.1.2.1; have c2 := hP.1.2.2
  refine ⟨?_, fun f p q => ?_, ?_⟩
  · unfold znw0; rw [if_neg (by omega), if_neg (by omega), if_pos (by omega)]; omega
  · unfold znw0
    by_cases g : f < S 1072 2
    · rw [if_pos (by omega), show 18 + f - 18 = f by omega]
      have := (hP.2.2.2.1.2.2.1 f p q).2.2; exact this
    · rw [if_neg (by omega), if_neg (by omega), if_pos (by omega)]; omega
  · unfold znw0; rw [if_neg (by omega), if_neg (by omega), if_pos (by omega)]; omega
theorem LV_std (hP : SP S) : LV (zstd S) := hP.2.2.1
theorem NMV_std (hP : SP S) : NMV (zstd S) := by
  intro i p q
  rw [zs_73, if_pos (by omega)]
  exact hP.2.2.2.1.2.2.2.1 (i - 24) (by omega) (by omega)
theorem zhl_std (hP : SP S) (hn : S 1080 0 = 0) : zhl (zstd S) = zcl (S 1082) (S 1081 0).toNat 0 := by
  have hh := hP.2.2.2.2.2.2.2.2
  have h2 : 0 ≤ S 1081 0 ∧ S 1081 0 ≤ 1600 := by rcases hh with q | q; omega; exact q.2.1
  have ec : zcdd S = S 1081 0 := by unfold zcdd; rw [if_neg (by omega)]
  unfold zhl
  rw [zs_80, zs_81, hn, Int.sub_zero]
  refine zcl_c _ _ (fun i p q => ?_)
  rw [zs_82, ec, if_pos (by omega)]
  congr 1; omega
theorem HV_std (hP : SP S) : HV (zstd S) := by
  rcases hP.2.2.2.2.2.2.2.2 with q | q
  · exact Or.inl q
  · refine Or.inr ?_
    rw [zhl_std hP q.1, zs_80, zs_81]
    exact ⟨by omega, by omega, q.2.1.2, q.2.2⟩
theorem SRg_lo {S' : Int → Int → Int} (hS : SRg S) (e : ∀ r i, LO r i → S' r i = S r i) : SRg S' := by
  refine ⟨fun m p q => ?_, fun m p q => ?_, fun m p q => ?_, fun m p q => ?_, fun m p q => ?_⟩
  · rw [e _ _ (by unfold LO; omega), e _ _ (by unfold LO; omega)]; exact hS.1 m p q
  · rw [e _ _ (by unfold LO; omega), e _ _ (by unfold LO; omega), e _ _ (by unfold LO; omega), e _ _ (by unfold LO; omega)]; exact hS.2.1 m p q
  · rw [e _ _ (by unfold LO; omega), e _ _ (by unfold LO; omega), e _ _ (by unfold LO; omega)]; exact hS.2.2.1 m p q
  · rw [e _ _ (by unfold LO; omega)]; exact hS.2.2.2.1 m p q
  · rw [e _ _ (by unfold LO; omega)]; exact hS.2.2.2.2 m p q
theorem SRg_std (hP : SP S) : SRg (zstd S) := by
  refine SRg_lo hP.2.2.2.1 (fun r i w => ?_)
  unfold LO at w
  obtain ⟨w0, w⟩ := w
  rcases w with w | w | w | w | w | w | w | w | w | w | w <;> obtain ⟨e, w⟩ := w <;> subst e
  · rw [zs_72, if_neg (by omega)]
  · rw [zs_73, if_neg (by omega)]
  · rw [zs_74, if_neg (by omega)]
  · rw [zs_75, if_neg (by omega)]
  · rw [zs_76, if_neg (by omega)]
  · unfold zstd zcp zw; simp only [Int.reduceEq, false_and, if_false]
  · rw [zs_78, if_neg (by omega)]
  · rw [zs_79, if_neg (by omega)]
  · have e : i = 0 := by omega
    subst e; rfl
  · have e : i = 0 := by omega
    subst e; rfl
  · rw [zs_82, if_neg (by omega)]
/-- the board that stands is the same -/
def HI (T T' : Int → Int → Int) : Prop := ∀ r i, 1072 ≤ r → r ≤ 1082 → ¬ LO r i → T' r i = T r i
theorem TV_hi (e : HI T T') (hT : TV T) : TV T' := by
  obtain ⟨b1, b2, b3, b4, b5, b6, b7, b8, b9, b10, b11, b12, b13⟩ := hT
  have l : ∀ r i, 1072 ≤ r → r ≤ 1082 → ¬ LO r i → T' r i = T r i := e
  unfold TV
  rw [l 1072 3 (by decide) (by decide) (by unfold LO; omega), l 1072 4 (by decide) (by decide) (by unfold LO; omega), l 1072 5 (by decide) (by decide) (by unfold LO; omega), l 1074 4 (by decide) (by decide) (by unfold LO; omega), l 1074 5 (by decide) (by decide) (by unfold LO; omega), l 1074 6 (by decide) (by decide) (by unfold LO; omega), l 1074 7 (by decide) (by decide) (by unfold LO; omega), l 1079 2 (by decide) (by decide) (by unfold LO; omega), l 1079 3 (by decide) (by decide) (by unfold LO; omega)]
  refine ⟨b1, b2, b3, b4, b5, fun m p q => ?_, fun m p q => ?_, fun m p q => ?_, b9, b10, b11, b12, fun m p q => ?_⟩
  · rw [l 1076 _ (by decide) (by decide) (by unfold LO; omega), l 1076 _ (by decide) (by decide) (by unfold LO; omega)]; exact b6 m p q
  · rw [l 1075 _ (by decide) (by decide) (by unfold LO; omega), l 1075 _ (by decide) (by decide) (by unfold LO; omega), l 1075 _ (by decide) (by decide) (by unfold LO; omega), l 1075 _ (by decide) (by decide) (by unfold LO; omega)]; exact b7 m p q
  · rw [l 1078 _ (by decide) (by decide) (by unfold LO; omega), l 1078 _ (by decide) (by decide) (by unfold LO; omega), l 1078 _ (by decide) (by decide) (by unfold LO; omega)]; exact b8 m p q
  · rw [l 1076 _ (by decide) (by decide) (by unfold LO; omega)]; exact b13 m p q
theorem NV_hi (e : HI T T') (hN : NV T nw) : NV T' nw := by
  unfold NV
  rw [e 1072 4 (by decide) (by decide) (by unfold LO; omega), e 1074 4 (by decide) (by decide) (by unfold LO; omega), e 1074 5 (by decide) (by decide) (by unfold LO; omega)]
  exact hN
theorem LV_hi (e : HI T T') (hN : LV T) : LV T' := by
  unfold LV
  rw [e 1074 6 (by decide) (by decide) (by unfold LO; omega), e 1074 7 (by decide) (by decide) (by unfold LO; omega)]
  exact hN
theorem NMV_hi (e : HI T T') (hN : NMV T) : NMV T' := by
  intro i p q; rw [e 1073 i (by decide) (by decide) (by unfold LO; omega)]; exact hN i p q
theorem zhl_hi (e : HI T T') (h0 : 0 ≤ T 1080 1) : zhl T' = zhl T := by
  unfold zhl
  rw [e 1080 1 (by decide) (by decide) (by unfold LO; omega), e 1081 1 (by decide) (by decide) (by unfold LO; omega)]
  exact zcl_c _ _ (fun i p q => e 1082 _ (by decide) (by decide) (by unfold LO; omega))
theorem HV_hi (e : HI T T') (hN : HV T) : HV T' := by
  unfold HV
  rcases hN with q | q
  · rw [e 1080 1 (by decide) (by decide) (by unfold LO; omega)]; exact Or.inl q
  · rw [zhl_hi e q.1, e 1080 1 (by decide) (by decide) (by unfold LO; omega), e 1081 1 (by decide) (by decide) (by unfold LO; omega)]; exact Or.inr q
theorem HI_off (hO : Off WBd h h') : HI (stt h) (stt h') := by
  intro r i p q w
  unfold stt; rw [if_pos ⟨p, q⟩, if_pos ⟨p, q⟩]
  refine hO.2 _ _ (fun u => ?_)
  rcases u with (u | u | u) | u
  · rcases u with u | u | u
    · unfold Wlx at u; omega
    · exact w u
    · omega
  · unfold WZ WQ at u; omega
  · omega
  · omega
theorem MG_hi (hG : MG T nw h) (hM : MI h') (hO : Off WBd h h') : HI T (stt h') ∧ MG (stt h') nw h' := by
  have e : HI T (stt h') := by rw [← hG.2.1]; exact HI_off hO
  exact ⟨e, hM, rfl, by rw [Off_r hO (fun i w => by unfold WBd WB2 WR Wlx LO WZ WQ at w; omega)]; exact hG.2.2.1, TV_hi e hG.2.2.2.1, NV_hi e hG.2.2.2.2⟩
theorem MG_std (hP : SP S) (hS : ST (zstd S) h') (e : ah_m h' 1083 = znw0 S nw) : MG (zstd S) (znw0 S nw) h' :=
  ⟨hS.1, hS.2, e, TV_std hP, NV_std hP⟩
end STD
