/-! LAYER 2: the system's collector: the whole -/
theorem collect_x {N : Nat} (hN : BIG ≤ N) {S : SR} {K : Int32 → Int32 → Int32 → Prop} {q : Int} {w : WD} {xf : Int32 → List Int32} {σ μ : mS} (H : QU S K q w xf σ μ) (Z : MZ σ) (hK : ∀ g b n, K g b n → sI μ 81 b = n) {es es' : Int32 → List Int32} (R : RT w σ μ es es') : ∃ σ' g fcs D, xx0_collect N σ = some σ' ∧ (∀ k a, okx (k, a) → (g k a = true ↔ RCX σ es xf (k, a))) ∧ (seg (sI σ 336) (sF σ 337) fcs (-1) ∧ (fcs ++ (wC w).map Prod.fst).Nodup ∧ (∀ c, c ∈ fcs ++ (wC w).map Prod.fst → 1 ≤ c ∧ c ≤ 120) ∧ (fcs ++ (wC w).map Prod.fst).length = 120) ∧ SWX σ σ' w xf es g fcs D := by
  obtain ⟨CEx, SHx⟩ := QU_X H hK R
  obtain ⟨σ1, e1, m1, mz, m01, mR⟩ := marks_x hN Z CEx SHx
  obtain ⟨⟨⟨W, RSx, _, RFx, RBx, _⟩, _⟩, _, _, XFx, _, COx, cnt⟩ := id H
  have PK := (RH_PRK H.1.1 (fun a b h => (COx.1 a b h).1)).1
  obtain ⟨_, _, ⟨fcs, c1, c2, c3, c4⟩, ⟨c5, _⟩, _⟩ := COx
  have rc : ∀ k a, okx (k, a) → sI σ1 (mkf k) a ≠ 0 → ∃ o', PR w (k, a) o' := fun k a ho hz => by
    have hm := (m01 (k, a) ho).resolve_left hz
    obtain ⟨o', p, _⟩ := RC_1 H hK R ((mR (k, a) ho).mp hm)
    exact ⟨o', p⟩
  have hz1 : ∀ x, 0 ≤ x → x < 12000 → x ∉ (wS w).map Prod.fst → sI σ1 142 x = 0 := fun x x0 x1 hx => Decidable.byContradiction (fun hz => by
    obtain ⟨o', p⟩ := rc 1 x (.inl ⟨rfl, x0, x1⟩) hz
    exact hx (PR_1 p))
  have hz3 : ∀ x, 0 ≤ x → x < 4000 → x ∉ (wF w).map Prod.fst → sI σ1 239 x = 0 := fun x x0 x1 hx => Decidable.byContradiction (fun hz => by
    obtain ⟨o', p⟩ := rc 3 x (.inr (.inr (.inl ⟨rfl, x0, x1⟩))) hz
    exact hx (PR_3 p))
  have hz4 : ∀ x, 0 ≤ x → x < 12000 → x ∉ (wB w).map Prod.fst → sI σ1 240 x = 0 := fun x x0 x1 hx => Decidable.byContradiction (fun hz => by
    obtain ⟨o', p⟩ := rc 4 x (.inr (.inr (.inr (.inl ⟨rfl, x0, x1⟩)))) hz
    exact hx (PR_4 p))
  have hg : ∀ k a, okx (k, a) → (mkd σ1 (mkf k) a = true ↔ RCX σ es xf (k, a)) := fun k a ho => by
    rw [← mR (k, a) ho]
    simp only [mkd, decide_eq_true_eq]
    exact ⟨fun hz => (m01 (k, a) ho).resolve_left hz, fun hm hz => absurd (hz.symm.trans hm) (by decide)⟩
  -- coroutines
  have hx : ∀ c, c ∈ (wC w).map Prod.fst → (xf c).length ≤ 202 := fun c hc => by
    obtain ⟨fc, bl, _, _, _, _, x5, _⟩ := XFx
    have l1 := sum_mem (f := fun c => (xf c).length) (List.mem_cons_of_mem 0 hc)
    have l2 : (fAll w xf).length = ((cX w).map (fun c => (xf c).length)).sum := fAll_ls
    rw [List.length_append] at x5
    rw [cX] at l2
    omega
  have sg1 : seg (sI σ1 336) (sF σ1 337) fcs (-1) := seg_e c1 (funext (fun i => mf_I m1 rfl)) (mf_F m1 rfl)
  obtain ⟨σ2, D, e2, T2⟩ := sweepC_x hN (XF_ai XFx m1 (fun k hk => by simp only [mkF, List.contains_cons, List.contains_nil, Bool.or_eq_false_iff, beq_eq_false_iff_ne]; (repeat' (first | exact trivial | omega | apply And.intro)))) sg1 c2 c3 c4 hx (by rw [mf_F m1 (k := 358) rfl]; exact ⟨cnt.2.1, Int32.le_trans cnt.2.2.1 (by decide)⟩) (by rw [mf_F m1 (k := 338) rfl]; exact c5)
  obtain ⟨t1, t2, t3, t4, t5, t6, t7, t8, t9, t10, t11, t12, t13⟩ := T2
  have f02 : m_fr q02 σ σ2 := mf_tr (mf_mono m1 (fun k hk => or_1 hk)) (mf_mono t1 (fun k hk => or_2 hk))
  -- tables
  obtain ⟨⟨ps, hs, ff, fh, M⟩, ⟨ft, F⟩, _, _, RE⟩ := id R
  have M2 := MX_fr0 M f02 q02_MX
  have F2' := FT_fr0 F f02 rfl rfl rfl
  have d2 : dst σ2 := (mf_FX f02 ⟨rfl, rfl, rfl, rfl, rfl, rfl⟩).2.2 (RS_dst RSx)
  obtain ⟨σ3, e3, M3, F3, z3, f3⟩ := sweepT_x hN M2 d2 F2'
  have alE : alv σ2 = alv σ := by funext e; simp only [alv, mf_I f02 (k := 214) rfl]
  rw [alE] at M3
  have g2E : mkd σ2 238 = mkd σ1 238 := mkd_fr t1 rfl
  rw [g2E] at M3 F3
  have f03 : m_fr q03 σ σ3 := mf_tr (mf_mono f02 (fun k hk => or_1 hk)) (mf_mono f3 (fun k hk => or_2 hk))
  have f13 : m_fr (fun k => tcF k || tsF k) σ1 σ3 := mf_tr (mf_mono t1 (fun k hk => or_1 hk)) (mf_mono f3 (fun k hk => or_2 hk))
  -- functions
  obtain ⟨⟨ff3, C⟩, _⟩ := RFx
  have C3 := CX_fr0 C f03 (fun k h0 h1 _ _ => q03_CX k (by omega) (by omega))
  obtain ⟨σ4, ff4, e4, C4, u4, s4, z4, f4⟩ := sweepF_x hN C3 (fun x x0 x1 hx => by rw [mf_I f13 (k := 239) rfl]; exact hz3 x x0 x1 hx)
  have g3E : mkd σ3 239 = mkd σ1 239 := mkd_fr f13 rfl
  rw [g3E] at C4 u4 s4
  have f04 : m_fr q04 σ σ4 := mf_tr (mf_mono f03 (fun k hk => or_1 hk)) (mf_mono f4 (fun k hk => or_2 hk))
  have f14 : m_fr (fun k => (tcF k || tsF k) || sfF k) σ1 σ4 := mf_tr (mf_mono f13 (fun k hk => or_1 hk)) (mf_mono f4 (fun k hk => or_2 hk))
  -- boxes
  obtain ⟨⟨fb4, B⟩, _⟩ := RBx
  have B4 := BX_fr0 (τ := σ4) (P := q04) B f04 rfl rfl rfl
  obtain ⟨σ5, fb5, e5, B5, z5, f5⟩ := sweepB_x hN B4 (fun x x0 x1 hx => by rw [mf_I f14 (k := 240) rfl]; exact hz4 x x0 x1 hx)
  have g4E : mkd σ4 240 = mkd σ1 240 := mkd_fr f14 rfl
  rw [g4E] at B5
  have f05 : m_fr q05 σ σ5 := mf_tr (mf_mono f04 (fun k hk => or_1 hk)) (mf_mono f5 (fun k hk => or_2 hk))
  have f15 : m_fr (fun k => ((tcF k || tsF k) || sfF k) || sbF k) σ1 σ5 := mf_tr (mf_mono f14 (fun k hk => or_1 hk)) (mf_mono f5 (fun k hk => or_2 hk))
  -- strings
  obtain ⟨⟨fs, SXx⟩, ⟨sl, TXx⟩, _, _, WX, _, _, NBx⟩ := RSx
  have r5 : ∀ k, 128 ≤ k → k ≤ 141 → sI σ5 k = sI σ k := fun k a b => funext (fun i => mf_I f05 (q05_S k a b))
  have v5 : ∀ k, 128 ≤ k → k ≤ 141 → sF σ5 k = sF σ k := fun k a b => mf_F f05 (q05_S k a b)
  have by5 : ∀ h k, x_by σ5 h k = x_by σ h k := fun h k => x_by_f f05 rfl rfl rfl
  have O5 : OL (sI σ5 136) (sF σ5 137) (sF σ5 138) (sF σ5 139) (sF σ5 140) 12000 ((wS w).map Prod.fst) fs := by
    rw [r5 136 (by decide) (by decide), v5 137 (by decide) (by decide), v5 138 (by decide) (by decide), v5 139 (by decide) (by decide), v5 140 (by decide) (by decide)]
    exact SXx.1
  have L5 : lay (sI σ5 128) (sI σ5 129) 300000 0 ((wS w).map Prod.fst) (sF σ5 141) := by
    rw [r5 128 (by decide) (by decide), r5 129 (by decide) (by decide), v5 141 (by decide) (by decide)]
    exact SXx.2.1
  have hs5 : ∀ h, x_hs σ h → x_hs σ5 h := fun h hh => by
    have eb : x_by σ5 h = x_by σ h := funext (fun k => by5 h k)
    simp only [x_hs, x_sz, r5 130 (by decide) (by decide), r5 129 (by decide) (by decide), eb]
    exact hh
  obtain ⟨σ6, fs6, e6, S6, u6, sm6, s6, nb6, f6⟩ := sweepS_x hN O5 L5 (fun x hx => hs5 x (SXx.2.2.1 x hx)) (fun x x0 x1 hx => by rw [mf_I f15 (k := 142) rfl]; exact hz1 x x0 x1 hx)
  have g1E : mkd σ5 142 = mkd σ1 142 := mkd_fr f15 rfl
  rw [g1E] at S6 u6 s6
  have f56 : m_fr q56 σ4 σ6 := mf_tr (mf_mono f5 (fun k hk => or_1 hk)) (mf_mono f6 (fun k hk => or_2 hk))
  have f36 : m_fr q36 σ3 σ6 := mf_tr (mf_mono f4 (fun k hk => or_1 hk)) (mf_mono f56 (fun k hk => or_2 hk))
  have f26 : m_fr q26 σ2 σ6 := mf_tr (mf_mono f3 (fun k hk => or_1 hk)) (mf_mono f36 (fun k hk => or_2 hk))
  have fAl : m_fr gcX σ σ6 := mf_tr (mf_mono m1 (fun k hk => or_1 hk)) (mf_tr (mf_mono t1 (fun k hk => or_1 (or_2 hk))) (mf_tr (mf_mono f3 (fun k hk => or_1 (or_2 (or_2 hk)))) (mf_tr (mf_mono f4 (fun k hk => or_1 (or_2 (or_2 (or_2 hk))))) (mf_tr (mf_mono f5 (fun k hk => or_1 (or_2 (or_2 (or_2 (or_2 hk)))))) (mf_mono f6 (fun k hk => or_2 (or_2 (or_2 (or_2 (or_2 hk))))))))))
  have sm0 : ∀ h, 12000 ≤ h → x_sm σ σ6 h := fun h h0 => by
    obtain ⟨a1, a2, a3, a4⟩ := sm6 h h0
    rw [r5 128 (by decide) (by decide)] at a1
    rw [r5 129 (by decide) (by decide)] at a2 a4
    rw [r5 130 (by decide) (by decide)] at a3
    exact ⟨a1, a2, a3, fun k k0 k1 => (a4 k k0 k1).trans (by5 h k)⟩
  have st : ∀ a, (a ∈ (wS w).map Prod.fst ∧ mkd σ1 142 a = true) ∨ a ∈ (wX w).map Prod.fst → xst σ σ6 a := fun a ha => by
    rcases ha with ⟨ha, hm⟩ | ha
    · have hf : a ∈ ((wS w).map Prod.fst).filter (mkd σ1 142) := List.mem_filter.mpr ⟨ha, hm⟩
      obtain ⟨p1, p2, p3, p4⟩ := SX_mem S6 hf
      refine ⟨⟨p1, p4, fun h => absurd (Int32.lt_of_lt_of_le p2 h) Int32.lt_irrefl⟩, mf_I fAl rfl, mf_I fAl rfl, fun k k0 k1 => ?_⟩
      rw [u6 a hf k k0 (by rw [r5 129 (by decide) (by decide)]; exact k1)]
      exact by5 a k
    · obtain ⟨⟨a', b⟩, hab, rfl⟩ := List.mem_map.mp ha
      obtain ⟨x1, x2, _⟩ := WX a' b hab
      obtain ⟨y1, y2⟩ := TX_sv TXx x1 x2
      have s := sm0 a' x1
      refine ⟨⟨?_, sm_hs s y1.2.2.2.1 y2, fun _ => by rw [mf_F fAl (k := 134) rfl]; exact x2⟩, s.2.2.1, s.2.1, s.2.2.2⟩
      simp only [x_sv] at y1 ⊢
      rw [s.1, s.2.1]
      exact y1
  have szE : ∀ x, sI σ5 129 x = x_sz σ x := fun x => congrFun (r5 129 (by decide) (by decide)) x
  obtain ⟨ps3, hs3, ff3', fh3, M3'⟩ := M3
  obtain ⟨ft3, F3'⟩ := F3
  have i03 : ∀ k i, 195 ≤ k → k ≤ 216 → k ≠ 197 → k ≠ 198 → k ≠ 200 → k ≠ 202 → k ≠ 203 → k ≠ 205 → k ≠ 206 → k ≠ 207 → k ≠ 208 → k ≠ 209 → k ≠ 210 → k ≠ 211 → sI σ3 k i = sI σ k i := fun k i a b n1 n2 n3 n4 n5 n6 n7 n8 n9 n10 n11 n12 => mf_I f03 (by
    simp only [q03, q02, mkF, tcF, kK, tsF, hD, hY, hW, hU, Bool.or_eq_false_iff, List.contains_cons, List.contains_nil, Bool.or_eq_false_iff, beq_eq_false_iff_ne]
    (repeat' (first | exact trivial | omega | apply And.intro)))
  refine ⟨σ6, fun k a => mkd σ1 (mkf k) a, fcs, D, ?_, hg, ⟨c1, c2, c3, c4⟩, ⟨⟨fs6, S6⟩, ⟨sl, ?_⟩, st, ?_, nb6 (NB_fr NBx f05 rfl rfl)⟩, ⟨⟨ps3, hs3, ff3', fh3, ?_⟩, ⟨ft3, FT_fr0 F3' f36 rfl rfl rfl⟩⟩, ⟨⟨ff4, CX_fr0 C4 f56 (fun k h0 h1 _ _ => q56_CX k (by omega) h1)⟩, fun x hx k k0 k1 => ?_, ?_⟩, ⟨fb5, BX_fr0 B5 f6 rfl rfl rfl⟩, ⟨XF_ai t2 f26 (fun k hk => q26_XF k (by omega) (by omega)), seg_e t3 (funext (fun i => mf_I f26 rfl)) (mf_F f26 rfl), t4, fun x => ?_, ?_, fun x x0 => ?_, fun x x0 => ?_, ?_⟩, ⟨fun o ho => ?_, ?_, ?_, ?_⟩, fAl⟩
  · rw [xx0_collect]
    refine (e1 _).trans ?_
    simp only [e2, e3, e4, e5, e6, bd]
  · exact TX_sm TXx (mf_F fAl rfl) (mf_F fAl rfl) (funext (fun i => mf_I fAl rfl)) (fun m => mf_I fAl rfl) sm0
  · rw [s6]
    simp only [szE]
    rfl
  · refine MX_st M3' f36 q36_MX (fun t ht e he h4 => ?_)
    rw [List.mem_filter] at ht he
    have h4' : sI σ 212 e = 4 := by rw [← i03 212 e (by decide) (by decide) (by decide) (by decide) (by decide) (by decide) (by decide) (by decide) (by decide) (by decide) (by decide) (by decide) (by decide) (by decide)]; exact h4
    have j3 : sJ σ3 213 e = sJ σ 213 e := mf_J f03 rfl
    rw [j3]
    obtain ⟨⟨ta, tb⟩, hab, rfl⟩ := List.mem_map.mp ht.1
    obtain ⟨e', _, er⟩ := (F2_lr (RE ta tb hab).1).1 e he.1
    have live : sI σ 214 e ≠ 0 := by
      have := he.2
      simp only [alv, decide_eq_true_eq] at this
      exact this
    have okt : okx (2, ta) := .inr (.inl ⟨rfl, (PK.2.2.1 ta tb hab).1⟩)
    have rt := (hg 2 ta okt).mp ht.2
    have x0 : xst σ σ6 (sJ σ 213 e).toInt32 := by
      have vv := er.1
      rw [h4'] at vv
      rcases vv with ⟨q, _⟩ | ⟨q, _⟩ | ⟨q, _⟩ | ⟨q, _⟩ | ⟨_, _, a, b, ea, eb, hh⟩ | ⟨q, _⟩ | ⟨q, _⟩ | ⟨q, _⟩ | ⟨q, _⟩
      · exact absurd q (by decide)
      · exact absurd q (by decide)
      · exact absurd q (by decide)
      · exact absurd q (by decide)
      · rw [ea, i32_64]
        rcases hh with hh | hh
        · have pa := PK.1 a b hh
          refine st a (.inl ⟨List.mem_map.mpr ⟨_, hh, rfl⟩, (hg 1 a (.inl ⟨rfl, pa.1⟩)).mpr (RCX_s rt (.inl ⟨rfl, .inr ⟨e, he.1, live, .inl (.inl ⟨h4', ?_, ?_⟩)⟩⟩))⟩)
          · rw [ea, i32_64]
          · rw [ea, i32_64]; exact pa.1.2
        · exact st a (.inr (List.mem_map.mpr ⟨_, hh, rfl⟩))
      · exact absurd q (by decide)
      · exact absurd q (by decide)
      · exact absurd q (by decide)
      · exact absurd q (by decide)
    obtain ⟨a1, a2, a3, a4⟩ := x0
    refine ⟨a1, ?_, ?_, fun k k0 k1 => ?_⟩
    · rw [a2]; exact (mf_I f03 rfl).symm
    · rw [a3]; exact (mf_I f03 (k := 129) rfl).symm
    · have k1' : k < x_sz σ (sJ σ 213 e).toInt32 := by
        have q : x_sz σ3 (sJ σ 213 e).toInt32 = x_sz σ (sJ σ 213 e).toInt32 := mf_I f03 rfl
        rw [← q]; exact k1
      rw [a4 k k0 k1']
      exact (x_by_f f03 rfl rfl rfl).symm
  · rw [mf_I f56 (k := 231) rfl, mf_I f56 (k := 223) rfl, u4 x hx k k0 (by rw [mf_I f03 (k := 224) rfl]; exact k1), mf_I f03 (k := 231) rfl, mf_I f03 (k := 223) rfl]
  · rw [mf_F f56 (k := 232) rfl, s4]
    have e224 : ∀ x, sI σ3 224 x = sI σ 224 x := fun x => mf_I f03 rfl
    simp only [e224]
    rfl
  · rw [t5 x]
    refine ⟨fun ⟨a, b, c, d⟩ => ⟨c, ?_⟩, fun ⟨a, b⟩ => ?_⟩
    · show mkd σ1 340 x = false
      simp only [mkd, d]
      rfl
    · have hr := c3 x (List.mem_append_right _ a)
      refine ⟨hr.1, by have := hr.2; lia, a, ?_⟩
      have b' : mkd σ1 340 x = false := b
      simp only [mkd, decide_eq_false_iff_not, Decidable.not_not] at b'
      exact b'
  · rw [mf_F f26 (k := 338) rfl]; exact t6
  · rw [mf_I f26 (k := 323) rfl, t10 x x0, mf_I m1 (k := 323) rfl]
  · rw [mf_I f26 (k := 324) rfl, t11 x x0, mf_I m1 (k := 324) rfl]
  · rw [mf_F f26 (k := 358) rfl, t13, mf_F m1 (k := 358) rfl]
  · obtain ⟨k, a⟩ := o
    rcases ho with ⟨h, h0, h1⟩ | ⟨h, h0, h1⟩ | ⟨h, h0, h1⟩ | ⟨h, h0, h1⟩ | ⟨h, h0, h1⟩
    · have hk : k = 1 := h
      subst hk
      exact S6.2.2.2 a h0 h1
    · have hk : k = 2 := h
      subst hk
      show sI σ6 238 a = 0
      rw [mf_I f36 (k := 238) rfl]
      exact z3 a h0 h1
    · have hk : k = 3 := h
      subst hk
      show sI σ6 239 a = 0
      rw [mf_I f56 (k := 239) rfl]
      exact z4 a h0 h1
    · have hk : k = 4 := h
      subst hk
      show sI σ6 240 a = 0
      rw [mf_I f6 (k := 240) rfl]
      exact z5 a h0 h1
    · have hk : k = 5 := h
      subst hk
      show sI σ6 340 a = 0
      rw [mf_I f26 (k := 340) rfl]
      have l0 : 0 < a := h0
      have l1 : a < 121 := h1
      exact t8 a (by lia) l1
  · rw [mf_F f26 (k := 243) rfl, mf_F t1 (k := 243) rfl]; exact mz.1
  · rw [mf_F f26 (k := 244) rfl, mf_F t1 (k := 244) rfl]; exact mz.2.1
  · rw [mf_F f26 (k := 342) rfl, mf_F t1 (k := 342) rfl]; exact mz.2.2
