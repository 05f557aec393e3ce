/-! LAYER 2: a coroutine is over: the one that resumed it runs -/
def stX (k : Nat) : Bool := [323, 324, 339, 358].contains k || inR 397 411 k
def stM (k : Nat) : Bool := [143, 154, 155, 156, 172, 188, 189, 190].contains k
theorem stX_f {k : Nat} (h : k ≠ 323 ∧ k ≠ 324 ∧ k ≠ 339 ∧ k ≠ 358 ∧ (k < 397 ∨ 411 < k)) : stX k = false := by
  simp only [stX, inR, List.contains_cons, List.contains_nil, Bool.or_eq_false_iff, beq_eq_false_iff_ne, Bool.and_eq_false_iff, decide_eq_false_iff_not]
  (repeat' (first | exact trivial | omega | apply And.intro))
theorem stM_f {k : Nat} (h : k ≠ 143 ∧ (k < 154 ∨ 156 < k) ∧ k ≠ 172 ∧ (k < 188 ∨ 190 < k)) : stM k = false := by
  simp only [stM, List.contains_cons, List.contains_nil, Bool.or_eq_false_iff, beq_eq_false_iff_ne]
  (repeat' (first | exact trivial | omega | apply And.intro))
theorem xcs_st {σ τ : mS} {g : Int32} (fr : m_fr stX σ τ) : xcs σ τ g := xcs_pK fr (fun k hk => stX_f (by omega))
theorem FL_st {S : SR} {w : WD} {σ μ τ τm : mS} {bt k0 B0 n : Int32} {fl : List Int32} {ct : CT} (h : FL S w σ (mff μ) (sI μ 141) (sJ μ 142) bt k0 B0 fl n ct) (hk : kb k0 B0 n) (fr : m_fr stX σ τ) (frm : m_fr stM μ τm) : FL S w τ (mff τm) (sI τm 141) (sJ τm 142) bt k0 B0 fl n ct :=
  FL_cg h hk wle_rfl (fun _ _ => xcs_st fr) (cds_fr fr (stX_f (by omega)) (stX_f (by omega)) (stX_f (by omega))) (fun k j _ _ hj => mf_I frm (stM_f (by omega))) (fun _ _ _ => ⟨mf_I frm (stM_f (by omega)), mf_J frm (stM_f (by omega))⟩)
theorem BC_st {S : SR} {w : WD} {xf : Int32 → List Int32} {σ μ τ τm : mS} (fr : m_fr stX σ τ) (frm : m_fr stM μ τm) : ∀ {p : Int32 × Int32} {rest : PL2}, BC S w xf σ μ p rest → (∀ e, e ∈ rest → sI τ 323 e.1 = sI σ 323 e.1 ∧ sI τm 156 e.2 = sI μ 156 e.2) → (∀ e, e ∈ p :: rest → sI τ 324 e.1 = sI σ 324 e.1) → BC S w xf τ τm p rest
  | (c, d), [], h, _, _ => by
    obtain ⟨h1, h2, h3, h4⟩ := h
    refine ⟨h1, h2, ?_, ?_⟩
    · rw [mf_I frm (stM_f (by omega))]; exact h3
    · rw [mf_I frm (stM_f (by omega))]; exact h4
  | (c, d), e :: rest, h, hs, h4' => by
    obtain ⟨h1, h2, h3, h4, h5, h6, h7, h8, h9, h10⟩ := h
    have kb' := BC_kb h10
    have i : ∀ k, 141 ≤ k → k ≤ 178 → stM k = false → ∀ m, sI τm k m = sI μ k m := fun k a b c' m => mf_I frm c'
    have i162 := i 162 (by omega) (by omega) (stM_f (by omega))
    have i161 := i 161 (by omega) (by omega) (stM_f (by omega))
    have mj : ∀ k j, j < 10 → mff τm k j = mff μ k j := fun k j hj => mf_I frm (stM_f (by omega))
    have xx : ∀ k, 325 ≤ k → k ≤ 338 → ∀ m, sI τ k m = sI σ k m := fun k a b m => mf_I fr (stX_f (by omega))
    have kb2 : kb (sI μ 162 e.2) (sI μ 161 e.2) (sI μ 162 d - 1) := ⟨kb'.1, by lia, kb'.2.2.1, kb'.2.2.2.1⟩
    have a4 : sI τ 324 c = sI σ 324 c := h4' (c, d) List.mem_cons_self
    have se := hs e List.mem_cons_self
    refine ⟨h1, ?_, ?_, ?_, ?_, ?_, ?_, ?_, ?_, BC_st fr frm h10 (fun p hp => hs p (List.mem_cons_of_mem _ hp)) (fun p hp => h4' p (List.mem_cons_of_mem _ hp))⟩
    · rw [a4, i 159 (by omega) (by omega) (stM_f (by omega)), i 166 (by omega) (by omega) (stM_f (by omega)), i 164 (by omega) (by omega) (stM_f (by omega))]; exact h2
    · rw [i162]; exact h3
    · rw [xx 328 (by omega) (by omega), i162, i 144 (by omega) (by omega) (stM_f (by omega))]; exact h4
    · rw [i161, i162, mj _ 5 (by omega)]; exact h5
    · rw [xx 327 (by omega) (by omega), i 160 (by omega) (by omega) (stM_f (by omega))]; exact h6
    · rw [se.1, se.2]; exact h7
    · rw [i161, i162]; exact h8
    · rw [i162, i162, i161, xx 329 (by omega) (by omega), xx 330 (by omega) (by omega), xx 331 (by omega) (by omega), mj _ 5 (by omega), mj _ 6 (by omega), mj _ 7 (by omega)]
      exact FL_st h9 kb2 fr frm
theorem XF_st {w : WD} {xf : Int32 → List Int32} {σ τ : mS} (X : XF w xf σ) (fr : m_fr stX σ τ) : XF w xf τ := by
  obtain ⟨fc, bl, s1, s2, nd, rg, len, ⟨b1, b2, b3, b4⟩, bn, bm⟩ := X
  have x5 : ∀ k, 356 ≤ k → k ≤ 363 → k ≠ 358 → sF τ k = sF σ k := fun k a b c => mf_F fr (stX_f (by omega))
  refine ⟨fc, bl, ?_, fun c' hc' => ?_, nd, rg, len, ⟨?_, ?_, ?_, ?_⟩, bn, fun x => ?_⟩
  · rw [x5 357 (by omega) (by omega) (by omega)]; exact seg_congr s1 (fun x _ => mf_I fr (stX_f (by omega)))
  · rw [mf_I fr (stX_f (by omega))]; exact seg_congr (s2 c' hc') (fun x _ => mf_I fr (stX_f (by omega)))
  · rw [x5 361 (by omega) (by omega) (by omega)]; exact seg_congr b1 (fun x _ => mf_I fr (stX_f (by omega)))
  · rw [x5 362 (by omega) (by omega) (by omega)]; exact seg_congr b2 (fun x _ => mf_I fr (stX_f (by omega)))
  · rw [x5 363 (by omega) (by omega) (by omega)]; exact OB_cg b3 (fun x _ => ⟨mf_I fr (stX_f (by omega)), mf_I fr (stX_f (by omega))⟩)
  · rw [x5 363 (by omega) (by omega) (by omega)]; exact b4
  · rw [mf_I fr (stX_f (by omega))]; exact bm x
/-- the coroutine that runs has no calls more, and is dead then -/
theorem ME_end {S : SR} {K : Int32 → Int32 → Int32 → Prop} {q : Int} {w : WD} {xf : Int32 → List Int32} {c d c2 d2 : Int32} {rest : PL2} {σ μ τ τm : mS} (H : ME S K q w xf c d ((c2, d2) :: rest) σ μ) (hf : xf c = []) (hc : sF μ 154 = sI μ 162 d) (fr : m_fr stX σ τ) (frm : m_fr stM μ τm) (x323 : ∀ x, 0 ≤ x → sI τ 323 x = if x = c2 then 1 else if x = c then 3 else sI σ 323 x) (x324 : ∀ x, 0 ≤ x → sI τ 324 x = if x = c then 0 else sI σ 324 x) (x339 : sF τ 339 = c2) (x358 : sF τ 358 = sF σ 358 - 1) (x396 : sF τ 396 = sF σ 396) (m154 : sF τm 154 = sF μ 154 - 1) (m155 : sF τm 155 = sF μ 155 - 1) (m156 : ∀ x, 0 ≤ x → sI τm 156 x = if x = d2 then 1 else if x = d then 3 else sI μ 156 x) (m172 : sF τm 172 = d2) : ME S K q w xf c2 d2 rest τ τm ∧ FL S w τ (mff τm) (sI τm 141) (sJ τm 142) (btO d2) (sI τm 162 d2) (sI τm 161 d2) (xf c2) (sF τm 154) (sI σ 329 c, sI σ 330 c, sI σ 331 c, mff μ (sF τm 154) 5, mff μ (sF τm 154) 6, mff μ (sF τm 154) 7) ∧ ((sI σ 328 c = 0 ∧ sI μ 144 (sF τm 154) = 2) ∨ (sI σ 328 c = 1 ∧ sI μ 144 (sF τm 154) = 3)) := by
  have cl := ME_calls H
  have cc := ME_c H
  obtain ⟨⟨RR, h1⟩, Z, HH, X, C, Bc, h7, h8, ⟨o1, o2, o3, o4, o5⟩, h10, h10', h11⟩ := H
  have W := RR.1
  have mem := BC_mem Bc
  obtain ⟨ncx, pcx⟩ := cX_nd C
  obtain ⟨b1, b2, b3, b4, b5, b6, b7, b8, b9, b10⟩ := Bc
  have kb' := BC_kb b10
  simp only at kb'
  have i : ∀ k, stM k = false → ∀ m, sI τm k m = sI μ k m := fun k h m => mf_I frm h
  have fm : ∀ k, stM k = false → sF τm k = sF μ k := fun k h => mf_F frm h
  have xi : ∀ k, 325 ≤ k → k ≤ 338 → ∀ m, sI τ k m = sI σ k m := fun k a b m => mf_I fr (stX_f (by omega))
  have ks : kSum w τm = kSum w μ := by
    simp only [kSum]
    congr 1
    apply List.map_congr_left
    intro p _
    rw [i 166 (stM_f (by omega))]
  have R' : RH K (q + fQ μ) w τ τm := RH_fr RR fr frm (fun k a b => stX_f (by omega)) (fun k a b _ _ _ _ _ _ => stM_f (by omega))
  have nd1 : (c :: c2 :: rest.map Prod.fst).Nodup := by simpa using h8
  have nd2 : (c2 :: rest.map Prod.fst).Nodup := (List.nodup_cons.mp nd1).2
  have cne : c ≠ c2 := fun r => (List.nodup_cons.mp nd1).1 (by rw [r]; exact List.mem_cons_self)
  have w6 := W.2.2.2.2.2 c d b1
  -- coroutines of the chain differ on both sides
  have chn : ∀ p, p ∈ (c2, d2) :: rest → p.1 ≠ c ∧ p.2 ≠ d := fun p hp => by
    have pc : p.1 ≠ c := fun r => (List.nodup_cons.mp nd1).1 (by
      rw [← r]
      have : p.1 ∈ ((c2, d2) :: rest).map Prod.fst := List.mem_map.mpr ⟨p, hp, rfl⟩
      simpa using this)
    refine ⟨pc, fun r => ?_⟩
    rcases mem p (List.mem_cons_of_mem _ hp) with z | z
    · rw [z] at r
      have r' : (120 : Int32) = d := r
      lia
    · exact pc ((W.2.2.1 p.1 p.2 c d z.1 b1).mpr r)
  have rne : ∀ p, p ∈ rest → p.1 ≠ c2 ∧ p.2 ≠ d2 ∧ 0 ≤ p.1 ∧ 0 ≤ p.2 := fun p hp => by
    have pc : p.1 ≠ c2 := fun r => (List.nodup_cons.mp nd2).1 (by rw [← r]; exact List.mem_map.mpr ⟨p, hp, rfl⟩)
    rcases mem p (List.mem_cons_of_mem _ (List.mem_cons_of_mem _ hp)) with z | z
    · refine ⟨pc, fun r => ?_, by rw [z]; decide, by rw [z]; decide⟩
      rcases mem (c2, d2) (List.mem_cons_of_mem _ List.mem_cons_self) with y | y
      · have := (Prod.mk.inj y).1
        rw [z] at pc
        exact pc this.symm
      · have := W.2.2.2.2.2 c2 d2 y.1
        rw [z] at r
        have r' : (120 : Int32) = d2 := r
        lia
    · have w6' := W.2.2.2.2.2 p.1 p.2 z.1
      refine ⟨pc, fun r => ?_, by lia, by lia⟩
      rcases mem (c2, d2) (List.mem_cons_of_mem _ List.mem_cons_self) with y | y
      · have := (Prod.mk.inj y).2
        lia
      · exact pc ((W.2.2.1 p.1 p.2 c2 d2 z.1 y.1).mpr r)
  have c2p : 0 ≤ c2 ∧ 0 ≤ d2 := by
    rcases mem (c2, d2) (List.mem_cons_of_mem _ List.mem_cons_self) with y | y
    · obtain ⟨y1, y2⟩ := Prod.mk.inj y
      subst y1; subst y2
      exact ⟨by decide, by decide⟩
    · have := W.2.2.2.2.2 c2 d2 y.1
      exact ⟨by lia, by lia⟩
  have d1 := tI_dec (k := 0) (n := sF σ 358) (by
    rw [tI_lt]
    show (0 : Int) < _
    simp only [List.length_cons] at o4
    omega)
  have e54 : sF τm 154 = sI μ 162 d - 1 := by rw [m154, hc]
  have d2' := tI_dec (k := 0) (n := sF μ 154) (by lia)
  have d3 := tI_dec (k := 0) (n := sF μ 155) (by rw [← o1]; rw [tI_lt]; show (0 : Int) < _; simp only [List.length_cons] at o4; omega)
  refine ⟨⟨⟨by rw [fQ_e (fm 171 (stM_f (by omega))) (mf_I frm (stM_f (by omega)))]; exact R', h1⟩, ZS_fr Z fr (stX_f (by omega)), HO_fr HH wle_rfl fr frm (fun k hk => stX_f (by omega)) (fun k a b => stM_f (by omega)) (fun a b _ => xL_fr fr (fun k a b => stX_f (by omega))) (fun k _ => by rw [frm.2.2.1 44 (stM_f (by omega))]), XF_st X fr, ⟨fun a b hab => ?_, fun e e0 e1 he => ?_, ?_, ?_, ?_, ?_⟩, BC_st fr frm b10 (fun p hp => ?_) (fun p hp => ?_), ?_, by simpa using nd2, ⟨?_, ?_, ?_, ?_, ?_⟩, ?_, ?_, ?_⟩, ?_, ?_⟩
  · obtain ⟨a1, a2, a3, a4, a5⟩ := C.1 a b hab
    have w6' := W.2.2.2.2.2 a b hab
    have q2 : a = c2 ↔ b = d2 := by
      rcases mem (c2, d2) (List.mem_cons_of_mem _ List.mem_cons_self) with y | y
      · obtain ⟨y1, y2⟩ := Prod.mk.inj y
        subst y1; subst y2
        exact ⟨fun r => by lia, fun r => by lia⟩
      · exact W.2.2.1 a b c2 d2 hab y.1
    have q1 : a = c ↔ b = d := W.2.2.1 a b c d hab b1
    have t323 := x323 a (by lia)
    have t324 := x324 a (by lia)
    have t156 := m156 b w6'.2.1
    refine ⟨a1, ?_, ?_, ?_, ?_⟩
    · rw [t323, t156]
      by_cases r2 : a = c2
      · rw [if_pos r2, if_pos (q2.mp r2)]
      · rw [if_neg r2, if_neg (fun z => r2 (q2.mpr z))]
        by_cases r1 : a = c
        · rw [if_pos r1, if_pos (q1.mp r1)]
        · rw [if_neg r1, if_neg (fun z => r1 (q1.mpr z))]; exact a2
    · rw [mf_J fr (stX_f (by omega)), i 157 (stM_f (by omega))]; exact a3
    · rw [i 170 (stM_f (by omega))]; exact a4
    · by_cases r1 : a = c
      · right; left
        have rb := q1.mp r1
        subst r1; subst rb
        refine ⟨by rw [t323, if_neg cne, if_pos rfl], hf, by rw [t324, if_pos rfl], ?_, ?_⟩
        · rw [i 166 (stM_f (by omega))]; exact b2.2.2.1
        · rw [i 164 (stM_f (by omega))]; exact b2.2.2.2
      · rcases a5 with a5 | a5
        · left
          rcases List.mem_cons.mp a5 with z | z
          · exact absurd (Prod.mk.inj z).1 r1
          · exact z
        · by_cases r2 : (a, b) ∈ (c2, d2) :: rest
          · exact .inl r2
          · right
            have r3 : a ≠ c2 := fun z => r2 (by
              have zb := q2.mp z
              rw [z, zb]; exact List.mem_cons_self)
            have r4 : b ≠ d2 := fun z => r3 (q2.mpr z)
            have r5 : b ≠ d := fun z => r1 (q1.mpr z)
            refine cKd_cg a5 wle_rfl rfl (fun g _ => xcs_st fr) (cds_fr fr (stX_f (by omega)) (stX_f (by omega)) (stX_f (by omega))) ⟨fun k k0 k1 k2 => ?_, mf_J fr (stX_f (by omega)), mf_J fr (stX_f (by omega))⟩ ⟨fun k k0 k1 => ?_, fun k j _ _ _ => ?_, fun m _ _ => ⟨?_, ?_⟩⟩
            · by_cases k3 : k = 323
              · subst k3; rw [t323, if_neg r3, if_neg r1]
              · by_cases k4 : k = 324
                · subst k4; rw [t324, if_neg r1]
                · exact mf_I fr (stX_f (by omega))
            · by_cases k3 : k = 156
              · subst k3; rw [t156, if_neg r4, if_neg r5]
              · exact i k (stM_f (by omega)) b
            · simp only [kff]; rw [i 176 (stM_f (by omega)), i 165 (stM_f (by omega))]
            · simp only [kpt]; rw [i 173 (stM_f (by omega)), i 163 (stM_f (by omega))]
            · simp only [kpv]; rw [mf_J frm (stM_f (by omega)), i 163 (stM_f (by omega))]
  · rw [i 170 (stM_f (by omega))]; exact C.2.1 e e0 e1 he
  · obtain ⟨fcs, g⟩ := C.2.2.1
    refine ⟨fcs, ?_⟩
    rw [mf_F fr (stX_f (by omega))]
    exact ⟨seg_congr g.1 (fun x _ => mf_I fr (stX_f (by omega))), g.2⟩
  · rw [mf_F fr (stX_f (by omega)), fm 171 (stM_f (by omega))]; exact C.2.2.2.1
  · rw [mf_J fr (stX_f (by omega)), i 157 (stM_f (by omega))]; exact C.2.2.2.2.1
  · refine KL_sub C.2.2.2.2.2 (fun e he => ⟨?_, i _ (stM_f (by omega)) _, i _ (stM_f (by omega)) _, i _ (stM_f (by omega)) _, i _ (stM_f (by omega)) _⟩) (fm _ (stM_f (by omega))) (fm _ (stM_f (by omega)))
    obtain ⟨e0, e1, e2, e3, e4⟩ := he
    rw [i 170 (stM_f (by omega))] at e2
    rw [i 159 (stM_f (by omega))] at e4
    rw [m156 e e0] at e3
    by_cases r2 : e = d2
    · rw [if_pos r2] at e3; exact absurd e3 (by decide)
    · rw [if_neg r2] at e3
      by_cases r1 : e = d
      · rw [if_pos r1] at e3; exact absurd e3 (by decide)
      · rw [if_neg r1] at e3
        exact ⟨e0, e1, e2, e3, e4⟩
  · have r := rne p hp
    have r' := chn p (List.mem_cons_of_mem _ hp)
    rw [x323 p.1 r.2.2.1, m156 p.2 r.2.2.2, if_neg r.1, if_neg r.2.1, if_neg r'.1, if_neg r'.2]
    exact ⟨rfl, rfl⟩
  · have r' := chn p hp
    have p0 : 0 ≤ p.1 := by
      rcases List.mem_cons.mp hp with z | z
      · rw [z]; exact c2p.1
      · exact (rne p z).2.2.1
    rw [x324 p.1 p0, if_neg r'.1]
  · exact ⟨x339, m172, by rw [x323 c2 c2p.1, if_pos rfl], by rw [m156 d2 c2p.2, if_pos rfl]⟩
  · rw [x358, m155, o1]
  · rw [x358, tI_le, d1]
    show (0 : Int) ≤ _
    simp only [List.length_cons] at o4
    omega
  · rw [x358]
    rw [tI_le] at o3 ⊢
    omega
  · rw [x358, d1]
    simp only [List.length_cons] at o4
    omega
  · rw [m155, m154, d3, d2', ks]; omega
  · rw [x396, fm 180 (stM_f (by omega))]; exact h10
  · rw [x396]; exact h10'
  · rw [fm 178 (stM_f (by omega))]; exact h11
  · rw [e54, i 162 (stM_f (by omega)), i 161 (stM_f (by omega))]
    exact FL_st b9 ⟨kb'.1, by lia, kb'.2.2.1, kb'.2.2.2.1⟩ fr frm
  · rw [e54]; exact b4
