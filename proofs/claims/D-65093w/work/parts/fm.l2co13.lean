/-! LAYER 2: the collectors: heaps on both sides -/
theorem SM_perm {σ : mS} {o o' : List Int32} (H : SM σ o) (h : o.Perm o') : SM σ o' := ⟨FS_perm H.1 h, by rw [← h.length_eq]; exact H.2.1, H.2.2.1, H.2.2.2.1, fun x hx => H.2.2.2.2 x (h.mem_iff.mpr hx)⟩
theorem PRi_1 {w : WD} {o : OB2} {b : Int32} (p : PR w o (1, b)) : ∃ a, o = (1, a) ∧ (a, b) ∈ wS w := by
  obtain ⟨k, a⟩ := o
  rcases p with ⟨h, _, p⟩ | ⟨_, e, _⟩ | ⟨_, e, _⟩ | ⟨_, e, _⟩ | ⟨_, e, _⟩
  · have h' : k = 1 := h
    exact ⟨a, by rw [h'], p⟩
  · exact absurd (show (1 : Nat) = 2 from e) (by decide)
  · exact absurd (show (1 : Nat) = 3 from e) (by decide)
  · exact absurd (show (1 : Nat) = 4 from e) (by decide)
  · exact absurd (show (1 : Nat) = 5 from e) (by decide)
theorem PRi_2 {w : WD} {o : OB2} {b : Int32} (p : PR w o (2, b)) : ∃ a, o = (2, a) ∧ (a, b) ∈ wT w := by
  obtain ⟨k, a⟩ := o
  rcases p with ⟨_, e, _⟩ | ⟨h, _, p⟩ | ⟨_, e, _⟩ | ⟨_, e, _⟩ | ⟨_, e, _⟩
  · exact absurd (show (2 : Nat) = 1 from e) (by decide)
  · have h' : k = 2 := h
    exact ⟨a, by rw [h'], p⟩
  · exact absurd (show (2 : Nat) = 3 from e) (by decide)
  · exact absurd (show (2 : Nat) = 4 from e) (by decide)
  · exact absurd (show (2 : Nat) = 5 from e) (by decide)
theorem PRi_3 {w : WD} {o : OB2} {b : Int32} (p : PR w o (3, b)) : ∃ a, o = (3, a) ∧ (a, b) ∈ wF w := by
  obtain ⟨k, a⟩ := o
  rcases p with ⟨_, e, _⟩ | ⟨_, e, _⟩ | ⟨h, _, p⟩ | ⟨_, e, _⟩ | ⟨_, e, _⟩
  · exact absurd (show (3 : Nat) = 1 from e) (by decide)
  · exact absurd (show (3 : Nat) = 2 from e) (by decide)
  · have h' : k = 3 := h
    exact ⟨a, by rw [h'], p⟩
  · exact absurd (show (3 : Nat) = 4 from e) (by decide)
  · exact absurd (show (3 : Nat) = 5 from e) (by decide)
theorem PRi_4 {w : WD} {o : OB2} {b : Int32} (p : PR w o (4, b)) : ∃ a, o = (4, a) ∧ (a, b) ∈ wB w := by
  obtain ⟨k, a⟩ := o
  rcases p with ⟨_, e, _⟩ | ⟨_, e, _⟩ | ⟨_, e, _⟩ | ⟨h, _, p⟩ | ⟨_, e, _⟩
  · exact absurd (show (4 : Nat) = 1 from e) (by decide)
  · exact absurd (show (4 : Nat) = 2 from e) (by decide)
  · exact absurd (show (4 : Nat) = 3 from e) (by decide)
  · have h' : k = 4 := h
    exact ⟨a, by rw [h'], p⟩
  · exact absurd (show (4 : Nat) = 5 from e) (by decide)
theorem PRi_5 {w : WD} {o : OB2} {b : Int32} (p : PR w o (5, b)) : ∃ a, o = (5, a) ∧ (a, b) ∈ wC w := by
  obtain ⟨k, a⟩ := o
  rcases p with ⟨_, e, _⟩ | ⟨_, e, _⟩ | ⟨_, e, _⟩ | ⟨_, e, _⟩ | ⟨h, _, p⟩
  · exact absurd (show (5 : Nat) = 1 from e) (by decide)
  · exact absurd (show (5 : Nat) = 2 from e) (by decide)
  · exact absurd (show (5 : Nat) = 3 from e) (by decide)
  · exact absurd (show (5 : Nat) = 4 from e) (by decide)
  · have h' : k = 5 := h
    exact ⟨a, by rw [h'], p⟩
/-- what is known of those that stay -/
def GW (σ μ : mS) (w : WD) (xf es es' : Int32 → List Int32) (g : Nat → Int32 → Bool) : Prop :=
  PRK w ∧ (∀ o b, PR w o (o.1, b) → (g o.1 o.2 = true ↔ RCM μ es' (o.1, b))) ∧ (∀ o y, okx o → g o.1 o.2 = true → edx σ es xf o y → g y.1 y.2 = true) ∧ (∀ k b, RCM μ es' (k, b) → ∃ o, PR w o (k, b) ∧ g o.1 o.2 = true)
theorem GW_of {S : SR} {K : Int32 → Int32 → Int32 → Prop} {q : Int} {w : WD} {xf : Int32 → List Int32} {σ μ : mS} (H : QU S K q w xf σ μ) (hK : ∀ g b n, K g b n → sI μ 81 b = n) {es es' : Int32 → List Int32} (R : RT w σ μ es es') {g : Nat → Int32 → Bool} (hg : ∀ k a, okx (k, a) → (g k a = true ↔ RCX σ es xf (k, a))) : GW σ μ w xf es es' g := by
  have PK := (RH_PRK H.1.1 (fun a b h => (H.2.2.2.2.2.1.1 a b h).1)).1
  have C := (QU_X H hK R).1
  refine ⟨PK, fun o b p => ?_, fun o y ho h e => ?_, fun k b h => ?_⟩
  · rw [hg o.1 o.2 (PR_ok PK p).1]
    exact RC_iff H hK R p
  · have r := RCX_s ((hg o.1 o.2 ho).mp h) e
    exact (hg y.1 y.2 (C.2.1 y r)).mpr r
  · obtain ⟨o, p, r⟩ := RC_2 H hK R h
    exact ⟨o, p, (hg o.1 o.2 (PR_ok PK p).1).mpr r⟩
theorem sum_f {f : Int32 → Int} {l m : List Int32} (h : l.Perm m) : (l.map f).sum = (m.map f).sum := sum_pm (h.map f)
theorem xst_L {σ τ : mS} {a : Int32} (h : xst σ τ a) : xL τ a = xL σ a := by
  obtain ⟨_, _, h3, h4⟩ := h
  rw [xL, xL, h3]
  exact bL_congr h4
/-- strings -/
theorem coll_S {w : WD} {σ σ' μ μ' : mS} {xf es es' : Int32 → List Int32} {g : Nat → Int32 → Bool} {fcs D : List Int32} (RSx : RS w σ μ) (G : GW σ μ w xf es es' g) (s2 : ((wS w).map Prod.snd).Nodup) (X : SWX σ σ' w xf es g fcs D) (Y : SWM μ μ' w es' (RCM μ es')) : RS (fW g w) σ' μ' := by
  obtain ⟨⟨⟨f, X1⟩, ⟨sl, X2⟩, X3, X4, X5⟩, _, _, _, _, _, frx⟩ := X
  obtain ⟨⟨⟨Mk, Y1, Y2, Y3⟩, ⟨bk, Y4⟩, Y5⟩, _, _, _, _, frm⟩ := Y
  obtain ⟨PK, G1, _, G3⟩ := G
  obtain ⟨_, _, SMx, _, WX, RSE, _, _⟩ := RSx
  have mem : ∀ b, b ∈ Mk ↔ b ∈ (wS (fW g w)).map Prod.snd := fun b => by
    rw [Y2 b]
    refine Iff.trans ?_ fl1_s.symm
    refine ⟨fun ⟨_, h⟩ => ?_, fun ⟨a, h, hg⟩ => ⟨(PK.1 a b h).2, ?_⟩⟩
    · obtain ⟨o, p, hg⟩ := G3 1 b h
      obtain ⟨a, rfl, hab⟩ := PRi_1 p
      exact ⟨a, hab, hg⟩
    · exact (G1 (1, a) b (.inl ⟨rfl, rfl, h⟩)).mp hg
  have pm : Mk.Perm ((wS (fW g w)).map Prod.snd) := nd_perm Y1.1.2.2.2.2.1 (fl1_nd s2) mem
  have fst : (wS (fW g w)).map Prod.fst = ((wS w).map Prod.fst).filter (g 1) := fl1_f
  refine ⟨⟨f, by rw [fst]; exact X1⟩, ⟨sl, X2⟩, SM_perm Y1 pm, ⟨bk, Y4⟩, fun a b h => ?_, fun a b h => ?_, ?_, X5⟩
  · rw [mf_F frx (k := 134) rfl, mf_F frm (k := 5) rfl]
    exact WX a b h
  · have q : ((a, b) ∈ wS w ∨ (a, b) ∈ wX w) ∧ xst σ σ' a ∧ mst μ μ' b := by
      rcases h with h | h
      · obtain ⟨h1, h2⟩ := fW_S.mp h
        exact ⟨.inl h1, X3 a (.inl ⟨List.mem_map.mpr ⟨_, h1, rfl⟩, h2⟩), Y5 b (.inl ⟨List.mem_map.mpr ⟨_, h1, rfl⟩, (G1 (1, a) b (.inl ⟨rfl, rfl, h1⟩)).mp h2⟩)⟩
      · have h' : (a, b) ∈ wX w := h
        exact ⟨.inr h', X3 a (.inr (List.mem_map.mpr ⟨_, h', rfl⟩)), Y5 b (.inr (List.mem_map.mpr ⟨_, h', rfl⟩))⟩
    obtain ⟨q0, ⟨_, _, q3, q4⟩, ⟨_, _, r3, r4⟩⟩ := q
    obtain ⟨e1, e2⟩ := RSE a b q0
    refine ⟨by rw [q3, r3, e1], fun k k0 k1 => ?_⟩
    rw [q3] at k1
    rw [q4 k k0 k1, r4 k k0 (by rw [← e1]; exact k1)]
    exact e2 k k0 k1
  · rw [tI_eq, X4, Y3]
    have h1 := psum (f := fun x => (x_sz σ x).toInt) (g := fun x => (sI μ 3 x).toInt) (l := wS (fW g w)) (fun a b h => by
      have := (RSE a b (.inl (fW_S.mp h).1)).1
      show (x_sz σ a).toInt = (m_sz μ b).toInt
      rw [this])
    rw [fst] at h1
    rw [h1, szs, sum_f pm]
theorem ne_1 {a : Int32} (h : 0 ≤ a) : a ≠ -1 := fun e => by rw [e] at h; exact absurd h (by decide)
/-- tables -/
theorem coll_T {w : WD} {σ σ' μ μ' : mS} {xf es es' : Int32 → List Int32} {g : Nat → Int32 → Bool} {fcs D : List Int32} (RTx : RT w σ μ es es') (G : GW σ μ w xf es es' g) (X : SWX σ σ' w xf es g fcs D) (Y : SWM μ μ' w es' (RCM μ es')) : RT (fW g w) σ' μ' (fun t => (es t).filter (alv σ)) (fun t => (es' t).filter (alm μ)) := by
  obtain ⟨_, ⟨X1, X2⟩, _, _, _, _, frx⟩ := X
  obtain ⟨_, ⟨Mt, psm, Y1, Y2, Y3⟩, _, _, _, frm⟩ := Y
  obtain ⟨PK, G1, G2, G3⟩ := G
  obtain ⟨_, _, ⟨psm0, M0⟩, _, RE⟩ := RTx
  have mem : ∀ b, b ∈ Mt ↔ b ∈ tM (fW g w) := fun b => by
    rw [Y3 b]
    refine Iff.trans ?_ fl1_s.symm
    refine ⟨fun ⟨_, h⟩ => ?_, fun ⟨a, h, hg⟩ => ⟨(PK.2.2.1 a b h).2, ?_⟩⟩
    · obtain ⟨o, p, hg⟩ := G3 2 b h
      obtain ⟨a, rfl, hab⟩ := PRi_2 p
      exact ⟨a, hab, hg⟩
    · exact (G1 (2, a) b (.inr (.inl ⟨rfl, rfl, h⟩))).mp hg
  have pm : Mt.Perm (tM (fW g w)) := nd_perm Y1.2.2.1 (fl1_nd M0.2.2.1) mem
  have fst : tX (fW g w) = (tX w).filter (g 2) := fl1_f
  refine ⟨by rw [fst]; exact X1, by rw [fst]; exact X2, ⟨psm, MM_perm Y1 pm⟩, FTm_perm Y2 pm, fun a b h => ?_⟩
  obtain ⟨h1, h2⟩ := fW_T.mp h
  have h2' : g 2 a = true := h2
  obtain ⟨f2, mt, e196⟩ := RE a b h1
  have ok : okx (2, a) := .inr (.inl ⟨rfl, (PK.2.2.1 a b h1).1⟩)
  refine ⟨F2_flt f2 (fun x y hx hy er => ?_), ?_, ?_⟩
  · obtain ⟨r1, r2, r3, r4⟩ := er
    have e0 : alv σ x = alm μ y := by
      simp only [alv, alm]
      exact decide_eq_decide.mpr (not_congr (VV_t r2).1)
    refine ⟨e0, fun hl => ?_⟩
    have live : sI σ 214 x ≠ 0 := by
      simp only [alv, decide_eq_true_eq] at hl
      exact hl
    refine ⟨?_, ?_, by rw [mf_I frx (k := 212) rfl]; exact r3, by rw [mf_I frx (k := 212) rfl]; exact r4⟩
    · rw [mf_I frx (k := 212) rfl, mf_J frx (k := 213) rfl, mf_I frm (k := 32) rfl, mf_J frm (k := 33) rfl]
      exact VV_fW PK r1 (fun z hz => G2 (2, a) z ok h2' (.inl ⟨rfl, .inr ⟨x, hx, live, .inl hz⟩⟩))
    · rw [mf_I frx (k := 214) rfl, mf_J frx (k := 215) rfl, mf_I frm (k := 34) rfl, mf_J frm (k := 35) rfl]
      exact VV_fW PK r2 (fun z hz => G2 (2, a) z ok h2' (.inl ⟨rfl, .inr ⟨x, hx, live, .inr hz⟩⟩))
  · rw [mf_I frx (k := 195) rfl, mf_I frm (k := 20) rfl]
    rcases mt with mt | mt
    · exact .inl mt
    · refine .inr (fW_T.mpr ⟨mt, ?_⟩)
      exact G2 (2, a) (2, sI σ 195 a) ok h2' (.inl ⟨rfl, .inl ⟨ne_1 (PK.2.2.1 _ _ mt).1.1, rfl⟩⟩)
  · rw [mf_J frx (k := 196) rfl, mf_I frm (k := 19) rfl]; exact e196
/-- functions -/
theorem coll_F {K : Int32 → Int32 → Int32 → Prop} {w : WD} {σ σ' μ μ' : mS} {xf es es' : Int32 → List Int32} {g : Nat → Int32 → Bool} {fcs D : List Int32} (RFx : RF K w σ μ) (hK : ∀ g b n, K g b n → sI μ 81 b = n) (G : GW σ μ w xf es es' g) (X : SWX σ σ' w xf es g fcs D) (Y : SWM μ μ' w es' (RCM μ es')) : RF K (fW g w) σ' μ' := by
  obtain ⟨_, _, ⟨⟨f, X1⟩, X2, X3⟩, _, _, _, frx⟩ := X
  obtain ⟨_, _, ⟨Mf, Y1, Y2, Y3, Y4⟩, _, _, frm⟩ := Y
  obtain ⟨PK, G1, G2, G3⟩ := G
  have cap := fun {a b : Int32} (h : (a, b) ∈ wF w) => RF_cap RFx PK hK h
  obtain ⟨_, CMx, _, RFE⟩ := RFx
  have mem : ∀ b, b ∈ Mf ↔ b ∈ (wF (fW g w)).map Prod.snd := fun b => by
    rw [Y2 b]
    refine Iff.trans ?_ fl1_s.symm
    refine ⟨fun ⟨_, h⟩ => ?_, fun ⟨a, h, hg⟩ => ⟨(PK.2.2.2.1 a b h).2, ?_⟩⟩
    · obtain ⟨o, p, hg⟩ := G3 3 b h
      obtain ⟨a, rfl, hab⟩ := PRi_3 p
      exact ⟨a, hab, hg⟩
    · exact (G1 (3, a) b (.inr (.inr (.inl ⟨rfl, rfl, h⟩)))).mp hg
  have pm : Mf.Perm ((wF (fW g w)).map Prod.snd) := nd_perm Y1.1.2.2.2.2.1 (fl1_nd CMx.1.2.2.2.2.1) mem
  have fst : (wF (fW g w)).map Prod.fst = ((wF w).map Prod.fst).filter (g 3) := fl1_f
  refine ⟨⟨f, by rw [fst]; exact X1⟩, CM_perm Y1 pm, ?_, fun a b h => ?_⟩
  · rw [tI_eq, X3, Y3]
    have h1 := psum (f := fun x => (sI σ 224 x).toInt) (g := fun x => (capN μ x).toInt) (l := wF (fW g w)) (fun a b h => by
      show (sI σ 224 a).toInt = (capN μ b).toInt
      rw [cap (fW_F.mp h).1])
    rw [fst] at h1
    rw [h1, cps, sum_f pm]
  · obtain ⟨h1, h2⟩ := fW_F.mp h
    have h2' : g 3 a = true := h2
    have ok : okx (3, a) := .inr (.inr (.inl ⟨rfl, (PK.2.2.2.1 a b h1).1⟩))
    obtain ⟨q1, _, _, q4, q5⟩ := RFE a b h1
    have bM : b ∈ Mf := (mem b).mpr (List.mem_map.mpr ⟨_, h, rfl⟩)
    have aF : a ∈ ((wF w).map Prod.fst).filter (g 3) := List.mem_filter.mpr ⟨List.mem_map.mpr ⟨_, h1, rfl⟩, h2'⟩
    obtain ⟨u1, u2, u3, u4⟩ := Y4 b bM
    rw [cap h1] at u3 u4
    have e224 : sI σ' 224 a = sI σ 224 a := mf_I frx rfl
    rw [e224, mf_J frx (k := 225) rfl, mf_I frm (k := 44) rfl, mf_I frx (k := 222) rfl, mf_I frm (k := 45) rfl]
    refine ⟨q1, ⟨u1, u2⟩, u3, ?_, fun i i0 i1 => ?_⟩
    · rcases q4 with q4 | ⟨z, c, d, cd, z1, z2⟩
      · exact .inl q4
      · have pc := PK.2.2.2.2.2 c d cd
        have nc := neg_c (Int32.le_of_lt pc.1.1) pc.1.2
        refine .inr ⟨z, c, d, fW_C.mpr ⟨cd, G2 (3, a) (5, c) ok h2' (.inr (.inl ⟨rfl, .inr ⟨?_, ?_⟩⟩))⟩, z1, z2⟩
        · show sI σ 222 a < 0
          rw [z1]; exact nc.1
        · show ((5 : Nat), c) = (5, -1 - sI σ 222 a)
          rw [z1, nc.2]
    · rw [X2 a aF i i0 i1, u4 i i0 i1]
      exact fW_B.mpr ⟨q5 i i0 i1, G2 (3, a) (4, _) ok h2' (.inr (.inl ⟨rfl, .inl ⟨i, i0, i1, rfl⟩⟩))⟩
/-- boxes -/
theorem coll_B {w : WD} {σ σ' μ μ' : mS} {xf es es' : Int32 → List Int32} {g : Nat → Int32 → Bool} {fcs D : List Int32} (RBx : RB w σ μ) (G : GW σ μ w xf es es' g) (X : SWX σ σ' w xf es g fcs D) (Y : SWM μ μ' w es' (RCM μ es')) : RB (fW g w) σ' μ' := by
  obtain ⟨_, _, _, ⟨f, X1⟩, _, _, frx⟩ := X
  obtain ⟨_, _, _, ⟨Mb, Y1, Y2⟩, _, frm⟩ := Y
  obtain ⟨PK, G1, G2, G3⟩ := G
  obtain ⟨_, BMx, RBE⟩ := RBx
  have mem : ∀ b, b ∈ Mb ↔ b ∈ (wB (fW g w)).map Prod.snd := fun b => by
    rw [Y2 b]
    refine Iff.trans ?_ fl1_s.symm
    refine ⟨fun ⟨_, h⟩ => ?_, fun ⟨a, h, hg⟩ => ⟨(PK.2.2.2.2.1 a b h).2, ?_⟩⟩
    · obtain ⟨o, p, hg⟩ := G3 4 b h
      obtain ⟨a, rfl, hab⟩ := PRi_4 p
      exact ⟨a, hab, hg⟩
    · exact (G1 (4, a) b (.inr (.inr (.inr (.inl ⟨rfl, rfl, h⟩))))).mp hg
  have pm : Mb.Perm ((wB (fW g w)).map Prod.snd) := nd_perm Y1.1.2.2.2.2.1 (fl1_nd BMx.1.2.2.2.2.1) mem
  have fst : (wB (fW g w)).map Prod.fst = ((wB w).map Prod.fst).filter (g 4) := fl1_f
  refine ⟨⟨f, by rw [fst]; exact X1⟩, BM_perm Y1 pm, fun a b h => ?_⟩
  obtain ⟨h1, h2⟩ := fW_B.mp h
  have h2' : g 4 a = true := h2
  have ok : okx (4, a) := .inr (.inr (.inr (.inl ⟨rfl, (PK.2.2.2.2.1 a b h1).1⟩)))
  rw [mf_I frx (k := 233) rfl, mf_J frx (k := 234) rfl, mf_I frm (k := 53) rfl, mf_J frm (k := 54) rfl]
  exact VV_fW PK (RBE a b h1) (fun z hz => G2 (4, a) z ok h2' (.inr (.inr (.inl ⟨rfl, hz⟩))))
