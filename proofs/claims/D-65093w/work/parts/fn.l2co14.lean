/-! LAYER 2: the collectors: coroutines, and all -/
theorem fl_prm {α : Type} (p : α → Bool) : ∀ l : List α, (l.filter p ++ l.filter (fun x => !p x)).Perm l
  | [] => List.Perm.nil
  | x :: l => by
    have ih := fl_prm p l
    by_cases h : p x = true
    · rw [List.filter_cons, if_pos h, List.filter_cons, if_neg (by simp [h]), List.cons_append]
      exact ih.cons x
    · rw [List.filter_cons, if_neg h, List.filter_cons, if_pos (by simpa using h)]
      exact (List.perm_middle).trans (ih.cons x)
theorem fl_flat {f : Int32 → List Int32} {g : Int32 → Bool} : ∀ {l : List Int32}, (∀ c, c ∈ l → g c = false → f c = []) → ((l.filter g).map f).flatten = (l.map f).flatten
  | [], _ => rfl
  | x :: l, h => by
    have ih := fl_flat (f := f) (g := g) (l := l) (fun c hc => h c (List.mem_cons_of_mem _ hc))
    by_cases c : g x = true
    · rw [List.filter_cons, if_pos c, List.map_cons, List.map_cons, List.flatten_cons, List.flatten_cons, ih]
    · rw [List.filter_cons, if_neg c, List.map_cons, List.flatten_cons, h x List.mem_cons_self (by simpa using c), ih]
      rfl
theorem csum {f : Int32 → Nat} : ∀ {l : List Int32}, ((l.map f).sum : Int) = (l.map (fun x => (f x : Int))).sum
  | [] => rfl
  | x :: l => by
    have ih := csum (f := f) (l := l)
    simp only [List.map_cons, List.sum_cons]
    push_cast
    rw [ih]
/-- sums over coroutines -/
def kL (μ : mS) (l : PL2) : Int := (l.map (fun p => (sI μ 166 p.2).toInt)).sum
theorem kL_snd {μ : mS} {l : PL2} : ((l.map Prod.snd).map (fun d => (sI μ 166 d).toInt)).sum = kL μ l := by
  simp only [kL, List.map_map]
  rfl
theorem gcX_f (k : Nat) (h : k = 222 ∨ k = 257 ∨ k = 261 ∨ (325 ≤ k ∧ k ≤ 335 ∧ k ≠ 326) ∨ (343 ≤ k ∧ k ≤ 355) ∨ k = 364 ∨ k = 365 ∨ (392 ≤ k)) : gcX k = false := by
  simp only [gcX, mkF, tcF, kK, tsF, hD, hY, hW, hU, sfF, sbF, swF, Bool.or_eq_false_iff, List.contains_cons, List.contains_nil, Bool.or_eq_false_iff, beq_eq_false_iff_ne]
  (repeat' (first | exact trivial | omega | apply And.intro))
theorem gcM_f (k : Nat) (h : (141 ≤ k ∧ k ≤ 154) ∨ (156 ≤ k ∧ k ≤ 178 ∧ k ≠ 164 ∧ k ≠ 166 ∧ k ≠ 170 ∧ k ≠ 171) ∨ (179 ≤ k ∧ k ≤ 231)) : gcM k = false := by
  simp only [gcM, mmF, keF, ssK, soK, Bool.or_eq_false_iff, List.contains_cons, List.contains_nil, Bool.or_eq_false_iff, beq_eq_false_iff_ne]
  (repeat' (first | exact trivial | omega | apply And.intro))
theorem cKd_len {S : SR} {w : WD} {xf : Int32 → List Int32} {σ μ : mS} {c d : Int32} (H : cKd S w xf σ μ c d) : ((xf c).length : Int) = (sI μ 166 d).toInt := by
  rcases H with ⟨_, a, _, b, _⟩ | ⟨_, a, _, _, _, b, _⟩ | ⟨_, _, _, a, _⟩
  · rw [a, b]; rfl
  · rw [a, b]; rfl
  · have := LK_len (FL_LK a)
    rw [show (0 : Int32).toInt = 0 from rfl] at this
    omega
theorem coll_C {S : SR} {w : WD} {σ σ' μ μ' : mS} {xf es es' : Int32 → List Int32} {g : Nat → Int32 → Bool} {fcs D : List Int32} (W : WOK w) (CW : CO S w xf [] σ μ) (xf0 : xf 0 = []) (cnt : sF σ 358 = sF μ 155 ∧ 0 ≤ sF σ 358 ∧ sF σ 358 ≤ 200 ∧ (sF σ 358).toInt = (fAll w xf).length ∧ (sF μ 155).toInt = kSum w μ) (c2 : (fcs ++ (wC w).map Prod.fst).Nodup) (c3 : ∀ c, c ∈ fcs ++ (wC w).map Prod.fst → 1 ≤ c ∧ c ≤ 120) (c4 : (fcs ++ (wC w).map Prod.fst).length = 120) (G : GW σ μ w xf es es' g) (X : SWX σ σ' w xf es g fcs D) (Y : SWM μ μ' w es' (RCM μ es')) : CO S (fW g w) (fD xf D) [] σ' μ' ∧ XF (fW g w) (fD xf D) σ' ∧ fD xf D 0 = [] ∧ (sF σ' 358 = sF μ' 155 ∧ 0 ≤ sF σ' 358 ∧ sF σ' 358 ≤ 200 ∧ (sF σ' 358).toInt = (fAll (fW g w) (fD xf D)).length ∧ (sF μ' 155).toInt = kSum (fW g w) μ') := by
  obtain ⟨_, _, _, _, ⟨X1, X2, X3, X4, X5, X6, X7, X8⟩, _, frx⟩ := X
  obtain ⟨_, _, _, _, ⟨D', Y1, Y2, Y3, Y4, Y5, Y6, Y7⟩, frm⟩ := Y
  obtain ⟨PK, G1, G2, G3⟩ := G
  obtain ⟨C1, C2, _, ⟨C4, C5⟩, C6, C7⟩ := CW
  have nd : ((wC w).map Prod.fst).Nodup := (List.nodup_append.mp c2).2.1
  have nds : ((wC w).map Prod.snd).Nodup := bij_nd W.2.2.1 nd
  have ck : ∀ c d, (c, d) ∈ wC w → cKd S w xf σ μ c d := fun c d h => ((C1 c d h).2.2.2.2).resolve_left (by simp)
  have pg : ∀ c d, (c, d) ∈ wC w → (g 5 c = true ↔ RCM μ es' (5, d)) := fun c d h => G1 (5, c) d (.inr (.inr (.inr (.inr ⟨rfl, rfl, h⟩))))
  generalize hnF : fl1 (fun c => !g 5 c) (wC w) = nF
  have mF : ∀ p, p ∈ nF ↔ p ∈ wC w ∧ g 5 p.1 = false := fun p => by
    rw [← hnF, fl1_m]
    simp
  have pmW : (wC (fW g w) ++ nF).Perm (wC w) := by
    rw [← hnF]
    exact fl_prm (fun p : Int32 × Int32 => g 5 p.1) (wC w)
  have pmD : D.Perm (nF.map Prod.fst) := nd_perm X3 (by rw [← hnF, fl1_f]; exact nd.filter _) (fun x => by
    rw [X4 x, ← hnF, fl1_f, List.mem_filter]
    simp)
  have D'm : ∀ d, d ∈ D' ↔ ∃ c, (c, d) ∈ wC w ∧ g 5 c = false := fun d => by
    rw [Y2 d]
    refine ⟨fun ⟨⟨d0, d1⟩, h, hr⟩ => ?_, fun ⟨c, h, hg⟩ => ⟨(PK.2.2.2.2.2 c d h).2, ?_, fun hr => ?_⟩⟩
    · have hm : d ∈ (wC w).map Prod.snd := Decidable.byContradiction (fun q => h (C2 d d0 d1 q))
      obtain ⟨⟨c, d'⟩, hcd, rfl⟩ := List.mem_map.mp hm
      refine ⟨c, hcd, ?_⟩
      by_cases q : g 5 c = true
      · exact absurd ((pg c d' hcd).mp q) hr
      · simpa using q
    · rw [(C1 c d h).2.2.2.1]; decide
    · rw [(pg c d h).mpr hr] at hg
      exact absurd hg (by decide)
  have pmD' : D'.Perm (nF.map Prod.snd) := nd_perm Y1 (by rw [← hnF]; exact fl1_nd nds) (fun d => by
    rw [D'm d, List.mem_map]
    exact ⟨fun ⟨c, h, hg⟩ => ⟨(c, d), (mF _).mpr ⟨h, hg⟩, rfl⟩, fun ⟨p, h, e⟩ => ⟨p.1, by rw [← e]; exact ((mF p).mp h).1, ((mF p).mp h).2⟩⟩)
  have lD : D.length = nF.length := by rw [pmD.length_eq, List.length_map]
  have lD' : D'.length = nF.length := by rw [pmD'.length_eq, List.length_map]
  have lW : (wC (fW g w)).length + nF.length = (wC w).length := by rw [← pmW.length_eq, List.length_append]
  have nD : ∀ c d, (c, d) ∈ wC (fW g w) → c ∉ D ∧ d ∉ D' := fun c d h => by
    obtain ⟨h1, h2⟩ := fW_C.mp h
    have h2' : g 5 c = true := h2
    refine ⟨fun q => ?_, fun q => ?_⟩
    · have := ((X4 c).mp q).2
      rw [h2'] at this
      exact absurd this (by decide)
    · obtain ⟨_, _, hr⟩ := (Y2 d).mp q
      exact hr ((pg c d h1).mp h2')
  have xe : ∀ c d, (c, d) ∈ wC (fW g w) → fD xf D c = xf c := fun c d h => by
    rw [fD, if_neg (nD c d h).1]
  have x0 : fD xf D 0 = [] := by
    rw [fD]
    split
    · rfl
    · exact xf0
  have q1 : (D ++ (wC (fW g w)).map Prod.fst).Perm ((wC w).map Prod.fst) := by
    refine (pmD.append_right _).trans (List.perm_append_comm.trans ?_)
    rw [← List.map_append]
    exact pmW.map Prod.fst
  have q2 : ((D ++ fcs) ++ (wC (fW g w)).map Prod.fst).Perm (fcs ++ (wC w).map Prod.fst) := by
    refine (List.perm_append_comm.append_right _).trans ?_
    rw [List.append_assoc]
    exact q1.append_left _
  have fst : (wC (fW g w)).map Prod.fst = ((wC w).map Prod.fst).filter (g 5) := fl1_f
  have fE : fAll (fW g w) (fD xf D) = fAll w (fD xf D) := by
    simp only [fAll, cX, fst, List.map_cons, List.flatten_cons]
    rw [fl_flat (fun c hc hg => by rw [fD, if_pos ((X4 c).mpr ⟨hc, hg⟩)])]
  have kW : kSum w μ = kL μ (wC (fW g w)) + kL μ nF := by
    have : kSum w μ = kL μ (wC w) := rfl
    rw [this]
    simp only [kL]
    rw [← sum_pm (pmW.map _), List.map_append, List.sum_append]
  have k1 : k166 μ D' = kL μ nF := by
    rw [k166, sum_f pmD', kL_snd]
  have k2 : kSum (fW g w) μ' = kL μ (wC (fW g w)) := by
    simp only [kSum, kL]
    refine congrArg List.sum (List.map_congr_left (fun p hp => ?_))
    obtain ⟨c, d⟩ := p
    have d0 := (PK.2.2.2.2.2 c d (fW_C.mp hp).1).2.1
    show (sI μ' 166 d).toInt = (sI μ 166 d).toInt
    rw [Y4 d d0, if_neg (nD c d hp).2]
  have k3 : ((D.map (fun c => (xf c).length)).sum : Int) = kL μ nF := by
    rw [csum, sum_f pmD, ← kL_snd]
    exact psum (fun c d h => cKd_len (ck c d ((mF _).mp h).1))
  have k4 : ((fAll (fW g w) (fD xf D)).length : Int) = kL μ (wC (fW g w)) := by
    have e1 : (fAll (fW g w) (fD xf D)).length = ((cX (fW g w)).map (fun c => (fD xf D c).length)).sum := fAll_ls
    rw [e1, csum, cX, List.map_cons, List.sum_cons, x0, ← kL_snd]
    have e2 := psum (f := fun c => ((fD xf D c).length : Int)) (g := fun d => (sI μ 166 d).toInt) (l := wC (fW g w)) (fun c d h => by
      show ((fD xf D c).length : Int) = _
      rw [xe c d h]
      exact cKd_len (ck c d (fW_C.mp h).1))
    rw [e2]
    simp
  have kn : 0 ≤ kL μ nF := by
    rw [← k3]
    exact Int.natCast_nonneg _
  obtain ⟨n1, n2, n3, n4, n5⟩ := cnt
  have t155 : (sF μ' 155).toInt = kL μ (wC (fW g w)) := by rw [Y7, k1, n5, kW]; omega
  have t358 : (sF σ' 358).toInt = kL μ (wC (fW g w)) := by rw [X8, k3, n1, n5, kW]; omega
  have z : (0 : Int32).toInt = 0 := rfl
  refine ⟨⟨fun c d h => ?_, fun d d0 d1 hd => ?_, ⟨D ++ fcs, X2, q2.nodup_iff.mpr c2, fun c hc => c3 c (q2.mem_iff.mp hc), q2.length_eq.trans c4⟩, ⟨by rw [X5]; omega, by rw [Y6, C5]; omega⟩, ?_, ?_⟩, ?_, x0, ?_, ?_, ?_, ?_, ?_⟩
  · obtain ⟨h1, h2⟩ := fW_C.mp h
    have h2' : g 5 c = true := h2
    obtain ⟨a1, a2, a3, a4, _⟩ := C1 c d h1
    obtain ⟨n1, n2⟩ := nD c d h
    have pc := PK.2.2.2.2.2 c d h1
    have c0 := Int32.le_of_lt pc.1.1
    have e323 : sI σ' 323 c = sI σ 323 c := by rw [X6 c c0, if_neg n1]
    have e324 : sI σ' 324 c = sI σ 324 c := by rw [X7 c c0, if_neg n1]
    refine ⟨a1, by rw [e323, a2]; exact (mf_I frm rfl).symm, by rw [mf_J frx (k := 335) rfl, a3, mf_I frm (k := 157) rfl], by rw [Y3 d pc.2.1, if_neg n2]; exact a4, .inr ?_⟩
    have ck' := cKd_fW (g := g) PK (ck c d h1) (es := es) (fun y hy => G2 (5, c) y (.inr (.inr (.inr (.inr ⟨rfl, pc.1⟩)))) h2' hy)
    refine cKd_cg ck' wle_rfl (xe c d h) (fun f hf => ⟨fun k hk => mf_I frx (gcX_f k (by omega)), fun x _ _ => ?_⟩) ⟨fun m => mf_I frx rfl, fun m => mf_I frx rfl, fun a b _ => mf_I frx rfl⟩ ⟨fun k h0 h1 h2 => ?_, mf_J frx rfl, mf_J frx rfl⟩ ⟨fun k h0 h1 => ?_, fun k j _ _ _ => ?_, fun i _ _ => ?_⟩
    · simp only [xt, xv]
      rw [mf_I frx (k := 364) rfl, mf_J frx (k := 365) rfl, mf_I frx (k := 347) rfl]
      exact ⟨rfl, rfl⟩
    · by_cases e1 : k = 323
      · rw [e1]; exact e323
      · by_cases e2 : k = 324
        · rw [e2]; exact e324
        · exact mf_I frx (gcX_f k (by omega))
    · by_cases e1 : k = 164
      · rw [e1, Y5 d pc.2.1, if_neg n2]
      · by_cases e2 : k = 166
        · rw [e2, Y4 d pc.2.1, if_neg n2]
        · by_cases e3 : k = 170
          · rw [e3, Y3 d pc.2.1, if_neg n2]
          · exact mf_I frm (gcM_f k (by omega))
    · simp only [kff]
      rw [mf_I frm (k := 176) rfl, mf_I frm (k := 165) rfl]
    · simp only [kpt, kpv]
      rw [mf_I frm (k := 173) rfl, mf_J frm (k := 174) rfl, mf_I frm (k := 163) rfl]
      exact ⟨rfl, rfl⟩
  · rw [Y3 d d0]
    by_cases q : d ∈ D'
    · rw [if_pos q]
    · rw [if_neg q]
      refine C2 d d0 d1 (fun hm => ?_)
      obtain ⟨⟨c, d'⟩, hcd, rfl⟩ := List.mem_map.mp hm
      by_cases hg : g 5 c = true
      · exact hd (List.mem_map.mpr ⟨(c, d'), fW_C.mpr ⟨hcd, hg⟩, rfl⟩)
      · exact q ((D'm d').mpr ⟨c, hcd, by simpa using hg⟩)
  · rw [mf_J frx (k := 335) rfl, mf_I frm (k := 157) rfl]; exact C6
  · refine KL_sub C7 (fun d hd => ?_) (mf_F frm rfl) (mf_F frm rfl)
    obtain ⟨d0, d1, h1, h2, h3⟩ := hd
    have nd' : d ∉ D' := fun q => by
      rw [Y3 d d0, if_pos q] at h1
      exact absurd h1 (by decide)
    rw [Y3 d d0, if_neg nd'] at h1
    refine ⟨⟨d0, d1, h1, by rw [← mf_I frm (k := 156) rfl]; exact h2, by rw [← mf_I frm (k := 159) rfl]; exact h3⟩, mf_I frm rfl, by rw [Y5 d d0, if_neg nd'], mf_I frm rfl, by rw [Y4 d d0, if_neg nd']⟩
  · obtain ⟨fc, bl, b1, b2, b3, b4, b5, b6, b7, b8⟩ := X1
    refine ⟨fc, bl, b1, fun c hc => b2 c ?_, by rw [fE]; exact b3, fun f hf => b4 f (by rw [fE] at hf; exact hf), by rw [fE]; exact b5, b6, b7, fun f => by rw [fE]; exact b8 f⟩
    rcases List.mem_cons.mp hc with q | q
    · rw [q]; exact List.mem_cons_self
    · rw [fst] at q
      exact List.mem_cons_of_mem _ (List.mem_filter.mp q).1
  · rw [tI_eq, t358, t155]
  · rw [tI_le, t358, z, ← k4]
    exact Int.natCast_nonneg _
  · rw [tI_le, t358]
    rw [tI_le, n1, n5, kW] at n3
    omega
  · rw [t358, k4]
  · rw [t155, k2]
/-- both collectors -/
theorem coll_2 {N : Nat} (hN : BIG ≤ N) {S : SR} {K : Int32 → Int32 → Int32 → Prop} {q : Int} {w : WD} {xf : Int32 → List Int32} {σ μ : mS} (H : QU S K q w xf σ μ) (Z : MZ σ) (hK : ∀ g b n, K g b n → sI μ 81 b = n) (hK2 : ∀ g b n, K g b n → b < 9000) (hq : q + 8200 ≤ 1000000000) : ∃ σ' μ' w' xf', xx0_collect N σ = some σ' ∧ mm_collect N μ = some μ' ∧ wle w' w ∧ wX w' = wX w ∧ QU S K (q + 8000) w' xf' σ' μ' ∧ MZ σ' ∧ m_fr gcX σ σ' ∧ m_fr gcM μ μ' ∧ (∀ a b, (a, b) ∈ wX w → xst σ σ' a ∧ mst μ μ' b) := by
  obtain ⟨⟨⟨W, RSx, ⟨es, es', R⟩, RFx, RBx, s1, s2, s3, s4⟩, hq2⟩, ZSx, HOx, XFx, xf0, COx, cnt⟩ := id H
  obtain ⟨σ', g, fcs, D, eX, hg, ⟨c1, c2, c3, c4⟩, X⟩ := collect_x hN H Z hK R
  obtain ⟨μ', eM, Y⟩ := collect_m hN H hK hK2 R
  have G := GW_of H hK R hg
  obtain ⟨PK, _, nS2⟩ := RH_PRK H.1.1 (fun a b h => (COx.1 a b h).1)
  have cS := coll_S RSx G nS2 X Y
  have cT := coll_T R G X Y
  have cF := coll_F RFx hK G X Y
  have cB := coll_B RBx G X Y
  obtain ⟨cC, cX', cx0, ccnt⟩ := coll_C W COx xf0 cnt c2 c3 c4 G X Y
  obtain ⟨⟨_, _, X3, _, _⟩, _, _, _, _, MZ', frx⟩ := X
  obtain ⟨⟨_, _, Y5⟩, _, _, _, _, frm⟩ := Y
  have tx : ∀ a b, (a, b) ∈ wX w → xst σ σ' a ∧ mst μ μ' b := fun a b h => ⟨X3 a (.inr (List.mem_map.mpr ⟨_, h, rfl⟩)), Y5 b (.inr (List.mem_map.mpr ⟨_, h, rfl⟩))⟩
  have HO1 : HO w σ' μ' := HO_fr HOx wle_rfl frx frm (fun k hk => gcX_f k (by omega)) (fun k h0 h1 => gcM_f k (by omega)) (fun a b h => xst_L (tx a b h).1) (fun k _ => by rw [frm.2.2.1 44 rfl])
  have r1 : g 2 (sF σ 395) = true := (hg 2 _ (.inr (.inl ⟨rfl, (PK.2.2.1 _ _ HOx.2.2.2.2.2.2.1).1⟩))).mpr (fun P h _ _ => h)
  have r2 : g 2 (sF σ 394) = true := (hg 2 _ (.inr (.inl ⟨rfl, (PK.2.2.1 _ _ HOx.2.2.2.2.2.2.2.1).1⟩))).mpr (fun P _ h _ => h)
  refine ⟨σ', μ', fW g w, fD xf D, eX, eM, fW_le, rfl, ⟨⟨⟨fW_OK W, cS, ⟨_, _, cT⟩, cF, cB, ?_, ?_, ?_, ?_⟩, by omega⟩, fun a b h => ?_, ?_, cX', cx0, cC, ccnt⟩, MZ', frx, frm, tx⟩
  · rw [mf_G frx (k := 194) rfl, mf_F frm (k := 18) rfl]; exact s1
  · rw [mf_F frm (k := 18) rfl]; exact s2
  · obtain ⟨_, _, _, F1, _⟩ := cT
    obtain ⟨_, _, _, ⟨m1, m2⟩, _⟩ := COx
    obtain ⟨_, _, _, ⟨m3, m4⟩, _⟩ := id cC
    obtain ⟨_, _, _, F0, _⟩ := R
    obtain ⟨_, C0, _⟩ := RFx
    obtain ⟨_, C1, _⟩ := cF
    have a1 := tI_le.mp F1.2.1
    have a2 := tI_le.mp C1.1.2.1
    have a3 := tI_le.mp F0.1
    have a4 := tI_le.mp C0.1.1
    rw [show (3000 : Int32).toInt = 3000 from rfl] at a1
    rw [show (4000 : Int32).toInt = 4000 from rfl] at a2
    rw [show (0 : Int32).toInt = 0 from rfl] at a3 a4
    have e157 : sI μ' 157 120 = sI μ 157 120 := mf_I frm rfl
    have wl : (wC w).length ≤ 120 := by
      rw [List.length_append, List.length_map] at c4
      omega
    rw [mf_F frm (k := 18) rfl]
    simp only [fQ, e157] at s3 ⊢
    split at s3 <;> split <;> first | omega | contradiction
  · obtain ⟨_, _, _, ⟨m3, m4⟩, _⟩ := id cC
    have wl : (wC (fW g w)).length ≤ 120 := by
      obtain ⟨_, _, ⟨f5, _, _, _, l5⟩, _⟩ := cC
      rw [List.length_append, List.length_map] at l5
      omega
    simp only [fQ]
    split <;> omega
  · have q : x_sz σ' a = x_sz σ a ∧ ((a, b) ∈ wS w ∨ (a, b) ∈ wX w) := by
      rcases h with h | h
      · obtain ⟨h1, h2⟩ := fW_S.mp h
        exact ⟨(X3 a (.inl ⟨List.mem_map.mpr ⟨_, h1, rfl⟩, h2⟩)).2.2.1, .inl h1⟩
      · exact ⟨(tx a b h).1.2.2.1, .inr h⟩
    rw [q.1]
    exact ZSx a b q.2
  · obtain ⟨h1, h2, h3, h4, h5, h6, h7, h8, h9⟩ := HO1
    refine ⟨h1, h2, h3, h4, h5, h6, fW_T.mpr ⟨h7, ?_⟩, fW_T.mpr ⟨h8, ?_⟩, h9⟩
    · show g 2 (sF σ' 395) = true
      rw [mf_F frx (k := 395) rfl]; exact r1
    · show g 2 (sF σ' 394) = true
      rw [mf_F frx (k := 394) rfl]; exact r2
