/-! LAYER 2: the system's collector: the piles are worked off -/
theorem em_1 {a : Int32} : a + 1 - 1 = a := by lia
theorem pop_J {σ0 τ : mS} {R : OB2 → Prop} {E : OB2 → OB2 → Prop} {Gd L : Nat → List Int32} (J : JX σ0 R E (fun _ => False) τ Gd L) {k : Nat} (hk : pk k) {l : List Int32} {x : Int32} (e : L k = l ++ [x]) : (sF τ (pcf k) - 1 = Int32.ofNat l.length ∧ 0 < sF τ (pcf k) ∧ 0 ≤ Int32.ofNat l.length ∧ (Int32.ofNat l.length).toInt < cap k) ∧ sI τ (prf k) (Int32.ofNat l.length) = x ∧ R (k, x) ∧ JX σ0 R E (fun o => o = (k, x)) (md_pi τ (pcf k) (Int32.ofNat l.length)) (lU Gd k (Gd k ++ [x])) (lU L k l) := by
  obtain ⟨j1, j2, j3, j4, j5, j6, j7⟩ := J
  obtain ⟨p1, p2⟩ := j2 k hk
  obtain ⟨n1, n2⟩ := j3 k hk
  rw [e] at p1 p2 n1 n2
  have cap4 := cap_4 hk
  have len := nd_len (M := cap k) _ n1 (fun y hy => ⟨okx_0 (n2 y hy).1, okx_c (n2 y hy).1 hk⟩)
  rw [List.length_append, List.length_append, List.length_singleton] at len
  rw [List.length_append, List.length_singleton] at p1 p2
  have hx : x ∈ Gd k ++ (l ++ [x]) := by simp
  have ms : ∀ o, mkx (md_pi τ (pcf k) (Int32.ofNat l.length)) o ↔ mkx τ o := fun o => by simp only [mkx, sI_pi]
  have mem : ∀ y, y ∈ (Gd k ++ [x]) ++ l ↔ y ∈ Gd k ++ (l ++ [x]) := fun y => by
    simp only [List.mem_append, List.mem_singleton]
    constructor
    · rintro ((h | h) | h)
      · exact .inl h
      · exact .inr (.inr h)
      · exact .inr (.inl h)
    · rintro (h | h | h)
      · exact .inl (.inl h)
      · exact .inr h
      · exact .inl (.inr h)
  have cI : (Int32.ofNat l.length).toInt = (l.length : Int) := tI_lit (by omega)
  have s1 : Int32.ofNat (l.length + 1) = Int32.ofNat l.length + 1 := oN_s.symm
  have lt0 : Int32.ofNat l.length < Int32.ofNat (l.length + 1) := by rw [oN_lt (by omega) (by omega)]; omega
  have ge0 : 0 ≤ Int32.ofNat l.length := oN_nn (by omega)
  refine ⟨⟨by rw [p1, s1]; exact em_1, by rw [p1]; exact Int32.lt_of_le_of_lt ge0 lt0, ge0, by rw [cI]; omega⟩, ?_, j6 _ (n2 x hx).1 (n2 x hx).2, mf_pi j1 (pk_F hk).1, fun k' h => ?_, fun k' h => ?_, fun k' y h hy hm => ?_, fun o h => ?_, fun o h hm => j6 o h ((ms o).mp hm), fun o h hm hex hpl y hE hy => ?_⟩
  · rw [p2 l.length (by omega), app_ln]
  · by_cases c : k' = k
    · subst c
      rw [lU_s, sF_pi, if_pos rfl]
      refine ⟨rfl, fun j hj => ?_⟩
      rw [sI_pi, p2 j (by omega), app_at hj]
    · rw [lU_o c, sF_pi, if_neg (pk_i h hk c).1]
      refine ⟨(j2 k' h).1, fun j hj => ?_⟩
      rw [sI_pi]; exact (j2 k' h).2 j hj
  · by_cases c : k' = k
    · subst c
      rw [lU_s, lU_s]
      refine ⟨?_, fun y hy => ?_⟩
      · have pm : ((Gd k' ++ [x]) ++ l).Perm (Gd k' ++ (l ++ [x])) := by
          rw [List.append_assoc]
          exact List.Perm.append_left _ List.perm_append_comm
        exact pm.nodup_iff.mpr n1
      · have := n2 y ((mem y).mp hy)
        exact ⟨this.1, (ms _).mpr this.2⟩
    · rw [lU_o c, lU_o c]
      exact ⟨(j3 k' h).1, fun y hy => ⟨((j3 k' h).2 y hy).1, (ms _).mpr ((j3 k' h).2 y hy).2⟩⟩
  · have := j4 k' y h hy ((ms _).mp hm)
    by_cases c : k' = k
    · subst c
      rw [lU_s, lU_s]
      rw [e] at this
      exact (mem y).mpr this
    · rw [lU_o c, lU_o c]; exact this
  · rw [sI_pi]
    rcases j5 o h with q | q
    · exact .inl q
    · exact .inr ((ms o).mpr q)
  · refine (ms y).mpr (j7 o h ((ms o).mp hm) (fun z => z) (fun z => ?_) y hE hy)
    by_cases c : o.1 = k
    · have z2 := z.2
      rw [c, e] at z2
      rcases List.mem_append.mp z2 with q | q
      · exact hpl ⟨z.1, by rw [c, lU_s]; exact q⟩
      · rw [List.mem_singleton] at q
        exact hex (Prod.ext c q)
    · exact hpl ⟨z.1, by rw [lU_o c]; exact z.2⟩
theorem nil_J {σ0 τ : mS} {R : OB2 → Prop} {E : OB2 → OB2 → Prop} {ex : OB2 → Prop} {Gd L : Nat → List Int32} (J : JX σ0 R E ex τ Gd L) {k : Nat} (hk : pk k) : (L k = [] → sF τ (pcf k) ≤ 0) ∧ (L k ≠ [] → ¬ sF τ (pcf k) ≤ 0 ∧ ∃ l x, L k = l ++ [x]) := by
  obtain ⟨j1, j2, j3, j4, j5, j6, j7⟩ := J
  obtain ⟨p1, p2⟩ := j2 k hk
  obtain ⟨n1, n2⟩ := j3 k hk
  have cap4 := cap_4 hk
  have len := nd_len (M := cap k) _ n1 (fun y hy => ⟨okx_0 (n2 y hy).1, okx_c (n2 y hy).1 hk⟩)
  rw [List.length_append] at len
  refine ⟨fun h => by rw [p1, h]; decide, fun h => ⟨fun q => ?_, ?_⟩⟩
  · rw [p1] at q
    have : 0 < (L k).length := List.length_pos_iff.mpr h
    have : Int32.ofNat 0 < Int32.ofNat (L k).length := by rw [oN_lt (by omega) (by omega)]; exact this
    exact absurd (Int32.lt_of_lt_of_le this q) Int32.lt_irrefl
  · exact ⟨(L k).dropLast, (L k).getLast h, (List.dropLast_concat_getLast h).symm⟩
theorem gd_len {σ0 τ : mS} {R : OB2 → Prop} {E : OB2 → OB2 → Prop} {ex : OB2 → Prop} {Gd L : Nat → List Int32} (J : JX σ0 R E ex τ Gd L) {k : Nat} (hk : pk k) : (Gd k).length + (L k).length ≤ cap k := by
  obtain ⟨n1, n2⟩ := J.2.2.1 k hk
  have len := nd_len (M := cap k) _ n1 (fun y hy => ⟨okx_0 (n2 y hy).1, okx_c (n2 y hy).1 hk⟩)
  rw [List.length_append] at len
  exact len
/-- what was taken from a pile is gone through -/
theorem done_J {σ0 τ : mS} {R : OB2 → Prop} {E : OB2 → OB2 → Prop} {Gd : Nat → List Int32} {z : OB2} {o : Option mS} (H : MKD σ0 R E (fun o => o = z) τ Gd (E z) o) : ∃ τ' L', o = some τ' ∧ JX σ0 R E (fun _ => False) τ' Gd L' ∧ (∀ y, okx y → mkx τ y → mkx τ' y) := by
  obtain ⟨τ', L', q1, q2, q3, q4⟩ := H
  exact ⟨τ', L', q1, JX_ex q2 (fun o ho hm hx _ y hE hy => by rw [hx] at hE; exact q4 y hE), q3⟩
/-- the calls of a coroutine -/
theorem xtraceC {N : Nat} (hN : BIG ≤ N) {σ0 τ : mS} {es xf : Int32 → List Int32} {R : OB2 → Prop} {ex : OB2 → Prop} {Gd L : Nat → List Int32} (C : CEN σ0 es xf R) (H : SHX σ0 es xf R) (J : JX σ0 R (edx σ0 es xf) ex τ Gd L) {c f : Int32} (hR : R (5, c)) (hf : f ∈ xf c) (h355 : sI σ0 355 f = 0) : MKD σ0 R (edx σ0 es xf) ex τ Gd (fun y => y = (3, sI σ0 343 f) ∨ (∃ k, 0 ≤ k ∧ k < sI σ0 353 f ∧ rfx (xt σ0 f k) (xv σ0 f k) y) ∨ (∃ k, 0 ≤ k ∧ k < sI σ0 348 f ∧ rfx (xt σ0 f (sI σ0 261 (sI σ0 344 f) + k)) (xv σ0 f (sI σ0 261 (sI σ0 344 f) + k)) y)) (xx5_traceCall N τ f) := by
  obtain ⟨_, _, h3⟩ := H.2.2 c hR
  obtain ⟨f01, h4⟩ := h3 f hf
  obtain ⟨s1, s2, s3⟩ := h4 h355
  have ed : ∀ y, (y = (3, sI σ0 343 f) ∨ (∃ k, 0 ≤ k ∧ k < sI σ0 353 f ∧ rfx (xt σ0 f k) (xv σ0 f k) y) ∨ (∃ k, 0 ≤ k ∧ k < sI σ0 348 f ∧ rfx (xt σ0 f (sI σ0 261 (sI σ0 344 f) + k)) (xv σ0 f (sI σ0 261 (sI σ0 344 f) + k)) y)) → R y := fun y hy => C.1 _ y hR (.inr (.inr (.inr ⟨rfl, .inr ⟨f, hf, h355, hy⟩⟩)))
  have r3 : R (3, sI σ0 343 f) := ed _ (.inl rfl)
  have f0 := (okx_3 (C.2.1 _ r3)).1
  have e343 : τ.2.2.1 343 f.toNatClampNeg = sI σ0 343 f := mf_I J.1 (k := 343) rfl
  have b0 := tI_le.mp s2.1
  rw [show (2600 : Int32).toInt = 2600 from rfl] at b0
  rw [xx5_traceCall, gd_in (by decide) f01.1 f01.2, e343]
  refine MKD_T (MKD_bd (xmark C J (fun o ho => by rw [(rfx_6 f0 o).mp ho]; exact r3)) (fun y hy => by rw [(rfx_6 f0 y).mp hy]; exact C.2.1 _ r3) (fun τ' L' J' => tc18 hN C f01.1 f01.2 s1 s2.1 s2.2 (fun k k0 k1 y hy => ed y (.inr (.inl ⟨k, k0, k1, hy⟩))) s3.1 s3.2 (fun k k0 k1 y hy => ed y (.inr (.inr ⟨k, k0, k1, hy⟩))) N 0 (by decide) (by rw [show (0 : Int32).toInt = 0 from rfl]; simp only [BIG] at hN; omega) τ' L' J')) (fun y hy => ?_)
  rcases hy with h | h
  · exact .inl ((rfx_6 f0 y).mpr h)
  · exact .inr h
theorem fr_lp {N : Nat} (hN : BIG ≤ N) {σ0 : mS} {es xf : Int32 → List Int32} {R : OB2 → Prop} {ex : OB2 → Prop} {Gd : Nat → List Int32} (C : CEN σ0 es xf R) (H : SHX σ0 es xf R) {c v1 : Int32} (hR : R (5, c)) (r13 : Int32 → mS → Option (Int32 × mS)) : ∀ (l : List Int32) (h : Int32) (n : Nat), seg (sI σ0 356) h l (-1) → (∀ f, f ∈ l → f ∈ xf c) → l.length < n → ∀ τ L, JX σ0 R (edx σ0 es xf) ex τ Gd L → ∃ τ' L', xx5_trace_b63 N r13 n v1 h τ = r13 v1 τ' ∧ JX σ0 R (edx σ0 es xf) ex τ' Gd L' ∧ (∀ y, okx y → mkx τ y → mkx τ' y) ∧ (∀ f, f ∈ l → sI σ0 355 f = 0 → ∀ y, (y = (3, sI σ0 343 f) ∨ (∃ k, 0 ≤ k ∧ k < sI σ0 353 f ∧ rfx (xt σ0 f k) (xv σ0 f k) y) ∨ (∃ k, 0 ≤ k ∧ k < sI σ0 348 f ∧ rfx (xt σ0 f (sI σ0 261 (sI σ0 344 f) + k)) (xv σ0 f (sI σ0 261 (sI σ0 344 f) + k)) y)) → mkx τ' y)
  | [], h, n, hs, _, hn, τ, L, J => by
    obtain ⟨n, rfl⟩ : ∃ j, n = j + 1 := ⟨n - 1, by omega⟩
    have : h = -1 := hs
    subst this
    rw [xx5_trace_b63, if_pos rfl]
    exact ⟨τ, L, rfl, J, fun _ _ h => h, fun f hf => absurd hf (by simp)⟩
  | f :: l, h, n, hs, hx, hn, τ, L, J => by
    obtain ⟨n, rfl⟩ : ∃ j, n = j + 1 := ⟨n - 1, by omega⟩
    obtain ⟨rfl, hs⟩ := hs
    have hf := hx h List.mem_cons_self
    obtain ⟨_, _, h3⟩ := H.2.2 c hR
    obtain ⟨f01, h4⟩ := h3 h hf
    have nh : ¬ h = -1 := fun q => by rw [q] at f01; exact absurd f01.1 (by decide)
    have e355 : τ.2.2.1 355 h.toNatClampNeg = sI σ0 355 h := mf_I J.1 (k := 355) rfl
    have go : ∀ τ1 L1, JX σ0 R (edx σ0 es xf) ex τ1 Gd L1 → ∃ τ' L', xx5_trace_b82 N r13 (xx5_trace_b63 N r13 n) v1 h τ1 = r13 v1 τ' ∧ JX σ0 R (edx σ0 es xf) ex τ' Gd L' ∧ (∀ y, okx y → mkx τ1 y → mkx τ' y) ∧ (∀ f, f ∈ l → sI σ0 355 f = 0 → ∀ y, (y = (3, sI σ0 343 f) ∨ (∃ k, 0 ≤ k ∧ k < sI σ0 353 f ∧ rfx (xt σ0 f k) (xv σ0 f k) y) ∨ (∃ k, 0 ≤ k ∧ k < sI σ0 348 f ∧ rfx (xt σ0 f (sI σ0 261 (sI σ0 344 f) + k)) (xv σ0 f (sI σ0 261 (sI σ0 344 f) + k)) y)) → mkx τ' y) := fun τ1 L1 J1 => by
      have e356 : τ1.2.2.1 356 h.toNatClampNeg = sI σ0 356 h := mf_I J1.1 (k := 356) rfl
      rw [xx5_trace_b82, gd_in (by decide) f01.1 f01.2, e356, lt]
      exact fr_lp hN C H hR r13 l _ n hs (fun f hf => hx f (List.mem_cons_of_mem _ hf)) (by simp at hn; omega) τ1 L1 J1
    rw [xx5_trace_b63, if_neg nh, gd_in (by decide) f01.1 f01.2, e355]
    by_cases cg : sI σ0 355 h = 0
    · obtain ⟨τ1, L1, q1, q2, q3, q4⟩ := xtraceC hN C H J hR hf cg
      obtain ⟨τ', L', r1, r2, r3, r4⟩ := go τ1 L1 q2
      rw [if_pos cg, q1, bd_so]
      refine ⟨τ', L', r1, r2, fun y hy hm => r3 y hy (q3 y hy hm), fun g hg h0 y hy => ?_⟩
      rcases List.mem_cons.mp hg with rfl | hg
      · refine r3 y ?_ (q4 y hy)
        exact C.2.1 y (C.1 _ y hR (.inr (.inr (.inr ⟨rfl, .inr ⟨g, hf, h0, hy⟩⟩))))
      · exact r4 g hg h0 y hy
    · obtain ⟨τ', L', r1, r2, r3, r4⟩ := go τ L J
      rw [if_neg cg]
      refine ⟨τ', L', r1, r2, r3, fun g hg h0 y hy => ?_⟩
      rcases List.mem_cons.mp hg with rfl | hg
      · exact absurd h0 cg
      · exact r4 g hg h0 y hy
