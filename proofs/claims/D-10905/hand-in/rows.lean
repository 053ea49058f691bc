section
/-- the bit of box k -/
def sp_T (k : Nat) : Int32 := (1 : Int32) <<< (nI k &&& 31)
theorem sp_ix : ∀ k, k < 10 → ∀ a, a < 2 → ∀ b, b < 2 → (((nI (2 * k + b) >>> ((1 : Int32) &&& 31)) * 4) + (2 * nI a)) + (nI (2 * k + b) &&& 1) = nI (4 * k + 2 * a + b) := by decide +kernel
theorem sp_lo : ∀ k, k < 10 → ∀ b, b < 2 → nI (2 * k + b) &&& 1 = nI b := by decide +kernel
theorem sp_i20 : ∀ a, a < 2 → ∀ i, i < 20 → (nI a * 20) + nI i = nI (20 * a + i) := by decide +kernel
theorem sp_i4 : ∀ k, k < 10 → ∀ a, a < 2 → (nI k * 4) + (2 * nI a) = nI (4 * k + 2 * a) := by decide +kernel
theorem sp_b8 : ∀ k, k < 10 → (2 * nI k).toInt8.toInt32 = nI (2 * k + 0) ∧ ((2 * nI k) + 1).toInt8.toInt32 = nI (2 * k + 1) := by decide +kernel
theorem sp_s16 : ∀ v, v < 100 → (nI v).toInt16.toInt32 = nI v := by decide +kernel
theorem sp_bit : ∀ k, k < 10 → ∀ j, j < 10 → (sp_T k >>> (nI j &&& 31)) &&& 1 = if j = k then 1 else 0 := by decide +kernel
theorem sp_bit0 : ∀ j, j < 10 → ((0 : Int32) >>> (nI j &&& 31)) &&& 1 = 0 := by decide +kernel
theorem sp_or0 : ∀ k, k < 10 → (0 : Int32) ||| ((1 : Int32) <<< (nI k &&& 31)) = sp_T k := by decide +kernel
theorem sp_hb : ∀ k, k < 10 → (0 : Int32) ||| ((1 : Int32) <<< ((nI (2 * k + 0) >>> ((1 : Int32) &&& 31)) &&& 31)) = sp_T k := by decide +kernel
theorem sp_TT : ∀ k, k < 10 → sp_T k &&& sp_T k = sp_T k := by decide +kernel
/-- the ones of x below place n -/
def sp_cnt (x : Int32) : Nat → Int32
  | 0 => 0
  | n + 1 => sp_cnt x n + ((x >>> (nI n &&& 31)) &&& 1)
theorem sp_cnt0 : sp_cnt 0 10 = 0 := by decide +kernel
theorem sp_cntT : ∀ k, k < 10 → sp_cnt (sp_T k) 10 = 1 := by decide +kernel
theorem sp_ones {post : Int32 → Prop} {x : Int32} (h : post (sp_cnt x 10)) : wpX_ones post () x :=
  pk_loop (fun n i s => wX_ones_4 post x n s (nI i)) (fun i s => s = sp_cnt x i) 10 0 0 (by omega) rfl
    (fun n s hs => pk_le 10 10 (fun _ => by rw [hs]; exact h) (fun z => absurd z (by omega)))
    (fun n i s hi hs hw => pk_le 10 i (fun z => absurd z (by omega)) (fun _ => nm_e (nm_r (nI_1 i) (hw _ (by rw [hs]; rfl)))))
theorem sp_is0 {post : Int32 → Prop} {c : Int32} {a1 a2 a3 : Nat → Int32} {p : Int32} (h : post 0) : wpX_isThere post (0, c, a1, a2, a3) p := by
  unfold wpX_isThere
  dsimp only
  refine br_c (fun _ => h) (fun g => br_c (fun _ => h) (fun g2 => br_t ?_ h))
  rcases pk_ix p (n := 10) (by decide) with z | z | ⟨j, hj, rfl⟩
  · exact absurd z g
  · exact absurd z g2
  · exact sp_bit0 j hj
theorem sp_isT {post : Int32 → Prop} {c : Int32} {a1 a2 a3 : Nat → Int32} {k j : Nat} (hk : k < 10) (hj : j < 10) (h1 : j = k → post 1) (h0 : j ≠ k → post 0) : wpX_isThere post (sp_T k, c, a1, a2, a3) (nI j) := by
  unfold wpX_isThere
  dsimp only
  refine pk_lt j 0 (fun z => absurd z (by omega)) (fun _ => pk_le 10 j (fun z => absurd z (by omega)) (fun _ => ?_))
  rw [sp_bit k hk j hj]
  by_cases e : j = k
  · rw [if_pos e]
    exact br_f (by decide) (h1 e)
  · rw [if_neg e]
    exact br_t rfl (h0 e)
theorem sp_val {post : Int32 → Prop} {t c : Int32} {a1 a2 a3 : Nat → Int32} {k a b : Nat} (hk : k < 10) (ha : a < 2) (hb : b < 2) (h : post (a1 (4 * k + 2 * a + b))) : wpX_valueOf post (t, c, a1, a2, a3) (nI a) (nI (2 * k + b)) := by
  unfold wpX_valueOf
  dsimp only
  rw [sp_ix k hk a ha b hb, nI_clamp (by omega)]
  exact ⟨vp_in_nI (by omega) (by decide), h⟩
/-- a high needn't pass its own low -/
theorem sp_must {post : Int32 → Prop} {t c : Int32} {a1 a2 a3 : Nat → Int32} {k a : Nat} (hk : k < 10) (ha : a < 2) (hv : ¬ a1 (4 * k + 2 * a + 1) < a1 (4 * k + 2 * a + 0)) (h : post 0) : wpX_mustPass post (t, c, a1, a2, a3) (nI a) (nI (2 * k + 1)) (nI (2 * k + 0)) := by
  unfold wpX_mustPass
  dsimp only
  refine sp_val hk ha (by omega) (sp_val hk ha (by omega) (br_f hv (br_c (fun _ => br_t ?_ h) (fun _ => h))))
  rw [sp_lo k hk 0 (by omega), sp_lo k hk 1 (by omega)]
  decide
theorem sp_over {post : Int32 → Prop} {t c : Int32} {a1 a2 : Nat → Int32} {k : Nat} (hk : k < 10) (h : post 0) : wpX_overlapping post (t, c, a1, a2, fun _ => 0) (nI k) := by
  unfold wpX_overlapping
  dsimp only
  exact ⟨pk_in k 20 (by omega), pk_in (10 + k) 20 (by omega) (nI_add 10 k), h⟩
end
section
theorem sp_find0 {post : Int32 → Prop} {t c : Int32} {a1 a2 a3 : Nat → Int32} {k a : Nat} (ha : a < 2) (h0 : a2 (20 * a + 0) = nI (2 * k + 0)) (h : post (nI 0)) : wpX_find post (t, c, a1, a2, a3) (nI a) (nI (2 * k + 0)) := by
  unfold wpX_find
  dsimp only
  refine ⟨0 + 1, ?_⟩
  refine pk_le 19 0 (fun z => absurd z (by omega)) (fun _ => ?_)
  have e : (nI a * 20) + (0 : Int32) = nI (20 * a + 0) := sp_i20 a ha 0 (by omega)
  refine ⟨pk_in (20 * a + 0) 40 (by omega) e, br_t ?_ h⟩
  rw [e, nI_clamp (by omega)]
  exact h0
theorem sp_find1 {post : Int32 → Prop} {t c : Int32} {a1 a2 a3 : Nat → Int32} {k a : Nat} (hk : k < 10) (ha : a < 2) (h0 : a2 (20 * a + 0) = nI (2 * k + 0)) (h1 : a2 (20 * a + 1) = nI (2 * k + 1)) (h : post (nI 1)) : wpX_find post (t, c, a1, a2, a3) (nI a) (nI (2 * k + 1)) := by
  unfold wpX_find
  dsimp only
  refine ⟨0 + 1 + 1, ?_⟩
  refine pk_le 19 0 (fun z => absurd z (by omega)) (fun _ => ?_)
  have e : (nI a * 20) + (0 : Int32) = nI (20 * a + 0) := sp_i20 a ha 0 (by omega)
  refine ⟨pk_in (20 * a + 0) 40 (by omega) e, br_f ?_ (nm_r (nI_1 0) ?_)⟩
  · rw [e, nI_clamp (by omega), h0, nI_eq (by omega) (by omega)]
    omega
  · refine pk_le 19 1 (fun z => absurd z (by omega)) (fun _ => ?_)
    have e1 : (nI a * 20) + nI (0 + 1) = nI (20 * a + 1) := sp_i20 a ha 1 (by omega)
    refine ⟨pk_in (20 * a + 1) 40 (by omega) e1, br_t ?_ h⟩
    rw [e1, nI_clamp (by omega)]
    exact h1
theorem sp_m69a {post : St2 → Prop} {t : Int32} {a1 a2 a3 : Nat → Int32} {k a : Nat} (n : Nat) (hk : k < 10) (ha : a < 2) (h1 : a2 (20 * a + 1) = nI (2 * k + 1)) (hv : ¬ a1 (4 * k + 2 * a + 1) < a1 (4 * k + 2 * a + 0)) (h : post (t, nI 2, a1, a2, a3)) : wX_moveEdge_69 post (nI a) (nI (2 * k + 0)) (n + 1) (nI 0) t (nI 2) a1 a2 a3 := by
  refine pk_le 1 0 (fun z => absurd z (by omega)) (fun _ => ?_)
  have e : ((nI a * 20) + nI 0) + 1 = nI (20 * a + 1) := by
    rw [sp_i20 a ha 0 (by omega)]
    exact nI_1 _
  refine ⟨pk_in (20 * a + 1) 40 (by omega) e, ?_⟩
  rw [e, nI_clamp (by omega), h1]
  exact sp_must hk ha hv (br_t rfl h)
theorem sp_m69b {post : St2 → Prop} {t : Int32} {a1 a2 a3 : Nat → Int32} {x1 x2 : Int32} (n : Nat) (h : post (t, nI 2, a1, a2, a3)) : wX_moveEdge_69 post x1 x2 (n + 1) (nI 1) t (nI 2) a1 a2 a3 :=
  pk_le 1 1 (fun _ => h) (fun z => absurd z (by omega))
theorem sp_m28a {post : St2 → Prop} {t : Int32} {a1 a2 a3 : Nat → Int32} {k a : Nat} (n : Nat) (hk : k < 10) (ha : a < 2) (h1 : a2 (20 * a + 1) = nI (2 * k + 1)) (hv : ¬ a1 (4 * k + 2 * a + 1) < a1 (4 * k + 2 * a + 0)) (h : post (t, nI 2, a1, a2, a3)) : wX_moveEdge_28 post (nI a) (nI (2 * k + 0)) (n + 1) (nI 0) t (nI 2) a1 a2 a3 :=
  pk_le 0 0 (fun _ => ⟨0 + 1, sp_m69a 0 hk ha h1 hv h⟩) (fun z => absurd z (by omega))
theorem sp_m28b {post : St2 → Prop} {t : Int32} {a1 a2 a3 : Nat → Int32} {k a : Nat} (n : Nat) (hk : k < 10) (ha : a < 2) (h0 : a2 (20 * a + 0) = nI (2 * k + 0)) (hv : ¬ a1 (4 * k + 2 * a + 1) < a1 (4 * k + 2 * a + 0)) (h : post (t, nI 2, a1, a2, a3)) : wX_moveEdge_28 post (nI a) (nI (2 * k + 1)) (n + 1) (nI 1) t (nI 2) a1 a2 a3 := by
  refine pk_le 1 0 (fun z => absurd z (by omega)) (fun _ => ?_)
  have e : ((nI a * 20) + nI 1) - 1 = nI (20 * a + 0) := by
    rw [sp_i20 a ha 1 (by omega)]
    exact nI_pred _
  refine ⟨pk_in (20 * a + 0) 40 (by omega) e, ?_⟩
  rw [e, nI_clamp (by omega), h0]
  exact sp_must hk ha hv (br_t rfl ⟨0 + 1, sp_m69b 0 h⟩)
theorem sp_edge0 {post : St2 → Prop} {t : Int32} {a1 a2 a3 : Nat → Int32} {k a v : Nat} (hk : k < 10) (ha : a < 2) (hv : v < 100) (h0 : a2 (20 * a + 0) = nI (2 * k + 0)) (h1 : a2 (20 * a + 1) = nI (2 * k + 1)) (hc : ¬ a1 (4 * k + 2 * a + 1) < nI v) (h : post (t, nI 2, upd a1 (4 * k + 2 * a + 0) (nI v), a2, a3)) : wpX_moveEdge post (t, nI 2, a1, a2, a3) (nI a) (nI (2 * k + 0)) (nI v) := by
  unfold wpX_moveEdge
  dsimp only
  rw [sp_ix k hk a ha 0 (by omega), nI_clamp (by omega), sp_s16 v hv]
  refine ⟨vp_in_nI (by omega) (by decide), nm_e ?_⟩
  refine sp_find0 ha h0 ⟨0 + 1, sp_m28a 0 hk ha h1 ?_ h⟩
  rw [pk_us, pk_un (by omega)]
  exact hc
theorem sp_edge1 {post : St2 → Prop} {t : Int32} {a1 a2 a3 : Nat → Int32} {k a v : Nat} (hk : k < 10) (ha : a < 2) (hv : v < 100) (h0 : a2 (20 * a + 0) = nI (2 * k + 0)) (h1 : a2 (20 * a + 1) = nI (2 * k + 1)) (hc : ¬ nI v < a1 (4 * k + 2 * a + 0)) (h : post (t, nI 2, upd a1 (4 * k + 2 * a + 1) (nI v), a2, a3)) : wpX_moveEdge post (t, nI 2, a1, a2, a3) (nI a) (nI (2 * k + 1)) (nI v) := by
  unfold wpX_moveEdge
  dsimp only
  rw [sp_ix k hk a ha 1 (by omega), nI_clamp (by omega), sp_s16 v hv]
  refine ⟨vp_in_nI (by omega) (by decide), nm_e ?_⟩
  refine sp_find1 hk ha h0 h1 ⟨0 + 1, sp_m28b 0 hk ha h0 ?_ h⟩
  rw [pk_us, pk_un (by omega)]
  exact hc
theorem sp_span {post : St2 → Prop} {t : Int32} {a1 a2 a3 : Nat → Int32} {k a lo hi : Nat} (hk : k < 10) (ha : a < 2) (hl : lo ≤ hi) (hh : hi < 100) (h0 : a2 (20 * a + 0) = nI (2 * k + 0)) (h1 : a2 (20 * a + 1) = nI (2 * k + 1)) (e0 : a1 (4 * k + 2 * a + 0) = nI 1000) (e1 : a1 (4 * k + 2 * a + 1) = nI 1000)
    (h : post (t, nI 2, upd (upd a1 (4 * k + 2 * a + 0) (nI lo)) (4 * k + 2 * a + 1) (nI hi), a2, a3)) : wpX_moveSpan post (t, nI 2, a1, a2, a3) (nI a) (nI k) (nI lo) (nI hi) := by
  unfold wpX_moveSpan
  dsimp only
  have i0 : 2 * nI k = nI (2 * k + 0) := pk_mul 2 k
  have i1 : nI (2 * k + 0) + 1 = nI (2 * k + 1) := nI_1 (2 * k)
  rw [sp_i4 k hk a ha, nI_clamp (by omega), i0, i1]
  refine ⟨vp_in_nI (by omega) (by decide), ?_⟩
  refine pk_le 1000 lo (fun z => absurd z (by omega)) (fun _ => ?_) e0
  refine sp_edge0 hk ha (by omega) h0 h1 ?_ ?_
  · rw [e1]
    exact nI_nlt (by omega) (by decide)
  · refine sp_edge1 hk ha hh h0 h1 ?_ h
    show ¬ nI hi < upd a1 (4 * k + 2 * a + 0) (nI lo) (4 * k + 2 * a + 0)
    rw [pk_us]
    exact nI_nlt hl (by omega)
/-- box k alone, its edges in order along both axes -/
def sp_P (k : Nat) (lo hi : Nat → Nat) (a1 a2 : Nat → Int32) : Prop :=
  ∀ a, a < 2 → lo a ≤ hi a ∧ hi a < 100 ∧ a1 (4 * k + 2 * a + 0) = nI (lo a) ∧ a1 (4 * k + 2 * a + 1) = nI (hi a) ∧ a2 (20 * a + 0) = nI (2 * k + 0) ∧ a2 (20 * a + 1) = nI (2 * k + 1)
end
section
theorem sp_ent {post : St2 → Prop} {t : Int32} {a1 a2 a3 : Nat → Int32} {k a : Nat} (n : Nat) (hk : k < 10) (ha : a < 2)
    (h : wX_enter_14 post (nI k) t 0 n (nI (a + 1)) (upd (upd a1 (4 * k + 2 * a + 0) (nI 1000)) (4 * k + 2 * a + 1) (nI 1000)) (upd (upd a2 (20 * a + 0) (nI (2 * k + 0))) (20 * a + 1) (nI (2 * k + 1))) a3) :
    wX_enter_14 post (nI k) t 0 (n + 1) (nI a) a1 a2 a3 := by
  have e0 : (nI k * 4) + (2 * nI a) = nI (4 * k + 2 * a + 0) := sp_i4 k hk a ha
  have e1 : ((nI k * 4) + (2 * nI a)) + 1 = nI (4 * k + 2 * a + 1) := by
    rw [e0]
    exact nI_1 _
  have f0 : (nI a * 20) + (0 : Int32) = nI (20 * a + 0) := sp_i20 a ha 0 (by omega)
  have f1 : ((nI a * 20) + (0 : Int32)) + 1 = nI (20 * a + 1) := by
    rw [f0]
    exact nI_1 _
  have b := sp_b8 k hk
  refine pk_le 2 a (fun z => absurd z (by omega)) (fun _ => ⟨pk_in (4 * k + 2 * a + 0) 40 (by omega) e0, nm_r (e' := upd a1 (4 * k + 2 * a + 0) (nI 1000)) (by rw [e0, nI_clamp (by omega)]; rfl) ?_⟩)
  refine ⟨pk_in (4 * k + 2 * a + 1) 40 (by omega) e1, nm_r (e' := upd (upd a1 (4 * k + 2 * a + 0) (nI 1000)) (4 * k + 2 * a + 1) (nI 1000)) (by rw [e1, nI_clamp (by omega)]; rfl) ?_⟩
  refine ⟨pk_in (20 * a + 0) 40 (by omega) f0, nm_r (e' := upd a2 (20 * a + 0) (nI (2 * k + 0))) (by rw [f0, nI_clamp (by omega), b.1]) ?_⟩
  refine ⟨pk_in (20 * a + 1) 40 (by omega) f1, nm_r (e' := upd (upd a2 (20 * a + 0) (nI (2 * k + 0))) (20 * a + 1) (nI (2 * k + 1))) (by rw [f1, nI_clamp (by omega), b.2]) ?_⟩
  exact nm_r (nI_1 a) h
theorem sp_ent2 {post : St2 → Prop} {t : Int32} {a1 a2 a3 : Nat → Int32} {x1 : Int32} (n : Nat) (h : post (t, nI 2, a1, a2, a3)) : wX_enter_14 post x1 t 0 (n + 1) (nI 2) a1 a2 a3 :=
  pk_le 2 2 (fun _ => nm_r (e' := nI 2) (by decide) h) (fun z => absurd z (by omega))
/-- box k alone, its edges beyond all others -/
def sp_E (k : Nat) (a1 a2 : Nat → Int32) : Prop :=
  ∀ a, a < 2 → a1 (4 * k + 2 * a + 0) = nI 1000 ∧ a1 (4 * k + 2 * a + 1) = nI 1000 ∧ a2 (20 * a + 0) = nI (2 * k + 0) ∧ a2 (20 * a + 1) = nI (2 * k + 1)
theorem sp_enter {post : St2 → Prop} {a1 a2 a3 : Nat → Int32} {k : Nat} (hk : k < 10) (h : ∀ b1 b2, sp_E k b1 b2 → post (sp_T k, nI 2, b1, b2, a3)) : wpX_enter post (0, 0, a1, a2, a3) (nI k) := by
  unfold wpX_enter
  dsimp only
  refine nm_r (sp_or0 k hk) ⟨0 + 1 + 1 + 1, sp_ent (0 + 1 + 1) hk (a := 0) (by omega) (sp_ent (0 + 1) hk (a := 1) (by omega) (sp_ent2 0 (h _ _ ?_)))⟩
  intro a ha
  have ha' : a = 0 ∨ a = 1 := by omega
  rcases ha' with rfl | rfl
  · refine ⟨?_, ?_, ?_, ?_⟩
    · rw [pk_un (by omega), pk_un (by omega), pk_un (by omega), pk_us]
    · rw [pk_un (by omega), pk_un (by omega), pk_us]
    · rw [pk_un (by omega), pk_un (by omega), pk_un (by omega), pk_us]
    · rw [pk_un (by omega), pk_un (by omega), pk_us]
  · refine ⟨?_, ?_, ?_, ?_⟩
    · rw [pk_un (by omega), pk_us]
    · rw [pk_us]
    · rw [pk_un (by omega), pk_us]
    · rw [pk_us]
/-- low and high of the two spans -/
def sp_lw (X Y : Nat) (a : Nat) : Nat := if a = 0 then X % 100 else Y % 100
def sp_hg (X Y : Nat) (a : Nat) : Nat := if a = 0 then X / 100 else Y / 100
theorem sp_div {X : Nat} (h : X < 10000) : nI X / 100 = nI (X / 100) := pk_div (d := 100) (by omega) (by omega) (by omega)
theorem sp_rem {X : Nat} (h : X < 10000) : nI X - nI X / 100 * 100 = nI (X % 100) := pk_rem (d := 100) (by omega) (by omega) (by omega)
theorem sp_81 {post : Int32 → St2 → Prop} {b1 b2 : Nat → Int32} {k X Y : Nat} (hk : k < 10) (hX : X < 10000) (hY : Y < 10000) (gX : X % 100 ≤ X / 100) (gY : Y % 100 ≤ Y / 100) (hE : sp_E k b1 b2)
    (h : ∀ c1, sp_P k (sp_lw X Y) (sp_hg X Y) c1 b2 → post 0 (sp_T k, nI 2, c1, b2, fun _ => 0)) : wX_put_81 post (nI k) (nI X) (nI Y) (sp_T k) (nI 2) b1 b2 (fun _ => 0) := by
  have n100 : ¬ (100 : Int32) = 0 := by decide
  obtain ⟨x0, x1, x2, x3⟩ := hE 0 (by omega)
  obtain ⟨y0, y1, y2, y3⟩ := hE 1 (by omega)
  unfold wX_put_81
  rw [sp_rem hX, sp_rem hY, sp_div hX, sp_div hY]
  refine sp_over hk ⟨n100, n100, ?_⟩
  refine sp_span (a := 0) hk (by omega) gX (by omega) x2 x3 x0 x1 ⟨n100, n100, ?_⟩
  refine sp_span (a := 1) hk (by omega) gY (by omega) y2 y3 ?_ ?_ ?_
  · rw [pk_un (by omega), pk_un (by omega)]
    exact y0
  · rw [pk_un (by omega), pk_un (by omega)]
    exact y1
  refine sp_over hk (sp_ones ?_)
  rw [show (0 : Int32) ^^^ 0 = 0 by decide, sp_cnt0]
  refine h _ ?_
  intro a ha
  have ha' : a = 0 ∨ a = 1 := by omega
  rcases ha' with rfl | rfl
  · refine ⟨gX, show X / 100 < 100 by omega, ?_, ?_, x2, x3⟩
    · rw [pk_un (by omega), pk_un (by omega), pk_un (by omega), pk_us]
      rfl
    · rw [pk_un (by omega), pk_un (by omega), pk_us]
      rfl
  · refine ⟨gY, show Y / 100 < 100 by omega, ?_, ?_, y2, y3⟩
    · rw [pk_un (by omega), pk_us]
      rfl
    · rw [pk_us]
      rfl
theorem sp_put {post : Int32 → St2 → Prop} {a1 a2 : Nat → Int32} {k X Y : Nat} (hk : k < 10) (hX : X < 10000) (hY : Y < 10000) (gX : X % 100 ≤ X / 100) (gY : Y % 100 ≤ Y / 100)
    (h : ∀ c1 c2, sp_P k (sp_lw X Y) (sp_hg X Y) c1 c2 → post 0 (sp_T k, nI 2, c1, c2, fun _ => 0)) : wpX_put post (0, 0, a1, a2, fun _ => 0) (nI k) (nI X) (nI Y) := by
  have n100 : ¬ (100 : Int32) = 0 := by decide
  unfold wpX_put
  dsimp only
  refine pk_lt X 0 (fun z => absurd z (by omega)) (fun _ => pk_le 10000 X (fun z => absurd z (by omega)) (fun _ => pk_lt Y 0 (fun z => absurd z (by omega)) (fun _ => pk_le 10000 Y (fun z => absurd z (by omega)) (fun _ => ?_))))
  unfold wX_put_27
  rw [sp_rem hX, sp_rem hY, sp_div hX, sp_div hY]
  refine pk_lt k 0 (fun z => absurd z (by omega)) (fun _ => pk_le 10 k (fun z => absurd z (by omega)) (fun _ => br_f (by decide) ⟨n100, n100, ?_⟩))
  refine pk_lt (X / 100) (X % 100) (fun z => absurd z (by omega)) (fun _ => ⟨n100, n100, ?_⟩)
  refine pk_le (Y % 100) (Y / 100) (fun _ => ?_) (fun z => absurd z (by omega))
  exact sp_is0 (br_t rfl (sp_enter hk (fun b1 b2 hE => sp_81 hk hX hY gX gY hE (fun c1 hc => h c1 b2 hc))))
/-- what doesn't fit is refused -/
theorem sp_bad {post : Int32 → St2 → Prop} {t c : Int32} {a1 a2 a3 : Nat → Int32} {p0 p1 p2 : Int32}
    (hb : ¬ (¬ p0 < 0 ∧ ¬ 10 ≤ p0 ∧ ¬ p1 < 0 ∧ ¬ 10000 ≤ p1 ∧ ¬ p2 < 0 ∧ ¬ 10000 ≤ p2 ∧ ¬ p1 / 100 < p1 - p1 / 100 * 100 ∧ p2 - p2 / 100 * 100 ≤ p2 / 100))
    (h : post (-1) (t, c, a1, a2, a3)) : wpX_put post (t, c, a1, a2, a3) p0 p1 p2 := by
  have n100 : ¬ (100 : Int32) = 0 := by decide
  have h0 : wX_put_26 post p0 p1 p2 t c a1 a2 a3 := br_c (fun _ => h) (fun _ => br_c (fun _ => h) (fun _ => br_t rfl h))
  unfold wpX_put
  dsimp only
  refine br_c (fun _ => h0) (fun g1 => br_c (fun _ => h0) (fun g2 => br_c (fun _ => h0) (fun g3 => br_c (fun _ => h0) (fun g4 => ?_))))
  refine br_c (fun _ => h) (fun g5 => br_c (fun _ => h) (fun g6 => br_f (by decide) ⟨n100, n100, ?_⟩))
  refine br_c (fun _ => h) (fun g7 => ⟨n100, n100, ?_⟩)
  exact br_c (fun g8 => absurd ⟨g5, g6, g1, g2, g3, g4, g7, g8⟩ hb) (fun _ => h)
end
section
theorem sp_sp62 {post : Int32 → Prop} {J : Int32 → Int32 → Prop} {x1 t c : Int32} {a1 a2 a3 : Nat → Int32} {x3 : Int32} {k i lo hi : Nat} (hk : k < 10) (hl : lo ≤ hi) (hh : hi < 100) (h : J x3 (nI (i + 1))) :
    wX_spansAt_62 post J x1 (nI lo) x3 (nI i) (nI (2 * k + 1)) (nI hi) t c a1 a2 a3 := by
  unfold wX_spansAt_62
  rw [sp_lo k hk 1 (by omega)]
  exact br_t rfl (br_t (nI_le hl (by omega)) (nm_r (nI_1 i) h))
theorem sp_spans {post : Int32 → Prop} {t : Int32} {lo hi : Nat → Nat} {a1 a2 a3 : Nat → Int32} {k a : Nat} (hk : k < 10) (ha : a < 2) (hP : sp_P k lo hi a1 a2) (h : post (sp_T k)) : wpX_spansAt post (t, nI 2, a1, a2, a3) (nI a) (nI (lo a)) := by
  obtain ⟨hl, hh, e0, e1, o0, o1⟩ := hP a ha
  unfold wpX_spansAt
  dsimp only
  refine ⟨0 + 1 + 1 + 1, ?_⟩
  have f0 : (nI a * 20) + (0 : Int32) = nI (20 * a + 0) := sp_i20 a ha 0 (by omega)
  have f1 : (nI a * 20) + nI 1 = nI (20 * a + 1) := sp_i20 a ha 1 (by omega)
  refine pk_le 2 0 (fun z => absurd z (by omega)) (fun _ => ⟨pk_in (20 * a + 0) 40 (by omega) f0, nm_r (e' := nI (2 * k + 0)) (by rw [f0, nI_clamp (by omega)]; exact o0) ?_⟩)
  refine sp_val hk ha (by omega) ?_
  rw [e0]
  refine br_t (sp_lo k hk 0 (by omega)) (br_f (nI_nlt (Nat.le_refl _) (by omega)) (nm_r (sp_hb k hk) (nm_r (nI_1 0) ?_)))
  refine pk_le 2 1 (fun z => absurd z (by omega)) (fun _ => ⟨pk_in (20 * a + 1) 40 (by omega) f1, nm_r (e' := nI (2 * k + 1)) (by rw [f1, nI_clamp (by omega)]; exact o1) ?_⟩)
  refine sp_val hk ha (by omega) ?_
  rw [e1]
  refine br_f ?_ (sp_sp62 (i := 1) hk hl hh ?_)
  · rw [sp_lo k hk 1 (by omega)]
    decide
  · exact pk_le 2 2 (fun _ => h) (fun z => absurd z (by omega))
theorem sp_at {post : Int32 → Prop} {t : Int32} {lo hi : Nat → Nat} {a1 a2 a3 : Nat → Int32} {k : Nat} (hk : k < 10) (hP : sp_P k lo hi a1 a2) (h : post (sp_T k)) : wpX_at post (t, nI 2, a1, a2, a3) (nI (lo 0)) (nI (lo 1)) := by
  unfold wpX_at
  dsimp only
  refine sp_spans (a := 0) hk (by omega) hP (sp_spans (a := 1) hk (by omega) hP ?_)
  rw [sp_TT k hk]
  exact h
theorem sp_k4 : ∀ k, k < 10 → nI k * 4 = nI (4 * k + 2 * 0 + 0) ∧ (nI k * 4) + 2 = nI (4 * k + 2 * 1 + 0) := by decide +kernel
theorem sp_dd {i : Nat} (h : i < 100) : nI i / 10 = nI (i / 10) := pk_div (d := 10) (by omega) (by omega) (by omega)
theorem sp_dr {i : Nat} (h : i < 100) : nI i - nI i / 10 * 10 = nI (i % 10) := pk_rem (d := 10) (by omega) (by omega) (by omega)
theorem sp_deep {post : Int32 → Prop} {lo hi : Nat → Nat} {a1 a2 a3 : Nat → Int32} {k : Nat} (hk : k < 10) (hP : sp_P k lo hi a1 a2) (h : post 1) : wpX_deepest post (sp_T k, nI 2, a1, a2, a3) := by
  have n10 : ¬ (10 : Int32) = 0 := by decide
  refine pk_loop (fun n i s => wX_deepest_4 post (sp_T k) (nI 2) a1 a2 a3 n s (nI i)) (fun i s => s = if i ≤ 11 * k then 0 else 1) 100 0 0 (by omega) (by rw [if_pos (by omega)]) ?_ ?_
  · intro n s hs
    rw [if_neg (by omega)] at hs
    refine pk_le 100 100 (fun _ => ?_) (fun z => absurd z (by omega))
    rw [hs]
    exact h
  · intro n i s hi hs hw
    have keep : i ≠ 11 * k → s = if i + 1 ≤ 11 * k then 0 else 1 := by
      intro hne
      rw [hs]
      by_cases g : i ≤ 11 * k
      · rw [if_pos g, if_pos (by omega)]
      · rw [if_neg g, if_neg (by omega)]
    refine pk_le 100 i (fun z => absurd z (by omega)) (fun _ => ⟨n10, nm_r (sp_dd hi) ⟨n10, nm_r (sp_dr hi) ?_⟩⟩)
    refine sp_isT hk (by omega) (fun ea => br_f (by decide) ?_) (fun ea => br_t rfl (nm_r (nI_1 i) (hw _ (keep (by omega)))))
    refine sp_isT hk (by omega) (fun eb => br_f (by decide) ?_) (fun eb => br_t rfl (nm_r (nI_1 i) (hw _ (keep (by omega)))))
    have ei : i = 11 * k := by omega
    rw [if_pos (by omega)] at hs
    have k4 := sp_k4 k hk
    rw [ea, eb, k4.1]
    have k42 : nI (4 * k + 2 * 0 + 0) + 2 = nI (4 * k + 2 * 1 + 0) := by
      rw [← k4.1]
      exact k4.2
    rw [k42, nI_clamp (by omega), nI_clamp (by omega), (hP 0 (by omega)).2.2.1, (hP 1 (by omega)).2.2.1]
    refine ⟨vp_in_nI (by omega) (by decide), vp_in_nI (by omega) (by decide), ?_⟩
    refine sp_at hk hP (sp_ones ?_)
    rw [sp_cntT k hk, hs]
    exact br_f (by decide) (nm_r (nI_1 i) (hw _ (by rw [if_neg (by omega)])))
theorem sp_deep0 {post : Int32 → Prop} {c : Int32} {a1 a2 a3 : Nat → Int32} (h : post 0) : wpX_deepest post (0, c, a1, a2, a3) := by
  have n10 : ¬ (10 : Int32) = 0 := by decide
  refine pk_loop (fun n i s => wX_deepest_4 post 0 c a1 a2 a3 n s (nI i)) (fun i s => s = 0) 100 0 0 (by omega) rfl ?_ ?_
  · intro n s hs
    refine pk_le 100 100 (fun _ => ?_) (fun z => absurd z (by omega))
    rw [hs]
    exact h
  · intro n i s hi hs hw
    exact pk_le 100 i (fun z => absurd z (by omega)) (fun _ => ⟨n10, nm_e ⟨n10, nm_e (sp_is0 (br_t rfl (nm_r (nI_1 i) (hw _ hs))))⟩⟩)
end
section
/-- an edge that is there -/
theorem sp_edge {post : Int32 → Prop} {c : Int32} {a1 a2 a3 : Nat → Int32} {k j : Nat} (hk : k < 10) (hj : j < 4) (h : post (a1 (4 * k + j))) : wpX_edge post (sp_T k, c, a1, a2, a3) (nI k) (nI j) := by
  unfold wpX_edge
  dsimp only
  refine sp_isT hk hk (fun _ => br_f (by decide) (pk_lt j 0 (fun z => absurd z (by omega)) (fun _ => pk_lt 3 j (fun z => absurd z (by omega)) (fun _ => ?_)))) (fun z => absurd rfl z)
  have e : (nI k * 4) + nI j = nI (4 * k + j) := by
    rw [show nI k * 4 = nI (k * 4) from pk_mul k 4, nI_add, Nat.mul_comm]
  rw [e, nI_clamp (by omega)]
  exact ⟨vp_in_nI (by omega) (by decide), h⟩
theorem sp_edgeB {post : Int32 → Prop} {c : Int32} {a1 a2 a3 : Nat → Int32} {k : Nat} {w : Int32} (hk : k < 10) (h0 : ¬ w = 0) (h1 : ¬ w = 1) (h2 : ¬ w = 2) (h3 : ¬ w = 3) (h : post (-1)) : wpX_edge post (sp_T k, c, a1, a2, a3) (nI k) w := by
  unfold wpX_edge
  dsimp only
  refine sp_isT hk hk (fun _ => br_f (by decide) (br_c (fun _ => h) (fun g => br_c (fun _ => h) (fun g2 => ?_)))) (fun z => absurd rfl z)
  obtain ⟨j, hj, rfl⟩ := nI_of2 (M := 3) (n := 3) (by decide) g (Int32.not_lt.mp g2)
  have hj' : j = 0 ∨ j = 1 ∨ j = 2 ∨ j = 3 := by omega
  rcases hj' with rfl | rfl | rfl | rfl
  · exact absurd rfl h0
  · exact absurd rfl h1
  · exact absurd rfl h2
  · exact absurd rfl h3
theorem sp_edge0B {post : Int32 → Prop} {c : Int32} {a1 a2 a3 : Nat → Int32} {p w : Int32} (h : post (-1)) : wpX_edge post (0, c, a1, a2, a3) p w := by
  unfold wpX_edge
  dsimp only
  exact sp_is0 (br_t rfl h)
theorem sp_216 {post : Int32 → St0 → Prop} {mc ms kc ks : Nat} {lo hi : Nat → Nat} {a1 a2 a3 : Nat → Int32} {k : Nat} {w e : Int32} (hk : k < 10) (hP : sp_P k lo hi a1 a2) (hp : post 1 ()) (hE : ∀ q : Int32 → Prop, q e → wpX_edge q (sp_T k, nI 2, a1, a2, a3) (nI k) w) :
    wL_lawOf_216 post mc ms (nI k) w (sp_T k) e 1 kc ks (sp_T k) (nI 2) a1 a2 a3 := by
  unfold wL_lawOf_216 wpX_boxes
  dsimp only
  exact br_t rfl (hE _ (br_t rfl (sp_deep hk hP (br_t rfl hp))))
theorem sp_134 {post : Int32 → St0 → Prop} {mc ms kc ks : Nat} {a1 a2 a3 : Nat → Int32} {k X Y : Nat} {w : Int32} (hk : k < 10) (hX : X < 10000) (hY : Y < 10000) (hP : sp_P k (sp_lw X Y) (sp_hg X Y) a1 a2) (hp : post 1 ()) :
    wL_lawOf_134 post mc ms (nI k) (nI X) (nI Y) w 1 (sp_T k) kc ks (sp_T k) (nI 2) a1 a2 a3 := by
  have n1 : ¬ (1 : Int32) = 0 := by decide
  have n100 : ¬ (100 : Int32) = 0 := by decide
  obtain ⟨_, _, x0, x1, _, _⟩ := hP 0 (by omega)
  obtain ⟨_, _, y0, y1, _, _⟩ := hP 1 (by omega)
  by_cases w0 : w = 0
  · subst w0
    refine br_f n1 (br_t rfl ⟨n100, nm_r (sp_rem hX) (br_f n1 (br_f (by decide) (br_f n1 (br_f (by decide) (br_f n1 (br_f (by decide) (br_f n1 ?_)))))))⟩)
    exact sp_216 hk hP hp (fun q hq => sp_edge (j := 0) hk (by omega) (by rw [show a1 (4 * k + 0) = nI (X % 100) from x0]; exact hq))
  by_cases w1 : w = 1
  · subst w1
    refine br_f n1 (br_f w0 (br_f n1 (br_t rfl ⟨n100, nm_r (sp_div hX) (br_f n1 (br_f (by decide) (br_f n1 (br_f (by decide) (br_f n1 ?_)))))⟩)))
    exact sp_216 hk hP hp (fun q hq => sp_edge (j := 1) hk (by omega) (by rw [show a1 (4 * k + 1) = nI (X / 100) from x1]; exact hq))
  by_cases w2 : w = 2
  · subst w2
    refine br_f n1 (br_f w0 (br_f n1 (br_f w1 (br_f n1 (br_t rfl ⟨n100, nm_r (sp_rem hY) (br_f n1 (br_f (by decide) (br_f n1 ?_)))⟩)))))
    exact sp_216 hk hP hp (fun q hq => sp_edge (j := 2) hk (by omega) (by rw [show a1 (4 * k + 2) = nI (Y % 100) from y0]; exact hq))
  by_cases w3 : w = 3
  · subst w3
    refine br_f n1 (br_f w0 (br_f n1 (br_f w1 (br_f n1 (br_f w2 (br_f n1 (br_t rfl ⟨n100, nm_r (sp_div hY) (br_f n1 ?_)⟩)))))))
    exact sp_216 hk hP hp (fun q hq => sp_edge (j := 3) hk (by omega) (by rw [show a1 (4 * k + 3) = nI (Y / 100) from y1]; exact hq))
  · refine br_f n1 (br_f w0 (br_f n1 (br_f w1 (br_f n1 (br_f w2 (br_f n1 (br_f w3 (br_f n1 ?_))))))))
    exact sp_216 hk hP hp (fun q hq => sp_edgeB hk w0 w1 w2 w3 hq)
theorem sp_93 {post : Int32 → St0 → Prop} {mc ms kc ks : Nat} {a1 a2 : Nat → Int32} {k X Y : Nat} {w : Int32} (hk : k < 10) (hX : X < 10000) (hY : Y < 10000) (gX : X % 100 ≤ X / 100) (gY : Y % 100 ≤ Y / 100) (hp : post 1 ()) :
    wL_lawOf_93 post mc ms (nI k) (nI X) (nI Y) w 1 kc ks 0 0 a1 a2 (fun _ => 0) := by
  have n1 : ¬ (1 : Int32) = 0 := by decide
  refine br_f n1 ?_
  unfold wL_lawOf_105
  exact sp_put hk hX hY gX gY (fun c1 c2 hP => br_t rfl (br_f n1 (sp_134 hk hX hY hP hp)))
theorem sp_92 {post : Int32 → St0 → Prop} {mc ms kc ks : Nat} {c : Int32} {a1 a2 a3 : Nat → Int32} {p0 p1 p2 w : Int32}
    (hb : ¬ (¬ p0 < 0 ∧ ¬ 10 ≤ p0 ∧ ¬ p1 < 0 ∧ ¬ 10000 ≤ p1 ∧ ¬ p2 < 0 ∧ ¬ 10000 ≤ p2 ∧ ¬ p1 / 100 < p1 - p1 / 100 * 100 ∧ p2 - p2 / 100 * 100 ≤ p2 / 100))
    (hp : post 1 ()) : wL_lawOf_92 post mc ms p0 p1 p2 w kc ks 0 c a1 a2 a3 := by
  refine br_t rfl ?_
  unfold wL_lawOf_105
  refine sp_bad hb (br_t rfl (br_t rfl (br_t rfl (br_t rfl (br_t rfl (br_t rfl (br_t rfl ?_)))))))
  unfold wL_lawOf_216 wpX_boxes
  dsimp only
  exact br_t rfl (sp_edge0B (br_t rfl (sp_deep0 (br_t rfl hp))))
theorem sp_9 {p : Int32} : 9 < p ↔ 10 ≤ p := by
  rw [Int32.lt_iff_toInt_lt, Int32.le_iff_toInt_le, show (9 : Int32).toInt = 9 by decide, show (10 : Int32).toInt = 10 by decide]
  omega
theorem sp_9999 {p : Int32} : 9999 < p ↔ 10000 ≤ p := by
  rw [Int32.lt_iff_toInt_lt, Int32.le_iff_toInt_le, show (9999 : Int32).toInt = 9999 by decide, show (10000 : Int32).toInt = 10000 by decide]
  omega
theorem sp_lawOf {post : Int32 → St0 → Prop} {p0 p1 p2 p3 p4 p5 : Int32} (hp : post 1 ()) : wpL_lawOf post 4 105 () p0 p1 p2 p3 p4 p5 := by
  have n100 : ¬ (100 : Int32) = 0 := by decide
  unfold wpL_lawOf
  refine ⟨by omega, by omega, 3, 100, by omega, by omega, ?_⟩
  unfold wpX_init
  dsimp only
  refine ⟨by omega, by omega, by omega, by omega, by omega, by omega, ?_⟩
  unfold wpX_move
  dsimp only
  refine sp_is0 (br_t rfl (br_t rfl ?_))
  unfold wpX_remove
  dsimp only
  refine sp_is0 (br_t rfl (br_t rfl ?_))
  refine br_c (fun g => sp_92 (fun t => t.1 g) hp) (fun g0 => ?_)
  refine br_c (fun g => sp_92 (fun t => t.2.1 (sp_9.mp g)) hp) (fun g1 => ?_)
  refine br_c (fun g => sp_92 (fun t => t.2.2.1 g) hp) (fun g2 => ?_)
  refine br_c (fun g => sp_92 (fun t => t.2.2.2.1 (sp_9999.mp g)) hp) (fun g3 => ?_)
  refine br_c (fun g => sp_92 (fun t => t.2.2.2.2.1 g) hp) (fun g4 => ?_)
  refine br_c (fun g => sp_92 (fun t => t.2.2.2.2.2.1 (sp_9999.mp g)) hp) (fun g5 => ⟨n100, n100, ?_⟩)
  refine br_c (fun g => sp_92 (fun t => t.2.2.2.2.2.2.1 g) hp) (fun g6 => ⟨n100, n100, ?_⟩)
  refine br_c (fun g => sp_92 (fun t => absurd g (Int32.not_lt.mpr t.2.2.2.2.2.2.2)) hp) (fun g7 => ?_)
  obtain ⟨k, hk, rfl⟩ := nI_of2 (M := 9) (n := 9) (by decide) g0 (Int32.not_lt.mp g1)
  obtain ⟨X, hX, rfl⟩ := nI_of2 (M := 9999) (n := 9999) (by decide) g2 (Int32.not_lt.mp g3)
  obtain ⟨Y, hY, rfl⟩ := nI_of2 (M := 9999) (n := 9999) (by decide) g4 (Int32.not_lt.mp g5)
  rw [sp_rem (by omega), sp_div (by omega), nI_ltI (by omega) (by omega)] at g6 g7
  exact sp_93 (by omega) (by omega) (by omega) (by omega) (by omega) hp
theorem sp_cell {post : Int32 → Prop} {L : Nat} {xs : Nat → Int32} (i : Nat) (hL : L ≤ 6) (hi : i < 6) (h : ∀ r, post r) : wpL_cellAt post L xs () (nI i) :=
  pk_le L i (fun _ => h _) (fun z => ⟨pk_in i L z, h _⟩)
theorem i_vc (xs : Nat → Int32) (L : Nat) (hL : L ≤ 6) : wpL_law (fun r => r = 1) L xs :=
  sp_cell 0 hL (by omega) (fun _ => sp_cell 1 hL (by omega) (fun _ => sp_cell 2 hL (by omega) (fun _ => sp_cell 3 hL (by omega) (fun _ => sp_cell 4 hL (by omega) (fun _ => sp_cell 5 hL (by omega) (fun _ => ⟨4, 105, by omega, by omega, sp_lawOf rfl⟩))))))
end
