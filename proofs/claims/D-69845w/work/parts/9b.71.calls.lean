/-! delivery, last acts, what is built in, calls: all of them -/
theorem dlv_fin {σ0 τ0 : lj_S} (hs : stF σ0 τ0) {Fn : Nat} (fx : FR σ0 τ0 Fn) (h38 : sh38 σ0) (M : Nat) : DLV σ0 τ0 M := (dlv_all hs fx (fun _ _ NL => blt_16 fx h38 NL) (M + 1) M (Nat.lt_succ_self _)).1
theorem nla_fin {σ0 τ0 : lj_S} (hs : stF σ0 τ0) {Fn : Nat} (fx : FR σ0 τ0 Fn) (h38 : sh38 σ0) (M k : Nat) : NLA σ0 τ0 M k := (dlv_all hs fx (fun _ _ NL => blt_16 fx h38 NL) (M + 1) M (Nat.lt_succ_self _)).2 k
theorem cal_fin {σ0 τ0 : lj_S} (hs : stF σ0 τ0) {Fn : Nat} (fx : FR σ0 τ0 Fn) (h38 : sh38 σ0) (M k : Nat) : CAL σ0 τ0 M k := cal_all fx (dlv_fin hs fx h38 _) (fun _ => blt_16 fx h38 (fun k' => nla_fin hs fx h38 _ k')) k
