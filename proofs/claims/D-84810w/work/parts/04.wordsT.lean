set_option maxRecDepth 100000
theorem q259 : (Jvm.Cond.initialized "CoercedClassesModel") ∈ lw_all := lw_g (lw_at lw_m1 17 rfl) rfl
theorem q1181 : (Jvm.Cond.selects "CoercedClassesModel" ({ cls := "java/lang/Object", name := "getClass", desc := "()Ljava/lang/Class;" } : Jvm.MethodName) ({ cls := "java/lang/Object", name := "getClass", desc := "()Ljava/lang/Class;" } : Jvm.MethodName)) ∈ lw_all := lw_g (lw_at lw_m4 219 rfl) rfl
theorem q3234 : (Jvm.Cond.instantiable "CoercedClassesModel" (181 : Nat)) ∈ lw_all := lw_g (lw_at lw_m13 112 rfl) rfl
theorem q3236 : (Jvm.Cond.instanceMethod ({ cls := "CoercedClassesModel", name := "<init>", desc := "()V" } : Jvm.MethodName)) ∈ lw_all := lw_g (lw_at lw_m13 114 rfl) rfl
theorem q3237 : (Jvm.Cond.code ({ cls := "CoercedClassesModel", name := "<init>", desc := "()V" } : Jvm.MethodName) prog_46_method_1_code (1 : Nat) (Option.none : Option Jvm.ClassFile.FieldType)) ∈ lw_all := lw_g (lw_at lw_m13 115 rfl) rfl
theorem q3238 : (Jvm.Cond.methodLink "CoercedClassesModel" (1 : Nat) ({ cls := "java/lang/Object", name := "<init>", desc := "()V" } : Jvm.MethodName)) ∈ lw_all := lw_g (lw_at lw_m13 116 rfl) rfl
theorem q3239 : (Jvm.Cond.constant "CoercedClassesModel" (41 : Nat) (126000 : Int32)) ∈ lw_all := lw_g (lw_at lw_m13 117 rfl) rfl
theorem q3240 : (Jvm.Cond.constant "CoercedClassesModel" (265 : Nat) (80400 : Int32)) ∈ lw_all := lw_g (lw_at lw_m13 118 rfl) rfl
theorem q3241 : (Jvm.Cond.constant "CoercedClassesModel" (330 : Nat) (33600 : Int32)) ∈ lw_all := lw_g (lw_at lw_m13 119 rfl) rfl
theorem q3242 : (Jvm.Cond.constant "CoercedClassesModel" (358 : Nat) (64000 : Int32)) ∈ lw_all := lw_g (lw_at lw_m13 120 rfl) rfl
theorem q3243 : (Jvm.Cond.fieldLink "CoercedClassesModel" (362 : Nat) "CoercedClassesModel" "thrown" "I") ∈ lw_all := lw_g (lw_at lw_m13 121 rfl) rfl
theorem q3244 : (Jvm.Cond.fieldLink "CoercedClassesModel" (7 : Nat) "CoercedClassesModel" "tape" "[B") ∈ lw_all := lw_g (lw_at lw_m13 122 rfl) rfl
theorem q3245 : (Jvm.Cond.fieldLink "CoercedClassesModel" (13 : Nat) "CoercedClassesModel" "text" "[B") ∈ lw_all := lw_g (lw_at lw_m13 123 rfl) rfl
theorem q3246 : (Jvm.Cond.fieldLink "CoercedClassesModel" (16 : Nat) "CoercedClassesModel" "programText" "[B") ∈ lw_all := lw_g (lw_at lw_m13 124 rfl) rfl
theorem q3247 : (Jvm.Cond.fieldLink "CoercedClassesModel" (19 : Nat) "CoercedClassesModel" "askText" "[B") ∈ lw_all := lw_g (lw_at lw_m13 125 rfl) rfl
theorem q3248 : (Jvm.Cond.fieldLink "CoercedClassesModel" (1098 : Nat) "CoercedClassesModel" "taped" "I") ∈ lw_all := lw_g (lw_at lw_m13 126 rfl) rfl
theorem q3249 : (Jvm.Cond.fieldLink "CoercedClassesModel" (369 : Nat) "CoercedClassesModel" "length" "I") ∈ lw_all := lw_g (lw_at lw_m13 127 rfl) rfl
theorem q3250 : (Jvm.Cond.fieldLink "CoercedClassesModel" (1085 : Nat) "CoercedClassesModel" "programLength" "I") ∈ lw_all := lw_g (lw_at lw_m13 128 rfl) rfl
theorem q3251 : (Jvm.Cond.fieldLink "CoercedClassesModel" (1092 : Nat) "CoercedClassesModel" "askLength" "I") ∈ lw_all := lw_g (lw_at lw_m13 129 rfl) rfl
theorem q3252 : (Jvm.Cond.fieldLink "CoercedClassesModel" (433 : Nat) "CoercedClassesModel" "at" "I") ∈ lw_all := lw_g (lw_at lw_m13 130 rfl) rfl
theorem q3253 : (Jvm.Cond.fieldLink "CoercedClassesModel" (452 : Nat) "CoercedClassesModel" "begun" "I") ∈ lw_all := lw_g (lw_at lw_m13 131 rfl) rfl
theorem q3254 : (Jvm.Cond.fieldLink "CoercedClassesModel" (1082 : Nat) "CoercedClassesModel" "isLoaded" "Z") ∈ lw_all := lw_g (lw_at lw_m13 132 rfl) rfl
theorem q3255 : (Jvm.Cond.fieldLink "CoercedClassesModel" (924 : Nat) "CoercedClassesModel" "isAsked" "Z") ∈ lw_all := lw_g (lw_at lw_m13 133 rfl) rfl
theorem q3256 : (Jvm.Cond.fieldLink "CoercedClassesModel" (1101 : Nat) "CoercedClassesModel" "isRead" "Z") ∈ lw_all := lw_g (lw_at lw_m13 134 rfl) rfl
theorem q3257 : (Jvm.Cond.fieldLink "CoercedClassesModel" (436 : Nat) "CoercedClassesModel" "fault" "I") ∈ lw_all := lw_g (lw_at lw_m13 135 rfl) rfl
theorem q3258 : (Jvm.Cond.fieldLink "CoercedClassesModel" (439 : Nat) "CoercedClassesModel" "place" "I") ∈ lw_all := lw_g (lw_at lw_m13 136 rfl) rfl
theorem q3259 : (Jvm.Cond.fieldLink "CoercedClassesModel" (1076 : Nat) "CoercedClassesModel" "toldFault" "I") ∈ lw_all := lw_g (lw_at lw_m13 137 rfl) rfl
theorem q3260 : (Jvm.Cond.fieldLink "CoercedClassesModel" (1079 : Nat) "CoercedClassesModel" "toldPlace" "I") ∈ lw_all := lw_g (lw_at lw_m13 138 rfl) rfl
theorem q3261 : (Jvm.Cond.fieldLink "CoercedClassesModel" (22 : Nat) "CoercedClassesModel" "tokenKind" "[I") ∈ lw_all := lw_g (lw_at lw_m13 139 rfl) rfl
theorem q3262 : (Jvm.Cond.fieldLink "CoercedClassesModel" (26 : Nat) "CoercedClassesModel" "tokenPlace" "[I") ∈ lw_all := lw_g (lw_at lw_m13 140 rfl) rfl
theorem q3263 : (Jvm.Cond.fieldLink "CoercedClassesModel" (29 : Nat) "CoercedClassesModel" "tokenSize" "[I") ∈ lw_all := lw_g (lw_at lw_m13 141 rfl) rfl
theorem q3264 : (Jvm.Cond.fieldLink "CoercedClassesModel" (32 : Nat) "CoercedClassesModel" "tokenName" "[I") ∈ lw_all := lw_g (lw_at lw_m13 142 rfl) rfl
theorem q3265 : (Jvm.Cond.fieldLink "CoercedClassesModel" (372 : Nat) "CoercedClassesModel" "tokens" "I") ∈ lw_all := lw_g (lw_at lw_m13 143 rfl) rfl
theorem q3266 : (Jvm.Cond.fieldLink "CoercedClassesModel" (35 : Nat) "CoercedClassesModel" "letters" "[B") ∈ lw_all := lw_g (lw_at lw_m13 144 rfl) rfl
theorem q3267 : (Jvm.Cond.fieldLink "CoercedClassesModel" (38 : Nat) "CoercedClassesModel" "letterSize" "[I") ∈ lw_all := lw_g (lw_at lw_m13 145 rfl) rfl
theorem q3268 : (Jvm.Cond.fieldLink "CoercedClassesModel" (366 : Nat) "CoercedClassesModel" "names" "I") ∈ lw_all := lw_g (lw_at lw_m13 146 rfl) rfl
theorem q3269 : (Jvm.Cond.fieldLink "CoercedClassesModel" (42 : Nat) "CoercedClassesModel" "typeKind" "[I") ∈ lw_all := lw_g (lw_at lw_m13 147 rfl) rfl
theorem q3270 : (Jvm.Cond.fieldLink "CoercedClassesModel" (45 : Nat) "CoercedClassesModel" "typeWhich" "[I") ∈ lw_all := lw_g (lw_at lw_m13 148 rfl) rfl
theorem q3271 : (Jvm.Cond.fieldLink "CoercedClassesModel" (48 : Nat) "CoercedClassesModel" "typeOne" "[I") ∈ lw_all := lw_g (lw_at lw_m13 149 rfl) rfl
theorem q3272 : (Jvm.Cond.fieldLink "CoercedClassesModel" (51 : Nat) "CoercedClassesModel" "typeTwo" "[I") ∈ lw_all := lw_g (lw_at lw_m13 150 rfl) rfl
theorem q3273 : (Jvm.Cond.fieldLink "CoercedClassesModel" (54 : Nat) "CoercedClassesModel" "typeSize" "[I") ∈ lw_all := lw_g (lw_at lw_m13 151 rfl) rfl
theorem q3274 : (Jvm.Cond.fieldLink "CoercedClassesModel" (57 : Nat) "CoercedClassesModel" "typeNext" "[I") ∈ lw_all := lw_g (lw_at lw_m13 152 rfl) rfl
theorem q3275 : (Jvm.Cond.fieldLink "CoercedClassesModel" (60 : Nat) "CoercedClassesModel" "typeHeads" "[I") ∈ lw_all := lw_g (lw_at lw_m13 153 rfl) rfl
theorem q3276 : (Jvm.Cond.fieldLink "CoercedClassesModel" (63 : Nat) "CoercedClassesModel" "typeHas" "[Z") ∈ lw_all := lw_g (lw_at lw_m13 154 rfl) rfl
theorem q3277 : (Jvm.Cond.fieldLink "CoercedClassesModel" (427 : Nat) "CoercedClassesModel" "types" "I") ∈ lw_all := lw_g (lw_at lw_m13 155 rfl) rfl
theorem q3278 : (Jvm.Cond.fieldLink "CoercedClassesModel" (67 : Nat) "CoercedClassesModel" "nodeKind" "[I") ∈ lw_all := lw_g (lw_at lw_m13 156 rfl) rfl
theorem q3279 : (Jvm.Cond.fieldLink "CoercedClassesModel" (70 : Nat) "CoercedClassesModel" "nodeToken" "[I") ∈ lw_all := lw_g (lw_at lw_m13 157 rfl) rfl
theorem q3280 : (Jvm.Cond.fieldLink "CoercedClassesModel" (73 : Nat) "CoercedClassesModel" "nodeA" "[I") ∈ lw_all := lw_g (lw_at lw_m13 158 rfl) rfl
theorem q3281 : (Jvm.Cond.fieldLink "CoercedClassesModel" (76 : Nat) "CoercedClassesModel" "nodeB" "[I") ∈ lw_all := lw_g (lw_at lw_m13 159 rfl) rfl
theorem q3282 : (Jvm.Cond.fieldLink "CoercedClassesModel" (79 : Nat) "CoercedClassesModel" "nodeC" "[I") ∈ lw_all := lw_g (lw_at lw_m13 160 rfl) rfl
theorem q3283 : (Jvm.Cond.fieldLink "CoercedClassesModel" (82 : Nat) "CoercedClassesModel" "nodeD" "[I") ∈ lw_all := lw_g (lw_at lw_m13 161 rfl) rfl
theorem q3284 : (Jvm.Cond.fieldLink "CoercedClassesModel" (85 : Nat) "CoercedClassesModel" "nodeNext" "[I") ∈ lw_all := lw_g (lw_at lw_m13 162 rfl) rfl
theorem q3285 : (Jvm.Cond.fieldLink "CoercedClassesModel" (430 : Nat) "CoercedClassesModel" "nodes" "I") ∈ lw_all := lw_g (lw_at lw_m13 163 rfl) rfl
theorem q3286 : (Jvm.Cond.fieldLink "CoercedClassesModel" (88 : Nat) "CoercedClassesModel" "declKind" "[I") ∈ lw_all := lw_g (lw_at lw_m13 164 rfl) rfl
theorem q3287 : (Jvm.Cond.fieldLink "CoercedClassesModel" (91 : Nat) "CoercedClassesModel" "declFirst" "[I") ∈ lw_all := lw_g (lw_at lw_m13 165 rfl) rfl
theorem q3288 : (Jvm.Cond.fieldLink "CoercedClassesModel" (94 : Nat) "CoercedClassesModel" "declToken" "[I") ∈ lw_all := lw_g (lw_at lw_m13 166 rfl) rfl
theorem q3289 : (Jvm.Cond.fieldLink "CoercedClassesModel" (97 : Nat) "CoercedClassesModel" "declA" "[I") ∈ lw_all := lw_g (lw_at lw_m13 167 rfl) rfl
theorem q3290 : (Jvm.Cond.fieldLink "CoercedClassesModel" (100 : Nat) "CoercedClassesModel" "declB" "[I") ∈ lw_all := lw_g (lw_at lw_m13 168 rfl) rfl
theorem q3291 : (Jvm.Cond.fieldLink "CoercedClassesModel" (103 : Nat) "CoercedClassesModel" "declC" "[I") ∈ lw_all := lw_g (lw_at lw_m13 169 rfl) rfl
theorem q3292 : (Jvm.Cond.fieldLink "CoercedClassesModel" (106 : Nat) "CoercedClassesModel" "declAll" "[I") ∈ lw_all := lw_g (lw_at lw_m13 170 rfl) rfl
theorem q3293 : (Jvm.Cond.fieldLink "CoercedClassesModel" (109 : Nat) "CoercedClassesModel" "declMany" "[I") ∈ lw_all := lw_g (lw_at lw_m13 171 rfl) rfl
theorem q3294 : (Jvm.Cond.fieldLink "CoercedClassesModel" (112 : Nat) "CoercedClassesModel" "declList" "[I") ∈ lw_all := lw_g (lw_at lw_m13 172 rfl) rfl
theorem q3295 : (Jvm.Cond.fieldLink "CoercedClassesModel" (115 : Nat) "CoercedClassesModel" "declGivens" "[I") ∈ lw_all := lw_g (lw_at lw_m13 173 rfl) rfl
theorem q3296 : (Jvm.Cond.fieldLink "CoercedClassesModel" (118 : Nat) "CoercedClassesModel" "declFamily" "[I") ∈ lw_all := lw_g (lw_at lw_m13 174 rfl) rfl
theorem q3297 : (Jvm.Cond.fieldLink "CoercedClassesModel" (121 : Nat) "CoercedClassesModel" "declFamilyType" "[I") ∈ lw_all := lw_g (lw_at lw_m13 175 rfl) rfl
theorem q3298 : (Jvm.Cond.fieldLink "CoercedClassesModel" (124 : Nat) "CoercedClassesModel" "declType" "[I") ∈ lw_all := lw_g (lw_at lw_m13 176 rfl) rfl
theorem q3299 : (Jvm.Cond.fieldLink "CoercedClassesModel" (127 : Nat) "CoercedClassesModel" "declEx" "[I") ∈ lw_all := lw_g (lw_at lw_m13 177 rfl) rfl
theorem q3300 : (Jvm.Cond.fieldLink "CoercedClassesModel" (510 : Nat) "CoercedClassesModel" "decls" "I") ∈ lw_all := lw_g (lw_at lw_m13 178 rfl) rfl
theorem q3301 : (Jvm.Cond.fieldLink "CoercedClassesModel" (130 : Nat) "CoercedClassesModel" "greatIs" "[I") ∈ lw_all := lw_g (lw_at lw_m13 179 rfl) rfl
theorem q3302 : (Jvm.Cond.fieldLink "CoercedClassesModel" (133 : Nat) "CoercedClassesModel" "greatWhich" "[I") ∈ lw_all := lw_g (lw_at lw_m13 180 rfl) rfl
theorem q3303 : (Jvm.Cond.fieldLink "CoercedClassesModel" (136 : Nat) "CoercedClassesModel" "termIs" "[I") ∈ lw_all := lw_g (lw_at lw_m13 181 rfl) rfl
theorem q3304 : (Jvm.Cond.fieldLink "CoercedClassesModel" (139 : Nat) "CoercedClassesModel" "termWhich" "[I") ∈ lw_all := lw_g (lw_at lw_m13 182 rfl) rfl
theorem q3305 : (Jvm.Cond.fieldLink "CoercedClassesModel" (533 : Nat) "CoercedClassesModel" "classes" "I") ∈ lw_all := lw_g (lw_at lw_m13 183 rfl) rfl
theorem q3306 : (Jvm.Cond.fieldLink "CoercedClassesModel" (546 : Nat) "CoercedClassesModel" "instances" "I") ∈ lw_all := lw_g (lw_at lw_m13 184 rfl) rfl
theorem q3307 : (Jvm.Cond.fieldLink "CoercedClassesModel" (552 : Nat) "CoercedClassesModel" "functions" "I") ∈ lw_all := lw_g (lw_at lw_m13 185 rfl) rfl
theorem q3308 : (Jvm.Cond.fieldLink "CoercedClassesModel" (142 : Nat) "CoercedClassesModel" "classDecl" "[I") ∈ lw_all := lw_g (lw_at lw_m13 186 rfl) rfl
theorem q3309 : (Jvm.Cond.fieldLink "CoercedClassesModel" (145 : Nat) "CoercedClassesModel" "className" "[I") ∈ lw_all := lw_g (lw_at lw_m13 187 rfl) rfl
theorem q3310 : (Jvm.Cond.fieldLink "CoercedClassesModel" (148 : Nat) "CoercedClassesModel" "classOf" "[I") ∈ lw_all := lw_g (lw_at lw_m13 188 rfl) rfl
theorem q3311 : (Jvm.Cond.fieldLink "CoercedClassesModel" (151 : Nat) "CoercedClassesModel" "classAbove" "[I") ∈ lw_all := lw_g (lw_at lw_m13 189 rfl) rfl
theorem q3312 : (Jvm.Cond.fieldLink "CoercedClassesModel" (154 : Nat) "CoercedClassesModel" "classFamily" "[I") ∈ lw_all := lw_g (lw_at lw_m13 190 rfl) rfl
theorem q3313 : (Jvm.Cond.fieldLink "CoercedClassesModel" (157 : Nat) "CoercedClassesModel" "methodMany" "[I") ∈ lw_all := lw_g (lw_at lw_m13 191 rfl) rfl
theorem q3314 : (Jvm.Cond.fieldLink "CoercedClassesModel" (160 : Nat) "CoercedClassesModel" "methodName" "[I") ∈ lw_all := lw_g (lw_at lw_m13 192 rfl) rfl
theorem q3315 : (Jvm.Cond.fieldLink "CoercedClassesModel" (163 : Nat) "CoercedClassesModel" "methodType" "[I") ∈ lw_all := lw_g (lw_at lw_m13 193 rfl) rfl
theorem q3316 : (Jvm.Cond.fieldLink "CoercedClassesModel" (166 : Nat) "CoercedClassesModel" "instanceDecl" "[I") ∈ lw_all := lw_g (lw_at lw_m13 194 rfl) rfl
theorem q3317 : (Jvm.Cond.fieldLink "CoercedClassesModel" (169 : Nat) "CoercedClassesModel" "instanceClass" "[I") ∈ lw_all := lw_g (lw_at lw_m13 195 rfl) rfl
theorem q3318 : (Jvm.Cond.fieldLink "CoercedClassesModel" (172 : Nat) "CoercedClassesModel" "instanceCon" "[I") ∈ lw_all := lw_g (lw_at lw_m13 196 rfl) rfl
theorem q3319 : (Jvm.Cond.fieldLink "CoercedClassesModel" (175 : Nat) "CoercedClassesModel" "headMany" "[I") ∈ lw_all := lw_g (lw_at lw_m13 197 rfl) rfl
theorem q3320 : (Jvm.Cond.fieldLink "CoercedClassesModel" (178 : Nat) "CoercedClassesModel" "headName" "[I") ∈ lw_all := lw_g (lw_at lw_m13 198 rfl) rfl
theorem q3321 : (Jvm.Cond.fieldLink "CoercedClassesModel" (181 : Nat) "CoercedClassesModel" "conditionMany" "[I") ∈ lw_all := lw_g (lw_at lw_m13 199 rfl) rfl
theorem q3322 : (Jvm.Cond.fieldLink "CoercedClassesModel" (184 : Nat) "CoercedClassesModel" "conditionClass" "[I") ∈ lw_all := lw_g (lw_at lw_m13 200 rfl) rfl
theorem q3323 : (Jvm.Cond.fieldLink "CoercedClassesModel" (187 : Nat) "CoercedClassesModel" "conditionName" "[I") ∈ lw_all := lw_g (lw_at lw_m13 201 rfl) rfl
theorem q3324 : (Jvm.Cond.fieldLink "CoercedClassesModel" (190 : Nat) "CoercedClassesModel" "familyType" "[I") ∈ lw_all := lw_g (lw_at lw_m13 202 rfl) rfl
theorem q3325 : (Jvm.Cond.fieldLink "CoercedClassesModel" (193 : Nat) "CoercedClassesModel" "lineEx" "[I") ∈ lw_all := lw_g (lw_at lw_m13 203 rfl) rfl
theorem q3326 : (Jvm.Cond.fieldLink "CoercedClassesModel" (196 : Nat) "CoercedClassesModel" "functionDecl" "[I") ∈ lw_all := lw_g (lw_at lw_m13 204 rfl) rfl
theorem q3327 : (Jvm.Cond.fieldLink "CoercedClassesModel" (199 : Nat) "CoercedClassesModel" "functionName" "[I") ∈ lw_all := lw_g (lw_at lw_m13 205 rfl) rfl
theorem q3328 : (Jvm.Cond.fieldLink "CoercedClassesModel" (202 : Nat) "CoercedClassesModel" "allMany" "[I") ∈ lw_all := lw_g (lw_at lw_m13 206 rfl) rfl
theorem q3329 : (Jvm.Cond.fieldLink "CoercedClassesModel" (205 : Nat) "CoercedClassesModel" "allName" "[I") ∈ lw_all := lw_g (lw_at lw_m13 207 rfl) rfl
theorem q3330 : (Jvm.Cond.fieldLink "CoercedClassesModel" (208 : Nat) "CoercedClassesModel" "givenMany" "[I") ∈ lw_all := lw_g (lw_at lw_m13 208 rfl) rfl
theorem q3331 : (Jvm.Cond.fieldLink "CoercedClassesModel" (211 : Nat) "CoercedClassesModel" "givenClass" "[I") ∈ lw_all := lw_g (lw_at lw_m13 209 rfl) rfl
theorem q3332 : (Jvm.Cond.fieldLink "CoercedClassesModel" (214 : Nat) "CoercedClassesModel" "givenName" "[I") ∈ lw_all := lw_g (lw_at lw_m13 210 rfl) rfl
theorem q3333 : (Jvm.Cond.fieldLink "CoercedClassesModel" (217 : Nat) "CoercedClassesModel" "givenType" "[I") ∈ lw_all := lw_g (lw_at lw_m13 211 rfl) rfl
theorem q3334 : (Jvm.Cond.fieldLink "CoercedClassesModel" (220 : Nat) "CoercedClassesModel" "functionType" "[I") ∈ lw_all := lw_g (lw_at lw_m13 212 rfl) rfl
theorem q3335 : (Jvm.Cond.fieldLink "CoercedClassesModel" (549 : Nat) "CoercedClassesModel" "functionsTold" "I") ∈ lw_all := lw_g (lw_at lw_m13 213 rfl) rfl
theorem q3336 : (Jvm.Cond.fieldLink "CoercedClassesModel" (223 : Nat) "CoercedClassesModel" "greatTold" "[Z") ∈ lw_all := lw_g (lw_at lw_m13 214 rfl) rfl
theorem q3337 : (Jvm.Cond.fieldLink "CoercedClassesModel" (226 : Nat) "CoercedClassesModel" "termTold" "[Z") ∈ lw_all := lw_g (lw_at lw_m13 215 rfl) rfl
theorem q3338 : (Jvm.Cond.fieldLink "CoercedClassesModel" (229 : Nat) "CoercedClassesModel" "scope" "[I") ∈ lw_all := lw_g (lw_at lw_m13 216 rfl) rfl
theorem q3339 : (Jvm.Cond.fieldLink "CoercedClassesModel" (232 : Nat) "CoercedClassesModel" "bound" "[I") ∈ lw_all := lw_g (lw_at lw_m13 217 rfl) rfl
theorem q3340 : (Jvm.Cond.fieldLink "CoercedClassesModel" (555 : Nat) "CoercedClassesModel" "scoped" "I") ∈ lw_all := lw_g (lw_at lw_m13 218 rfl) rfl
theorem q3341 : (Jvm.Cond.fieldLink "CoercedClassesModel" (583 : Nat) "CoercedClassesModel" "bounds" "I") ∈ lw_all := lw_g (lw_at lw_m13 219 rfl) rfl
theorem q3342 : (Jvm.Cond.fieldLink "CoercedClassesModel" (626 : Nat) "CoercedClassesModel" "envMany" "I") ∈ lw_all := lw_g (lw_at lw_m13 220 rfl) rfl
theorem q3343 : (Jvm.Cond.fieldLink "CoercedClassesModel" (235 : Nat) "CoercedClassesModel" "envClass" "[I") ∈ lw_all := lw_g (lw_at lw_m13 221 rfl) rfl
theorem q3344 : (Jvm.Cond.fieldLink "CoercedClassesModel" (238 : Nat) "CoercedClassesModel" "envName" "[I") ∈ lw_all := lw_g (lw_at lw_m13 222 rfl) rfl
theorem q3345 : (Jvm.Cond.fieldLink "CoercedClassesModel" (241 : Nat) "CoercedClassesModel" "envType" "[I") ∈ lw_all := lw_g (lw_at lw_m13 223 rfl) rfl
theorem q3346 : (Jvm.Cond.fieldLink "CoercedClassesModel" (611 : Nat) "CoercedClassesModel" "asked1" "I") ∈ lw_all := lw_g (lw_at lw_m13 224 rfl) rfl
theorem q3347 : (Jvm.Cond.fieldLink "CoercedClassesModel" (620 : Nat) "CoercedClassesModel" "askedAll" "I") ∈ lw_all := lw_g (lw_at lw_m13 225 rfl) rfl
theorem q3348 : (Jvm.Cond.fieldLink "CoercedClassesModel" (614 : Nat) "CoercedClassesModel" "typesBegun" "I") ∈ lw_all := lw_g (lw_at lw_m13 226 rfl) rfl
theorem q3349 : (Jvm.Cond.fieldLink "CoercedClassesModel" (607 : Nat) "CoercedClassesModel" "isOver" "Z") ∈ lw_all := lw_g (lw_at lw_m13 227 rfl) rfl
theorem q3350 : (Jvm.Cond.fieldLink "CoercedClassesModel" (617 : Nat) "CoercedClassesModel" "isTold" "Z") ∈ lw_all := lw_g (lw_at lw_m13 228 rfl) rfl
theorem q3351 : (Jvm.Cond.fieldLink "CoercedClassesModel" (244 : Nat) "CoercedClassesModel" "putName" "[I") ∈ lw_all := lw_g (lw_at lw_m13 229 rfl) rfl
theorem q3352 : (Jvm.Cond.fieldLink "CoercedClassesModel" (247 : Nat) "CoercedClassesModel" "putThing" "[I") ∈ lw_all := lw_g (lw_at lw_m13 230 rfl) rfl
theorem q3353 : (Jvm.Cond.fieldLink "CoercedClassesModel" (629 : Nat) "CoercedClassesModel" "puts" "I") ∈ lw_all := lw_g (lw_at lw_m13 231 rfl) rfl
theorem q3354 : (Jvm.Cond.fieldLink "CoercedClassesModel" (250 : Nat) "CoercedClassesModel" "nodeOf" "[I") ∈ lw_all := lw_g (lw_at lw_m13 232 rfl) rfl
theorem q3355 : (Jvm.Cond.fieldLink "CoercedClassesModel" (253 : Nat) "CoercedClassesModel" "nodeCast" "[I") ∈ lw_all := lw_g (lw_at lw_m13 233 rfl) rfl
theorem q3356 : (Jvm.Cond.fieldLink "CoercedClassesModel" (256 : Nat) "CoercedClassesModel" "spine" "[I") ∈ lw_all := lw_g (lw_at lw_m13 234 rfl) rfl
theorem q3357 : (Jvm.Cond.fieldLink "CoercedClassesModel" (259 : Nat) "CoercedClassesModel" "boundType" "[I") ∈ lw_all := lw_g (lw_at lw_m13 235 rfl) rfl
theorem q3358 : (Jvm.Cond.fieldLink "CoercedClassesModel" (571 : Nat) "CoercedClassesModel" "spined" "I") ∈ lw_all := lw_g (lw_at lw_m13 236 rfl) rfl
theorem q3359 : (Jvm.Cond.fieldLink "CoercedClassesModel" (671 : Nat) "CoercedClassesModel" "intType" "I") ∈ lw_all := lw_g (lw_at lw_m13 237 rfl) rfl
theorem q3360 : (Jvm.Cond.fieldLink "CoercedClassesModel" (692 : Nat) "CoercedClassesModel" "boolType" "I") ∈ lw_all := lw_g (lw_at lw_m13 238 rfl) rfl
theorem q3361 : (Jvm.Cond.fieldLink "CoercedClassesModel" (704 : Nat) "CoercedClassesModel" "nameA" "I") ∈ lw_all := lw_g (lw_at lw_m13 239 rfl) rfl
theorem q3362 : (Jvm.Cond.fieldLink "CoercedClassesModel" (707 : Nat) "CoercedClassesModel" "nameB" "I") ∈ lw_all := lw_g (lw_at lw_m14 0 rfl) rfl
theorem q3363 : (Jvm.Cond.fieldLink "CoercedClassesModel" (262 : Nat) "CoercedClassesModel" "alwaysType" "[I") ∈ lw_all := lw_g (lw_at lw_m14 1 rfl) rfl
theorem q3364 : (Jvm.Cond.fieldLink "CoercedClassesModel" (723 : Nat) "CoercedClassesModel" "gClass" "I") ∈ lw_all := lw_g (lw_at lw_m14 2 rfl) rfl
theorem q3365 : (Jvm.Cond.fieldLink "CoercedClassesModel" (726 : Nat) "CoercedClassesModel" "gFor" "I") ∈ lw_all := lw_g (lw_at lw_m14 3 rfl) rfl
theorem q3366 : (Jvm.Cond.fieldLink "CoercedClassesModel" (729 : Nat) "CoercedClassesModel" "gType" "I") ∈ lw_all := lw_g (lw_at lw_m14 4 rfl) rfl
theorem q3367 : (Jvm.Cond.fieldLink "CoercedClassesModel" (266 : Nat) "CoercedClassesModel" "terms" "[B") ∈ lw_all := lw_g (lw_at lw_m14 5 rfl) rfl
theorem q3368 : (Jvm.Cond.fieldLink "CoercedClassesModel" (269 : Nat) "CoercedClassesModel" "termStart" "[I") ∈ lw_all := lw_g (lw_at lw_m14 6 rfl) rfl
theorem q3369 : (Jvm.Cond.fieldLink "CoercedClassesModel" (272 : Nat) "CoercedClassesModel" "termSize" "[I") ∈ lw_all := lw_g (lw_at lw_m14 7 rfl) rfl
theorem q3370 : (Jvm.Cond.fieldLink "CoercedClassesModel" (743 : Nat) "CoercedClassesModel" "told" "I") ∈ lw_all := lw_g (lw_at lw_m14 8 rfl) rfl
theorem q3371 : (Jvm.Cond.fieldLink "CoercedClassesModel" (752 : Nat) "CoercedClassesModel" "limit" "I") ∈ lw_all := lw_g (lw_at lw_m14 9 rfl) rfl
theorem q3372 : (Jvm.Cond.fieldLink "CoercedClassesModel" (275 : Nat) "CoercedClassesModel" "aroundOf" "[I") ∈ lw_all := lw_g (lw_at lw_m14 10 rfl) rfl
theorem q3373 : (Jvm.Cond.fieldLink "CoercedClassesModel" (278 : Nat) "CoercedClassesModel" "deepOf" "[I") ∈ lw_all := lw_g (lw_at lw_m14 11 rfl) rfl
theorem q3374 : (Jvm.Cond.fieldLink "CoercedClassesModel" (281 : Nat) "CoercedClassesModel" "boundTo" "[J") ∈ lw_all := lw_g (lw_at lw_m14 12 rfl) rfl
theorem q3375 : (Jvm.Cond.fieldLink "CoercedClassesModel" (852 : Nat) "CoercedClassesModel" "bindings" "I") ∈ lw_all := lw_g (lw_at lw_m14 13 rfl) rfl
theorem q3376 : (Jvm.Cond.fieldLink "CoercedClassesModel" (285 : Nat) "CoercedClassesModel" "cellOne" "[J") ∈ lw_all := lw_g (lw_at lw_m14 14 rfl) rfl
theorem q3377 : (Jvm.Cond.fieldLink "CoercedClassesModel" (288 : Nat) "CoercedClassesModel" "cellTwo" "[J") ∈ lw_all := lw_g (lw_at lw_m14 15 rfl) rfl
theorem q3378 : (Jvm.Cond.fieldLink "CoercedClassesModel" (291 : Nat) "CoercedClassesModel" "cellNode" "[I") ∈ lw_all := lw_g (lw_at lw_m14 16 rfl) rfl
theorem q3379 : (Jvm.Cond.fieldLink "CoercedClassesModel" (294 : Nat) "CoercedClassesModel" "cellEnv" "[I") ∈ lw_all := lw_g (lw_at lw_m14 17 rfl) rfl
theorem q3380 : (Jvm.Cond.fieldLink "CoercedClassesModel" (297 : Nat) "CoercedClassesModel" "cellOwner" "[I") ∈ lw_all := lw_g (lw_at lw_m14 18 rfl) rfl
theorem q3381 : (Jvm.Cond.fieldLink "CoercedClassesModel" (300 : Nat) "CoercedClassesModel" "cellRow" "[J") ∈ lw_all := lw_g (lw_at lw_m14 19 rfl) rfl
theorem q3382 : (Jvm.Cond.fieldLink "CoercedClassesModel" (855 : Nat) "CoercedClassesModel" "things" "I") ∈ lw_all := lw_g (lw_at lw_m14 20 rfl) rfl
theorem q3383 : (Jvm.Cond.fieldLink "CoercedClassesModel" (303 : Nat) "CoercedClassesModel" "dictionaryOf" "[I") ∈ lw_all := lw_g (lw_at lw_m14 21 rfl) rfl
theorem q3384 : (Jvm.Cond.fieldLink "CoercedClassesModel" (306 : Nat) "CoercedClassesModel" "dictionaryRow" "[J") ∈ lw_all := lw_g (lw_at lw_m14 22 rfl) rfl
theorem q3385 : (Jvm.Cond.fieldLink "CoercedClassesModel" (858 : Nat) "CoercedClassesModel" "dictionaries" "I") ∈ lw_all := lw_g (lw_at lw_m14 23 rfl) rfl
theorem q3386 : (Jvm.Cond.fieldLink "CoercedClassesModel" (309 : Nat) "CoercedClassesModel" "frameKind" "[I") ∈ lw_all := lw_g (lw_at lw_m14 24 rfl) rfl
theorem q3387 : (Jvm.Cond.fieldLink "CoercedClassesModel" (312 : Nat) "CoercedClassesModel" "frameNode" "[I") ∈ lw_all := lw_g (lw_at lw_m14 25 rfl) rfl
theorem q3388 : (Jvm.Cond.fieldLink "CoercedClassesModel" (315 : Nat) "CoercedClassesModel" "frameEnv" "[I") ∈ lw_all := lw_g (lw_at lw_m14 26 rfl) rfl
theorem q3389 : (Jvm.Cond.fieldLink "CoercedClassesModel" (318 : Nat) "CoercedClassesModel" "frameOwner" "[I") ∈ lw_all := lw_g (lw_at lw_m14 27 rfl) rfl
theorem q3390 : (Jvm.Cond.fieldLink "CoercedClassesModel" (321 : Nat) "CoercedClassesModel" "frameThing" "[J") ∈ lw_all := lw_g (lw_at lw_m14 28 rfl) rfl
theorem q3391 : (Jvm.Cond.fieldLink "CoercedClassesModel" (324 : Nat) "CoercedClassesModel" "frameRow" "[J") ∈ lw_all := lw_g (lw_at lw_m14 29 rfl) rfl
theorem q3392 : (Jvm.Cond.fieldLink "CoercedClassesModel" (861 : Nat) "CoercedClassesModel" "frames" "I") ∈ lw_all := lw_g (lw_at lw_m14 30 rfl) rfl
theorem q3393 : (Jvm.Cond.fieldLink "CoercedClassesModel" (864 : Nat) "CoercedClassesModel" "mostFrames" "I") ∈ lw_all := lw_g (lw_at lw_m14 31 rfl) rfl
theorem q3394 : (Jvm.Cond.fieldLink "CoercedClassesModel" (867 : Nat) "CoercedClassesModel" "state" "I") ∈ lw_all := lw_g (lw_at lw_m14 32 rfl) rfl
theorem q3395 : (Jvm.Cond.fieldLink "CoercedClassesModel" (870 : Nat) "CoercedClassesModel" "steps" "I") ∈ lw_all := lw_g (lw_at lw_m14 33 rfl) rfl
theorem q3396 : (Jvm.Cond.fieldLink "CoercedClassesModel" (873 : Nat) "CoercedClassesModel" "cells" "I") ∈ lw_all := lw_g (lw_at lw_m14 34 rfl) rfl
theorem q3397 : (Jvm.Cond.fieldLink "CoercedClassesModel" (876 : Nat) "CoercedClassesModel" "shown" "I") ∈ lw_all := lw_g (lw_at lw_m14 35 rfl) rfl
theorem q3398 : (Jvm.Cond.fieldLink "CoercedClassesModel" (327 : Nat) "CoercedClassesModel" "showing" "[B") ∈ lw_all := lw_g (lw_at lw_m14 36 rfl) rfl
theorem q3399 : (Jvm.Cond.fieldLink "CoercedClassesModel" (882 : Nat) "CoercedClassesModel" "nextNode" "I") ∈ lw_all := lw_g (lw_at lw_m14 37 rfl) rfl
theorem q3400 : (Jvm.Cond.fieldLink "CoercedClassesModel" (885 : Nat) "CoercedClassesModel" "nextEnv" "I") ∈ lw_all := lw_g (lw_at lw_m14 38 rfl) rfl
theorem q3401 : (Jvm.Cond.fieldLink "CoercedClassesModel" (888 : Nat) "CoercedClassesModel" "nextOwner" "I") ∈ lw_all := lw_g (lw_at lw_m14 39 rfl) rfl
theorem q3402 : (Jvm.Cond.fieldLink "CoercedClassesModel" (879 : Nat) "CoercedClassesModel" "askRoot" "I") ∈ lw_all := lw_g (lw_at lw_m14 40 rfl) rfl
theorem q3403 : (Jvm.Cond.fieldLink "CoercedClassesModel" (891 : Nat) "CoercedClassesModel" "nextRow" "J") ∈ lw_all := lw_g (lw_at lw_m14 41 rfl) rfl
theorem q3404 : (Jvm.Cond.fieldLink "CoercedClassesModel" (331 : Nat) "CoercedClassesModel" "givenAsOf" "[I") ∈ lw_all := lw_g (lw_at lw_m14 42 rfl) rfl
theorem q3405 : (Jvm.Cond.fieldLink "CoercedClassesModel" (334 : Nat) "CoercedClassesModel" "givenOut" "[I") ∈ lw_all := lw_g (lw_at lw_m14 43 rfl) rfl
theorem q3406 : (Jvm.Cond.fieldLink "CoercedClassesModel" (849 : Nat) "CoercedClassesModel" "runs" "I") ∈ lw_all := lw_g (lw_at lw_m14 44 rfl) rfl
theorem q3407 : (Jvm.Cond.fieldLink "CoercedClassesModel" (337 : Nat) "CoercedClassesModel" "wantClass" "[I") ∈ lw_all := lw_g (lw_at lw_m14 45 rfl) rfl
theorem q3408 : (Jvm.Cond.fieldLink "CoercedClassesModel" (340 : Nat) "CoercedClassesModel" "wantFrom" "[I") ∈ lw_all := lw_g (lw_at lw_m14 46 rfl) rfl
theorem q3409 : (Jvm.Cond.fieldLink "CoercedClassesModel" (343 : Nat) "CoercedClassesModel" "wantInstance" "[I") ∈ lw_all := lw_g (lw_at lw_m14 47 rfl) rfl
theorem q3410 : (Jvm.Cond.fieldLink "CoercedClassesModel" (346 : Nat) "CoercedClassesModel" "wantType" "[I") ∈ lw_all := lw_g (lw_at lw_m14 48 rfl) rfl
theorem q3411 : (Jvm.Cond.fieldLink "CoercedClassesModel" (349 : Nat) "CoercedClassesModel" "wantOwner" "[I") ∈ lw_all := lw_g (lw_at lw_m14 49 rfl) rfl
theorem q3412 : (Jvm.Cond.fieldLink "CoercedClassesModel" (352 : Nat) "CoercedClassesModel" "wantRow" "[J") ∈ lw_all := lw_g (lw_at lw_m14 50 rfl) rfl
theorem q3413 : (Jvm.Cond.fieldLink "CoercedClassesModel" (355 : Nat) "CoercedClassesModel" "wantDone" "[I") ∈ lw_all := lw_g (lw_at lw_m14 51 rfl) rfl
theorem q3414 : (Jvm.Cond.fieldLink "CoercedClassesModel" (359 : Nat) "CoercedClassesModel" "wantGot" "[I") ∈ lw_all := lw_g (lw_at lw_m14 52 rfl) rfl
theorem q3415 : (Jvm.Cond.fieldLink "CoercedClassesModel" (900 : Nat) "CoercedClassesModel" "pending" "I") ∈ lw_all := lw_g (lw_at lw_m14 53 rfl) rfl
theorem q3416 : (Jvm.Cond.fieldLink "CoercedClassesModel" (1056 : Nat) "CoercedClassesModel" "programTokens" "I") ∈ lw_all := lw_g (lw_at lw_m14 54 rfl) rfl
theorem q3417 : (Jvm.Cond.fieldLink "CoercedClassesModel" (1059 : Nat) "CoercedClassesModel" "programNodes" "I") ∈ lw_all := lw_g (lw_at lw_m14 55 rfl) rfl
theorem q3418 : (Jvm.Cond.fieldLink "CoercedClassesModel" (1062 : Nat) "CoercedClassesModel" "programTypes" "I") ∈ lw_all := lw_g (lw_at lw_m14 56 rfl) rfl
theorem q3419 : (Jvm.Cond.fieldLink "CoercedClassesModel" (1065 : Nat) "CoercedClassesModel" "programNames" "I") ∈ lw_all := lw_g (lw_at lw_m14 57 rfl) rfl
theorem q3420 : (Jvm.Cond.fieldLink "CoercedClassesModel" (1071 : Nat) "CoercedClassesModel" "askType" "I") ∈ lw_all := lw_g (lw_at lw_m14 58 rfl) rfl
theorem q3421 : (Jvm.Cond.fieldLink "CoercedClassesModel" (741 : Nat) "CoercedClassesModel" "tells" "Z") ∈ lw_all := lw_g (lw_at lw_m14 59 rfl) rfl
theorem q3422 : (Jvm.Cond.fieldLink "CoercedClassesModel" (746 : Nat) "CoercedClassesModel" "wantedByte" "I") ∈ lw_all := lw_g (lw_at lw_m14 60 rfl) rfl
theorem q3423 : (Jvm.Cond.fieldLink "CoercedClassesModel" (749 : Nat) "CoercedClassesModel" "foundByte" "I") ∈ lw_all := lw_g (lw_at lw_m14 61 rfl) rfl
theorem q3424 : (Jvm.Cond.lays "CoercedClassesModel" "CoercedClassesModel" "thrown" "I") ∈ lw_all := lw_g (lw_at lw_m14 62 rfl) rfl
theorem q3425 : (Jvm.Cond.soleField "CoercedClassesModel" "thrown") ∈ lw_all := lw_g (lw_at lw_m14 63 rfl) rfl
theorem q3426 : (Jvm.Cond.laysFinal "CoercedClassesModel" "CoercedClassesModel" "tape" "[B") ∈ lw_all := lw_g (lw_at lw_m14 64 rfl) rfl
theorem q3427 : (Jvm.Cond.soleField "CoercedClassesModel" "tape") ∈ lw_all := lw_g (lw_at lw_m14 65 rfl) rfl
theorem q3428 : (Jvm.Cond.laysFinal "CoercedClassesModel" "CoercedClassesModel" "text" "[B") ∈ lw_all := lw_g (lw_at lw_m14 66 rfl) rfl
theorem q3429 : (Jvm.Cond.soleField "CoercedClassesModel" "text") ∈ lw_all := lw_g (lw_at lw_m14 67 rfl) rfl
theorem q3430 : (Jvm.Cond.laysFinal "CoercedClassesModel" "CoercedClassesModel" "programText" "[B") ∈ lw_all := lw_g (lw_at lw_m14 68 rfl) rfl
theorem q3431 : (Jvm.Cond.soleField "CoercedClassesModel" "programText") ∈ lw_all := lw_g (lw_at lw_m14 69 rfl) rfl
theorem q3432 : (Jvm.Cond.laysFinal "CoercedClassesModel" "CoercedClassesModel" "askText" "[B") ∈ lw_all := lw_g (lw_at lw_m14 70 rfl) rfl
theorem q3433 : (Jvm.Cond.soleField "CoercedClassesModel" "askText") ∈ lw_all := lw_g (lw_at lw_m14 71 rfl) rfl
theorem q3434 : (Jvm.Cond.lays "CoercedClassesModel" "CoercedClassesModel" "taped" "I") ∈ lw_all := lw_g (lw_at lw_m14 72 rfl) rfl
theorem q3435 : (Jvm.Cond.soleField "CoercedClassesModel" "taped") ∈ lw_all := lw_g (lw_at lw_m14 73 rfl) rfl
theorem q3436 : (Jvm.Cond.lays "CoercedClassesModel" "CoercedClassesModel" "length" "I") ∈ lw_all := lw_g (lw_at lw_m14 74 rfl) rfl
theorem q3437 : (Jvm.Cond.soleField "CoercedClassesModel" "length") ∈ lw_all := lw_g (lw_at lw_m14 75 rfl) rfl
theorem q3438 : (Jvm.Cond.lays "CoercedClassesModel" "CoercedClassesModel" "programLength" "I") ∈ lw_all := lw_g (lw_at lw_m14 76 rfl) rfl
theorem q3439 : (Jvm.Cond.soleField "CoercedClassesModel" "programLength") ∈ lw_all := lw_g (lw_at lw_m14 77 rfl) rfl
theorem q3440 : (Jvm.Cond.lays "CoercedClassesModel" "CoercedClassesModel" "askLength" "I") ∈ lw_all := lw_g (lw_at lw_m14 78 rfl) rfl
theorem q3441 : (Jvm.Cond.soleField "CoercedClassesModel" "askLength") ∈ lw_all := lw_g (lw_at lw_m14 79 rfl) rfl
theorem q3442 : (Jvm.Cond.lays "CoercedClassesModel" "CoercedClassesModel" "at" "I") ∈ lw_all := lw_g (lw_at lw_m14 80 rfl) rfl
theorem q3443 : (Jvm.Cond.soleField "CoercedClassesModel" "at") ∈ lw_all := lw_g (lw_at lw_m14 81 rfl) rfl
theorem q3444 : (Jvm.Cond.lays "CoercedClassesModel" "CoercedClassesModel" "begun" "I") ∈ lw_all := lw_g (lw_at lw_m14 82 rfl) rfl
theorem q3445 : (Jvm.Cond.soleField "CoercedClassesModel" "begun") ∈ lw_all := lw_g (lw_at lw_m14 83 rfl) rfl
theorem q3446 : (Jvm.Cond.lays "CoercedClassesModel" "CoercedClassesModel" "isLoaded" "Z") ∈ lw_all := lw_g (lw_at lw_m14 84 rfl) rfl
theorem q3447 : (Jvm.Cond.soleField "CoercedClassesModel" "isLoaded") ∈ lw_all := lw_g (lw_at lw_m14 85 rfl) rfl
theorem q3448 : (Jvm.Cond.lays "CoercedClassesModel" "CoercedClassesModel" "isAsked" "Z") ∈ lw_all := lw_g (lw_at lw_m14 86 rfl) rfl
theorem q3449 : (Jvm.Cond.soleField "CoercedClassesModel" "isAsked") ∈ lw_all := lw_g (lw_at lw_m14 87 rfl) rfl
theorem q3450 : (Jvm.Cond.lays "CoercedClassesModel" "CoercedClassesModel" "isRead" "Z") ∈ lw_all := lw_g (lw_at lw_m14 88 rfl) rfl
theorem q3451 : (Jvm.Cond.soleField "CoercedClassesModel" "isRead") ∈ lw_all := lw_g (lw_at lw_m14 89 rfl) rfl
theorem q3452 : (Jvm.Cond.lays "CoercedClassesModel" "CoercedClassesModel" "fault" "I") ∈ lw_all := lw_g (lw_at lw_m14 90 rfl) rfl
theorem q3453 : (Jvm.Cond.soleField "CoercedClassesModel" "fault") ∈ lw_all := lw_g (lw_at lw_m14 91 rfl) rfl
theorem q3454 : (Jvm.Cond.lays "CoercedClassesModel" "CoercedClassesModel" "place" "I") ∈ lw_all := lw_g (lw_at lw_m14 92 rfl) rfl
theorem q3455 : (Jvm.Cond.soleField "CoercedClassesModel" "place") ∈ lw_all := lw_g (lw_at lw_m14 93 rfl) rfl
theorem q3456 : (Jvm.Cond.lays "CoercedClassesModel" "CoercedClassesModel" "toldFault" "I") ∈ lw_all := lw_g (lw_at lw_m14 94 rfl) rfl
theorem q3457 : (Jvm.Cond.soleField "CoercedClassesModel" "toldFault") ∈ lw_all := lw_g (lw_at lw_m14 95 rfl) rfl
theorem q3458 : (Jvm.Cond.lays "CoercedClassesModel" "CoercedClassesModel" "toldPlace" "I") ∈ lw_all := lw_g (lw_at lw_m14 96 rfl) rfl
theorem q3459 : (Jvm.Cond.soleField "CoercedClassesModel" "toldPlace") ∈ lw_all := lw_g (lw_at lw_m14 97 rfl) rfl
theorem q3460 : (Jvm.Cond.laysFinal "CoercedClassesModel" "CoercedClassesModel" "tokenKind" "[I") ∈ lw_all := lw_g (lw_at lw_m14 98 rfl) rfl
theorem q3461 : (Jvm.Cond.soleField "CoercedClassesModel" "tokenKind") ∈ lw_all := lw_g (lw_at lw_m14 99 rfl) rfl
theorem q3462 : (Jvm.Cond.laysFinal "CoercedClassesModel" "CoercedClassesModel" "tokenPlace" "[I") ∈ lw_all := lw_g (lw_at lw_m14 100 rfl) rfl
theorem q3463 : (Jvm.Cond.soleField "CoercedClassesModel" "tokenPlace") ∈ lw_all := lw_g (lw_at lw_m14 101 rfl) rfl
theorem q3464 : (Jvm.Cond.laysFinal "CoercedClassesModel" "CoercedClassesModel" "tokenSize" "[I") ∈ lw_all := lw_g (lw_at lw_m14 102 rfl) rfl
theorem q3465 : (Jvm.Cond.soleField "CoercedClassesModel" "tokenSize") ∈ lw_all := lw_g (lw_at lw_m14 103 rfl) rfl
theorem q3466 : (Jvm.Cond.laysFinal "CoercedClassesModel" "CoercedClassesModel" "tokenName" "[I") ∈ lw_all := lw_g (lw_at lw_m14 104 rfl) rfl
theorem q3467 : (Jvm.Cond.soleField "CoercedClassesModel" "tokenName") ∈ lw_all := lw_g (lw_at lw_m14 105 rfl) rfl
theorem q3468 : (Jvm.Cond.lays "CoercedClassesModel" "CoercedClassesModel" "tokens" "I") ∈ lw_all := lw_g (lw_at lw_m14 106 rfl) rfl
theorem q3469 : (Jvm.Cond.soleField "CoercedClassesModel" "tokens") ∈ lw_all := lw_g (lw_at lw_m14 107 rfl) rfl
theorem q3470 : (Jvm.Cond.laysFinal "CoercedClassesModel" "CoercedClassesModel" "letters" "[B") ∈ lw_all := lw_g (lw_at lw_m14 108 rfl) rfl
theorem q3471 : (Jvm.Cond.soleField "CoercedClassesModel" "letters") ∈ lw_all := lw_g (lw_at lw_m14 109 rfl) rfl
theorem q3472 : (Jvm.Cond.laysFinal "CoercedClassesModel" "CoercedClassesModel" "letterSize" "[I") ∈ lw_all := lw_g (lw_at lw_m14 110 rfl) rfl
theorem q3473 : (Jvm.Cond.soleField "CoercedClassesModel" "letterSize") ∈ lw_all := lw_g (lw_at lw_m14 111 rfl) rfl
theorem q3474 : (Jvm.Cond.lays "CoercedClassesModel" "CoercedClassesModel" "names" "I") ∈ lw_all := lw_g (lw_at lw_m14 112 rfl) rfl
theorem q3475 : (Jvm.Cond.soleField "CoercedClassesModel" "names") ∈ lw_all := lw_g (lw_at lw_m14 113 rfl) rfl
theorem q3476 : (Jvm.Cond.laysFinal "CoercedClassesModel" "CoercedClassesModel" "typeKind" "[I") ∈ lw_all := lw_g (lw_at lw_m14 114 rfl) rfl
theorem q3477 : (Jvm.Cond.soleField "CoercedClassesModel" "typeKind") ∈ lw_all := lw_g (lw_at lw_m14 115 rfl) rfl
theorem q3478 : (Jvm.Cond.laysFinal "CoercedClassesModel" "CoercedClassesModel" "typeWhich" "[I") ∈ lw_all := lw_g (lw_at lw_m14 116 rfl) rfl
theorem q3479 : (Jvm.Cond.soleField "CoercedClassesModel" "typeWhich") ∈ lw_all := lw_g (lw_at lw_m14 117 rfl) rfl
theorem q3480 : (Jvm.Cond.laysFinal "CoercedClassesModel" "CoercedClassesModel" "typeOne" "[I") ∈ lw_all := lw_g (lw_at lw_m14 118 rfl) rfl
theorem q3481 : (Jvm.Cond.soleField "CoercedClassesModel" "typeOne") ∈ lw_all := lw_g (lw_at lw_m14 119 rfl) rfl
theorem q3482 : (Jvm.Cond.laysFinal "CoercedClassesModel" "CoercedClassesModel" "typeTwo" "[I") ∈ lw_all := lw_g (lw_at lw_m14 120 rfl) rfl
theorem q3483 : (Jvm.Cond.soleField "CoercedClassesModel" "typeTwo") ∈ lw_all := lw_g (lw_at lw_m14 121 rfl) rfl
theorem q3484 : (Jvm.Cond.laysFinal "CoercedClassesModel" "CoercedClassesModel" "typeSize" "[I") ∈ lw_all := lw_g (lw_at lw_m14 122 rfl) rfl
theorem q3485 : (Jvm.Cond.soleField "CoercedClassesModel" "typeSize") ∈ lw_all := lw_g (lw_at lw_m14 123 rfl) rfl
theorem q3486 : (Jvm.Cond.laysFinal "CoercedClassesModel" "CoercedClassesModel" "typeNext" "[I") ∈ lw_all := lw_g (lw_at lw_m14 124 rfl) rfl
theorem q3487 : (Jvm.Cond.soleField "CoercedClassesModel" "typeNext") ∈ lw_all := lw_g (lw_at lw_m14 125 rfl) rfl
theorem q3488 : (Jvm.Cond.laysFinal "CoercedClassesModel" "CoercedClassesModel" "typeHeads" "[I") ∈ lw_all := lw_g (lw_at lw_m14 126 rfl) rfl
theorem q3489 : (Jvm.Cond.soleField "CoercedClassesModel" "typeHeads") ∈ lw_all := lw_g (lw_at lw_m14 127 rfl) rfl
theorem q3490 : (Jvm.Cond.laysFinal "CoercedClassesModel" "CoercedClassesModel" "typeHas" "[Z") ∈ lw_all := lw_g (lw_at lw_m14 128 rfl) rfl
theorem q3491 : (Jvm.Cond.soleField "CoercedClassesModel" "typeHas") ∈ lw_all := lw_g (lw_at lw_m14 129 rfl) rfl
theorem q3492 : (Jvm.Cond.lays "CoercedClassesModel" "CoercedClassesModel" "types" "I") ∈ lw_all := lw_g (lw_at lw_m14 130 rfl) rfl
theorem q3493 : (Jvm.Cond.soleField "CoercedClassesModel" "types") ∈ lw_all := lw_g (lw_at lw_m14 131 rfl) rfl
theorem q3494 : (Jvm.Cond.laysFinal "CoercedClassesModel" "CoercedClassesModel" "nodeKind" "[I") ∈ lw_all := lw_g (lw_at lw_m14 132 rfl) rfl
theorem q3495 : (Jvm.Cond.soleField "CoercedClassesModel" "nodeKind") ∈ lw_all := lw_g (lw_at lw_m14 133 rfl) rfl
theorem q3496 : (Jvm.Cond.laysFinal "CoercedClassesModel" "CoercedClassesModel" "nodeToken" "[I") ∈ lw_all := lw_g (lw_at lw_m14 134 rfl) rfl
theorem q3497 : (Jvm.Cond.soleField "CoercedClassesModel" "nodeToken") ∈ lw_all := lw_g (lw_at lw_m14 135 rfl) rfl
theorem q3498 : (Jvm.Cond.laysFinal "CoercedClassesModel" "CoercedClassesModel" "nodeA" "[I") ∈ lw_all := lw_g (lw_at lw_m14 136 rfl) rfl
theorem q3499 : (Jvm.Cond.soleField "CoercedClassesModel" "nodeA") ∈ lw_all := lw_g (lw_at lw_m14 137 rfl) rfl
theorem q3500 : (Jvm.Cond.laysFinal "CoercedClassesModel" "CoercedClassesModel" "nodeB" "[I") ∈ lw_all := lw_g (lw_at lw_m14 138 rfl) rfl
theorem q3501 : (Jvm.Cond.soleField "CoercedClassesModel" "nodeB") ∈ lw_all := lw_g (lw_at lw_m14 139 rfl) rfl
theorem q3502 : (Jvm.Cond.laysFinal "CoercedClassesModel" "CoercedClassesModel" "nodeC" "[I") ∈ lw_all := lw_g (lw_at lw_m14 140 rfl) rfl
theorem q3503 : (Jvm.Cond.soleField "CoercedClassesModel" "nodeC") ∈ lw_all := lw_g (lw_at lw_m14 141 rfl) rfl
theorem q3504 : (Jvm.Cond.laysFinal "CoercedClassesModel" "CoercedClassesModel" "nodeD" "[I") ∈ lw_all := lw_g (lw_at lw_m14 142 rfl) rfl
theorem q3505 : (Jvm.Cond.soleField "CoercedClassesModel" "nodeD") ∈ lw_all := lw_g (lw_at lw_m14 143 rfl) rfl
theorem q3506 : (Jvm.Cond.laysFinal "CoercedClassesModel" "CoercedClassesModel" "nodeNext" "[I") ∈ lw_all := lw_g (lw_at lw_m14 144 rfl) rfl
theorem q3507 : (Jvm.Cond.soleField "CoercedClassesModel" "nodeNext") ∈ lw_all := lw_g (lw_at lw_m14 145 rfl) rfl
theorem q3508 : (Jvm.Cond.lays "CoercedClassesModel" "CoercedClassesModel" "nodes" "I") ∈ lw_all := lw_g (lw_at lw_m14 146 rfl) rfl
theorem q3509 : (Jvm.Cond.soleField "CoercedClassesModel" "nodes") ∈ lw_all := lw_g (lw_at lw_m14 147 rfl) rfl
theorem q3510 : (Jvm.Cond.laysFinal "CoercedClassesModel" "CoercedClassesModel" "declKind" "[I") ∈ lw_all := lw_g (lw_at lw_m14 148 rfl) rfl
theorem q3511 : (Jvm.Cond.soleField "CoercedClassesModel" "declKind") ∈ lw_all := lw_g (lw_at lw_m14 149 rfl) rfl
theorem q3512 : (Jvm.Cond.laysFinal "CoercedClassesModel" "CoercedClassesModel" "declFirst" "[I") ∈ lw_all := lw_g (lw_at lw_m14 150 rfl) rfl
theorem q3513 : (Jvm.Cond.soleField "CoercedClassesModel" "declFirst") ∈ lw_all := lw_g (lw_at lw_m14 151 rfl) rfl
theorem q3514 : (Jvm.Cond.laysFinal "CoercedClassesModel" "CoercedClassesModel" "declToken" "[I") ∈ lw_all := lw_g (lw_at lw_m14 152 rfl) rfl
theorem q3515 : (Jvm.Cond.soleField "CoercedClassesModel" "declToken") ∈ lw_all := lw_g (lw_at lw_m14 153 rfl) rfl
theorem q3516 : (Jvm.Cond.laysFinal "CoercedClassesModel" "CoercedClassesModel" "declA" "[I") ∈ lw_all := lw_g (lw_at lw_m14 154 rfl) rfl
theorem q3517 : (Jvm.Cond.soleField "CoercedClassesModel" "declA") ∈ lw_all := lw_g (lw_at lw_m14 155 rfl) rfl
theorem q3518 : (Jvm.Cond.laysFinal "CoercedClassesModel" "CoercedClassesModel" "declB" "[I") ∈ lw_all := lw_g (lw_at lw_m14 156 rfl) rfl
theorem q3519 : (Jvm.Cond.soleField "CoercedClassesModel" "declB") ∈ lw_all := lw_g (lw_at lw_m14 157 rfl) rfl
theorem q3520 : (Jvm.Cond.laysFinal "CoercedClassesModel" "CoercedClassesModel" "declC" "[I") ∈ lw_all := lw_g (lw_at lw_m14 158 rfl) rfl
theorem q3521 : (Jvm.Cond.soleField "CoercedClassesModel" "declC") ∈ lw_all := lw_g (lw_at lw_m14 159 rfl) rfl
theorem q3522 : (Jvm.Cond.laysFinal "CoercedClassesModel" "CoercedClassesModel" "declAll" "[I") ∈ lw_all := lw_g (lw_at lw_m14 160 rfl) rfl
theorem q3523 : (Jvm.Cond.soleField "CoercedClassesModel" "declAll") ∈ lw_all := lw_g (lw_at lw_m14 161 rfl) rfl
theorem q3524 : (Jvm.Cond.laysFinal "CoercedClassesModel" "CoercedClassesModel" "declMany" "[I") ∈ lw_all := lw_g (lw_at lw_m14 162 rfl) rfl
theorem q3525 : (Jvm.Cond.soleField "CoercedClassesModel" "declMany") ∈ lw_all := lw_g (lw_at lw_m14 163 rfl) rfl
theorem q3526 : (Jvm.Cond.laysFinal "CoercedClassesModel" "CoercedClassesModel" "declList" "[I") ∈ lw_all := lw_g (lw_at lw_m14 164 rfl) rfl
theorem q3527 : (Jvm.Cond.soleField "CoercedClassesModel" "declList") ∈ lw_all := lw_g (lw_at lw_m14 165 rfl) rfl
theorem q3528 : (Jvm.Cond.laysFinal "CoercedClassesModel" "CoercedClassesModel" "declGivens" "[I") ∈ lw_all := lw_g (lw_at lw_m14 166 rfl) rfl
theorem q3529 : (Jvm.Cond.soleField "CoercedClassesModel" "declGivens") ∈ lw_all := lw_g (lw_at lw_m14 167 rfl) rfl
theorem q3530 : (Jvm.Cond.laysFinal "CoercedClassesModel" "CoercedClassesModel" "declFamily" "[I") ∈ lw_all := lw_g (lw_at lw_m14 168 rfl) rfl
theorem q3531 : (Jvm.Cond.soleField "CoercedClassesModel" "declFamily") ∈ lw_all := lw_g (lw_at lw_m14 169 rfl) rfl
theorem q3532 : (Jvm.Cond.laysFinal "CoercedClassesModel" "CoercedClassesModel" "declFamilyType" "[I") ∈ lw_all := lw_g (lw_at lw_m14 170 rfl) rfl
theorem q3533 : (Jvm.Cond.soleField "CoercedClassesModel" "declFamilyType") ∈ lw_all := lw_g (lw_at lw_m14 171 rfl) rfl
theorem q3534 : (Jvm.Cond.laysFinal "CoercedClassesModel" "CoercedClassesModel" "declType" "[I") ∈ lw_all := lw_g (lw_at lw_m14 172 rfl) rfl
theorem q3535 : (Jvm.Cond.soleField "CoercedClassesModel" "declType") ∈ lw_all := lw_g (lw_at lw_m14 173 rfl) rfl
theorem q3536 : (Jvm.Cond.laysFinal "CoercedClassesModel" "CoercedClassesModel" "declEx" "[I") ∈ lw_all := lw_g (lw_at lw_m14 174 rfl) rfl
theorem q3537 : (Jvm.Cond.soleField "CoercedClassesModel" "declEx") ∈ lw_all := lw_g (lw_at lw_m14 175 rfl) rfl
theorem q3538 : (Jvm.Cond.lays "CoercedClassesModel" "CoercedClassesModel" "decls" "I") ∈ lw_all := lw_g (lw_at lw_m14 176 rfl) rfl
theorem q3539 : (Jvm.Cond.soleField "CoercedClassesModel" "decls") ∈ lw_all := lw_g (lw_at lw_m14 177 rfl) rfl
theorem q3540 : (Jvm.Cond.laysFinal "CoercedClassesModel" "CoercedClassesModel" "greatIs" "[I") ∈ lw_all := lw_g (lw_at lw_m14 178 rfl) rfl
theorem q3541 : (Jvm.Cond.soleField "CoercedClassesModel" "greatIs") ∈ lw_all := lw_g (lw_at lw_m14 179 rfl) rfl
theorem q3542 : (Jvm.Cond.laysFinal "CoercedClassesModel" "CoercedClassesModel" "greatWhich" "[I") ∈ lw_all := lw_g (lw_at lw_m14 180 rfl) rfl
theorem q3543 : (Jvm.Cond.soleField "CoercedClassesModel" "greatWhich") ∈ lw_all := lw_g (lw_at lw_m14 181 rfl) rfl
theorem q3544 : (Jvm.Cond.laysFinal "CoercedClassesModel" "CoercedClassesModel" "termIs" "[I") ∈ lw_all := lw_g (lw_at lw_m14 182 rfl) rfl
theorem q3545 : (Jvm.Cond.soleField "CoercedClassesModel" "termIs") ∈ lw_all := lw_g (lw_at lw_m14 183 rfl) rfl
theorem q3546 : (Jvm.Cond.laysFinal "CoercedClassesModel" "CoercedClassesModel" "termWhich" "[I") ∈ lw_all := lw_g (lw_at lw_m14 184 rfl) rfl
theorem q3547 : (Jvm.Cond.soleField "CoercedClassesModel" "termWhich") ∈ lw_all := lw_g (lw_at lw_m14 185 rfl) rfl
theorem q3548 : (Jvm.Cond.lays "CoercedClassesModel" "CoercedClassesModel" "classes" "I") ∈ lw_all := lw_g (lw_at lw_m14 186 rfl) rfl
theorem q3549 : (Jvm.Cond.soleField "CoercedClassesModel" "classes") ∈ lw_all := lw_g (lw_at lw_m14 187 rfl) rfl
theorem q3550 : (Jvm.Cond.lays "CoercedClassesModel" "CoercedClassesModel" "instances" "I") ∈ lw_all := lw_g (lw_at lw_m14 188 rfl) rfl
theorem q3551 : (Jvm.Cond.soleField "CoercedClassesModel" "instances") ∈ lw_all := lw_g (lw_at lw_m14 189 rfl) rfl
theorem q3552 : (Jvm.Cond.lays "CoercedClassesModel" "CoercedClassesModel" "functions" "I") ∈ lw_all := lw_g (lw_at lw_m14 190 rfl) rfl
theorem q3553 : (Jvm.Cond.soleField "CoercedClassesModel" "functions") ∈ lw_all := lw_g (lw_at lw_m14 191 rfl) rfl
theorem q3554 : (Jvm.Cond.laysFinal "CoercedClassesModel" "CoercedClassesModel" "classDecl" "[I") ∈ lw_all := lw_g (lw_at lw_m14 192 rfl) rfl
theorem q3555 : (Jvm.Cond.soleField "CoercedClassesModel" "classDecl") ∈ lw_all := lw_g (lw_at lw_m14 193 rfl) rfl
theorem q3556 : (Jvm.Cond.laysFinal "CoercedClassesModel" "CoercedClassesModel" "className" "[I") ∈ lw_all := lw_g (lw_at lw_m14 194 rfl) rfl
theorem q3557 : (Jvm.Cond.soleField "CoercedClassesModel" "className") ∈ lw_all := lw_g (lw_at lw_m14 195 rfl) rfl
theorem q3558 : (Jvm.Cond.laysFinal "CoercedClassesModel" "CoercedClassesModel" "classOf" "[I") ∈ lw_all := lw_g (lw_at lw_m14 196 rfl) rfl
theorem q3559 : (Jvm.Cond.soleField "CoercedClassesModel" "classOf") ∈ lw_all := lw_g (lw_at lw_m14 197 rfl) rfl
theorem q3560 : (Jvm.Cond.laysFinal "CoercedClassesModel" "CoercedClassesModel" "classAbove" "[I") ∈ lw_all := lw_g (lw_at lw_m14 198 rfl) rfl
theorem q3561 : (Jvm.Cond.soleField "CoercedClassesModel" "classAbove") ∈ lw_all := lw_g (lw_at lw_m14 199 rfl) rfl
theorem q3562 : (Jvm.Cond.laysFinal "CoercedClassesModel" "CoercedClassesModel" "classFamily" "[I") ∈ lw_all := lw_g (lw_at lw_m14 200 rfl) rfl
theorem q3563 : (Jvm.Cond.soleField "CoercedClassesModel" "classFamily") ∈ lw_all := lw_g (lw_at lw_m14 201 rfl) rfl
theorem q3564 : (Jvm.Cond.laysFinal "CoercedClassesModel" "CoercedClassesModel" "methodMany" "[I") ∈ lw_all := lw_g (lw_at lw_m14 202 rfl) rfl
theorem q3565 : (Jvm.Cond.soleField "CoercedClassesModel" "methodMany") ∈ lw_all := lw_g (lw_at lw_m14 203 rfl) rfl
theorem q3566 : (Jvm.Cond.laysFinal "CoercedClassesModel" "CoercedClassesModel" "methodName" "[I") ∈ lw_all := lw_g (lw_at lw_m14 204 rfl) rfl
theorem q3567 : (Jvm.Cond.soleField "CoercedClassesModel" "methodName") ∈ lw_all := lw_g (lw_at lw_m14 205 rfl) rfl
theorem q3568 : (Jvm.Cond.laysFinal "CoercedClassesModel" "CoercedClassesModel" "methodType" "[I") ∈ lw_all := lw_g (lw_at lw_m14 206 rfl) rfl
theorem q3569 : (Jvm.Cond.soleField "CoercedClassesModel" "methodType") ∈ lw_all := lw_g (lw_at lw_m14 207 rfl) rfl
theorem q3570 : (Jvm.Cond.laysFinal "CoercedClassesModel" "CoercedClassesModel" "instanceDecl" "[I") ∈ lw_all := lw_g (lw_at lw_m14 208 rfl) rfl
theorem q3571 : (Jvm.Cond.soleField "CoercedClassesModel" "instanceDecl") ∈ lw_all := lw_g (lw_at lw_m14 209 rfl) rfl
theorem q3572 : (Jvm.Cond.laysFinal "CoercedClassesModel" "CoercedClassesModel" "instanceClass" "[I") ∈ lw_all := lw_g (lw_at lw_m14 210 rfl) rfl
theorem q3573 : (Jvm.Cond.soleField "CoercedClassesModel" "instanceClass") ∈ lw_all := lw_g (lw_at lw_m14 211 rfl) rfl
theorem q3574 : (Jvm.Cond.laysFinal "CoercedClassesModel" "CoercedClassesModel" "instanceCon" "[I") ∈ lw_all := lw_g (lw_at lw_m14 212 rfl) rfl
theorem q3575 : (Jvm.Cond.soleField "CoercedClassesModel" "instanceCon") ∈ lw_all := lw_g (lw_at lw_m14 213 rfl) rfl
theorem q3576 : (Jvm.Cond.laysFinal "CoercedClassesModel" "CoercedClassesModel" "headMany" "[I") ∈ lw_all := lw_g (lw_at lw_m14 214 rfl) rfl
theorem q3577 : (Jvm.Cond.soleField "CoercedClassesModel" "headMany") ∈ lw_all := lw_g (lw_at lw_m14 215 rfl) rfl
theorem q3578 : (Jvm.Cond.laysFinal "CoercedClassesModel" "CoercedClassesModel" "headName" "[I") ∈ lw_all := lw_g (lw_at lw_m14 216 rfl) rfl
theorem q3579 : (Jvm.Cond.soleField "CoercedClassesModel" "headName") ∈ lw_all := lw_g (lw_at lw_m14 217 rfl) rfl
theorem q3580 : (Jvm.Cond.laysFinal "CoercedClassesModel" "CoercedClassesModel" "conditionMany" "[I") ∈ lw_all := lw_g (lw_at lw_m14 218 rfl) rfl
theorem q3581 : (Jvm.Cond.soleField "CoercedClassesModel" "conditionMany") ∈ lw_all := lw_g (lw_at lw_m14 219 rfl) rfl
theorem q3582 : (Jvm.Cond.laysFinal "CoercedClassesModel" "CoercedClassesModel" "conditionClass" "[I") ∈ lw_all := lw_g (lw_at lw_m14 220 rfl) rfl
theorem q3583 : (Jvm.Cond.soleField "CoercedClassesModel" "conditionClass") ∈ lw_all := lw_g (lw_at lw_m14 221 rfl) rfl
theorem q3584 : (Jvm.Cond.laysFinal "CoercedClassesModel" "CoercedClassesModel" "conditionName" "[I") ∈ lw_all := lw_g (lw_at lw_m14 222 rfl) rfl
theorem q3585 : (Jvm.Cond.soleField "CoercedClassesModel" "conditionName") ∈ lw_all := lw_g (lw_at lw_m14 223 rfl) rfl
theorem q3586 : (Jvm.Cond.laysFinal "CoercedClassesModel" "CoercedClassesModel" "familyType" "[I") ∈ lw_all := lw_g (lw_at lw_m14 224 rfl) rfl
theorem q3587 : (Jvm.Cond.soleField "CoercedClassesModel" "familyType") ∈ lw_all := lw_g (lw_at lw_m14 225 rfl) rfl
theorem q3588 : (Jvm.Cond.laysFinal "CoercedClassesModel" "CoercedClassesModel" "lineEx" "[I") ∈ lw_all := lw_g (lw_at lw_m14 226 rfl) rfl
theorem q3589 : (Jvm.Cond.soleField "CoercedClassesModel" "lineEx") ∈ lw_all := lw_g (lw_at lw_m14 227 rfl) rfl
theorem q3590 : (Jvm.Cond.laysFinal "CoercedClassesModel" "CoercedClassesModel" "functionDecl" "[I") ∈ lw_all := lw_g (lw_at lw_m14 228 rfl) rfl
theorem q3591 : (Jvm.Cond.soleField "CoercedClassesModel" "functionDecl") ∈ lw_all := lw_g (lw_at lw_m14 229 rfl) rfl
theorem q3592 : (Jvm.Cond.laysFinal "CoercedClassesModel" "CoercedClassesModel" "functionName" "[I") ∈ lw_all := lw_g (lw_at lw_m14 230 rfl) rfl
theorem q3593 : (Jvm.Cond.soleField "CoercedClassesModel" "functionName") ∈ lw_all := lw_g (lw_at lw_m14 231 rfl) rfl
theorem q3594 : (Jvm.Cond.laysFinal "CoercedClassesModel" "CoercedClassesModel" "allMany" "[I") ∈ lw_all := lw_g (lw_at lw_m14 232 rfl) rfl
theorem q3595 : (Jvm.Cond.soleField "CoercedClassesModel" "allMany") ∈ lw_all := lw_g (lw_at lw_m14 233 rfl) rfl
theorem q3596 : (Jvm.Cond.laysFinal "CoercedClassesModel" "CoercedClassesModel" "allName" "[I") ∈ lw_all := lw_g (lw_at lw_m14 234 rfl) rfl
theorem q3597 : (Jvm.Cond.soleField "CoercedClassesModel" "allName") ∈ lw_all := lw_g (lw_at lw_m14 235 rfl) rfl
theorem q3598 : (Jvm.Cond.laysFinal "CoercedClassesModel" "CoercedClassesModel" "givenMany" "[I") ∈ lw_all := lw_g (lw_at lw_m14 236 rfl) rfl
theorem q3599 : (Jvm.Cond.soleField "CoercedClassesModel" "givenMany") ∈ lw_all := lw_g (lw_at lw_m14 237 rfl) rfl
theorem q3600 : (Jvm.Cond.laysFinal "CoercedClassesModel" "CoercedClassesModel" "givenClass" "[I") ∈ lw_all := lw_g (lw_at lw_m14 238 rfl) rfl
theorem q3601 : (Jvm.Cond.soleField "CoercedClassesModel" "givenClass") ∈ lw_all := lw_g (lw_at lw_m14 239 rfl) rfl
theorem q3602 : (Jvm.Cond.laysFinal "CoercedClassesModel" "CoercedClassesModel" "givenName" "[I") ∈ lw_all := lw_g (lw_at lw_m15 0 rfl) rfl
theorem q3603 : (Jvm.Cond.soleField "CoercedClassesModel" "givenName") ∈ lw_all := lw_g (lw_at lw_m15 1 rfl) rfl
theorem q3604 : (Jvm.Cond.laysFinal "CoercedClassesModel" "CoercedClassesModel" "givenType" "[I") ∈ lw_all := lw_g (lw_at lw_m15 2 rfl) rfl
theorem q3605 : (Jvm.Cond.soleField "CoercedClassesModel" "givenType") ∈ lw_all := lw_g (lw_at lw_m15 3 rfl) rfl
theorem q3606 : (Jvm.Cond.laysFinal "CoercedClassesModel" "CoercedClassesModel" "functionType" "[I") ∈ lw_all := lw_g (lw_at lw_m15 4 rfl) rfl
theorem q3607 : (Jvm.Cond.soleField "CoercedClassesModel" "functionType") ∈ lw_all := lw_g (lw_at lw_m15 5 rfl) rfl
theorem q3608 : (Jvm.Cond.lays "CoercedClassesModel" "CoercedClassesModel" "functionsTold" "I") ∈ lw_all := lw_g (lw_at lw_m15 6 rfl) rfl
theorem q3609 : (Jvm.Cond.soleField "CoercedClassesModel" "functionsTold") ∈ lw_all := lw_g (lw_at lw_m15 7 rfl) rfl
theorem q3610 : (Jvm.Cond.laysFinal "CoercedClassesModel" "CoercedClassesModel" "greatTold" "[Z") ∈ lw_all := lw_g (lw_at lw_m15 8 rfl) rfl
theorem q3611 : (Jvm.Cond.soleField "CoercedClassesModel" "greatTold") ∈ lw_all := lw_g (lw_at lw_m15 9 rfl) rfl
theorem q3612 : (Jvm.Cond.laysFinal "CoercedClassesModel" "CoercedClassesModel" "termTold" "[Z") ∈ lw_all := lw_g (lw_at lw_m15 10 rfl) rfl
theorem q3613 : (Jvm.Cond.soleField "CoercedClassesModel" "termTold") ∈ lw_all := lw_g (lw_at lw_m15 11 rfl) rfl
theorem q3614 : (Jvm.Cond.laysFinal "CoercedClassesModel" "CoercedClassesModel" "scope" "[I") ∈ lw_all := lw_g (lw_at lw_m15 12 rfl) rfl
theorem q3615 : (Jvm.Cond.soleField "CoercedClassesModel" "scope") ∈ lw_all := lw_g (lw_at lw_m15 13 rfl) rfl
theorem q3616 : (Jvm.Cond.laysFinal "CoercedClassesModel" "CoercedClassesModel" "bound" "[I") ∈ lw_all := lw_g (lw_at lw_m15 14 rfl) rfl
theorem q3617 : (Jvm.Cond.soleField "CoercedClassesModel" "bound") ∈ lw_all := lw_g (lw_at lw_m15 15 rfl) rfl
theorem q3618 : (Jvm.Cond.lays "CoercedClassesModel" "CoercedClassesModel" "scoped" "I") ∈ lw_all := lw_g (lw_at lw_m15 16 rfl) rfl
theorem q3619 : (Jvm.Cond.soleField "CoercedClassesModel" "scoped") ∈ lw_all := lw_g (lw_at lw_m15 17 rfl) rfl
theorem q3620 : (Jvm.Cond.lays "CoercedClassesModel" "CoercedClassesModel" "bounds" "I") ∈ lw_all := lw_g (lw_at lw_m15 18 rfl) rfl
theorem q3621 : (Jvm.Cond.soleField "CoercedClassesModel" "bounds") ∈ lw_all := lw_g (lw_at lw_m15 19 rfl) rfl
theorem q3622 : (Jvm.Cond.lays "CoercedClassesModel" "CoercedClassesModel" "envMany" "I") ∈ lw_all := lw_g (lw_at lw_m15 20 rfl) rfl
theorem q3623 : (Jvm.Cond.soleField "CoercedClassesModel" "envMany") ∈ lw_all := lw_g (lw_at lw_m15 21 rfl) rfl
theorem q3624 : (Jvm.Cond.laysFinal "CoercedClassesModel" "CoercedClassesModel" "envClass" "[I") ∈ lw_all := lw_g (lw_at lw_m15 22 rfl) rfl
theorem q3625 : (Jvm.Cond.soleField "CoercedClassesModel" "envClass") ∈ lw_all := lw_g (lw_at lw_m15 23 rfl) rfl
theorem q3626 : (Jvm.Cond.laysFinal "CoercedClassesModel" "CoercedClassesModel" "envName" "[I") ∈ lw_all := lw_g (lw_at lw_m15 24 rfl) rfl
theorem q3627 : (Jvm.Cond.soleField "CoercedClassesModel" "envName") ∈ lw_all := lw_g (lw_at lw_m15 25 rfl) rfl
theorem q3628 : (Jvm.Cond.laysFinal "CoercedClassesModel" "CoercedClassesModel" "envType" "[I") ∈ lw_all := lw_g (lw_at lw_m15 26 rfl) rfl
theorem q3629 : (Jvm.Cond.soleField "CoercedClassesModel" "envType") ∈ lw_all := lw_g (lw_at lw_m15 27 rfl) rfl
theorem q3630 : (Jvm.Cond.lays "CoercedClassesModel" "CoercedClassesModel" "asked1" "I") ∈ lw_all := lw_g (lw_at lw_m15 28 rfl) rfl
theorem q3631 : (Jvm.Cond.soleField "CoercedClassesModel" "asked1") ∈ lw_all := lw_g (lw_at lw_m15 29 rfl) rfl
theorem q3632 : (Jvm.Cond.lays "CoercedClassesModel" "CoercedClassesModel" "askedAll" "I") ∈ lw_all := lw_g (lw_at lw_m15 30 rfl) rfl
theorem q3633 : (Jvm.Cond.soleField "CoercedClassesModel" "askedAll") ∈ lw_all := lw_g (lw_at lw_m15 31 rfl) rfl
theorem q3634 : (Jvm.Cond.lays "CoercedClassesModel" "CoercedClassesModel" "typesBegun" "I") ∈ lw_all := lw_g (lw_at lw_m15 32 rfl) rfl
theorem q3635 : (Jvm.Cond.soleField "CoercedClassesModel" "typesBegun") ∈ lw_all := lw_g (lw_at lw_m15 33 rfl) rfl
theorem q3636 : (Jvm.Cond.lays "CoercedClassesModel" "CoercedClassesModel" "isOver" "Z") ∈ lw_all := lw_g (lw_at lw_m15 34 rfl) rfl
theorem q3637 : (Jvm.Cond.soleField "CoercedClassesModel" "isOver") ∈ lw_all := lw_g (lw_at lw_m15 35 rfl) rfl
theorem q3638 : (Jvm.Cond.lays "CoercedClassesModel" "CoercedClassesModel" "isTold" "Z") ∈ lw_all := lw_g (lw_at lw_m15 36 rfl) rfl
theorem q3639 : (Jvm.Cond.soleField "CoercedClassesModel" "isTold") ∈ lw_all := lw_g (lw_at lw_m15 37 rfl) rfl
theorem q3640 : (Jvm.Cond.laysFinal "CoercedClassesModel" "CoercedClassesModel" "putName" "[I") ∈ lw_all := lw_g (lw_at lw_m15 38 rfl) rfl
theorem q3641 : (Jvm.Cond.soleField "CoercedClassesModel" "putName") ∈ lw_all := lw_g (lw_at lw_m15 39 rfl) rfl
theorem q3642 : (Jvm.Cond.laysFinal "CoercedClassesModel" "CoercedClassesModel" "putThing" "[I") ∈ lw_all := lw_g (lw_at lw_m15 40 rfl) rfl
theorem q3643 : (Jvm.Cond.soleField "CoercedClassesModel" "putThing") ∈ lw_all := lw_g (lw_at lw_m15 41 rfl) rfl
theorem q3644 : (Jvm.Cond.lays "CoercedClassesModel" "CoercedClassesModel" "puts" "I") ∈ lw_all := lw_g (lw_at lw_m15 42 rfl) rfl
theorem q3645 : (Jvm.Cond.soleField "CoercedClassesModel" "puts") ∈ lw_all := lw_g (lw_at lw_m15 43 rfl) rfl
theorem q3646 : (Jvm.Cond.laysFinal "CoercedClassesModel" "CoercedClassesModel" "nodeOf" "[I") ∈ lw_all := lw_g (lw_at lw_m15 44 rfl) rfl
theorem q3647 : (Jvm.Cond.soleField "CoercedClassesModel" "nodeOf") ∈ lw_all := lw_g (lw_at lw_m15 45 rfl) rfl
theorem q3648 : (Jvm.Cond.laysFinal "CoercedClassesModel" "CoercedClassesModel" "nodeCast" "[I") ∈ lw_all := lw_g (lw_at lw_m15 46 rfl) rfl
theorem q3649 : (Jvm.Cond.soleField "CoercedClassesModel" "nodeCast") ∈ lw_all := lw_g (lw_at lw_m15 47 rfl) rfl
theorem q3650 : (Jvm.Cond.laysFinal "CoercedClassesModel" "CoercedClassesModel" "spine" "[I") ∈ lw_all := lw_g (lw_at lw_m15 48 rfl) rfl
theorem q3651 : (Jvm.Cond.soleField "CoercedClassesModel" "spine") ∈ lw_all := lw_g (lw_at lw_m15 49 rfl) rfl
theorem q3652 : (Jvm.Cond.laysFinal "CoercedClassesModel" "CoercedClassesModel" "boundType" "[I") ∈ lw_all := lw_g (lw_at lw_m15 50 rfl) rfl
theorem q3653 : (Jvm.Cond.soleField "CoercedClassesModel" "boundType") ∈ lw_all := lw_g (lw_at lw_m15 51 rfl) rfl
theorem q3654 : (Jvm.Cond.lays "CoercedClassesModel" "CoercedClassesModel" "spined" "I") ∈ lw_all := lw_g (lw_at lw_m15 52 rfl) rfl
theorem q3655 : (Jvm.Cond.soleField "CoercedClassesModel" "spined") ∈ lw_all := lw_g (lw_at lw_m15 53 rfl) rfl
theorem q3656 : (Jvm.Cond.lays "CoercedClassesModel" "CoercedClassesModel" "intType" "I") ∈ lw_all := lw_g (lw_at lw_m15 54 rfl) rfl
theorem q3657 : (Jvm.Cond.soleField "CoercedClassesModel" "intType") ∈ lw_all := lw_g (lw_at lw_m15 55 rfl) rfl
theorem q3658 : (Jvm.Cond.lays "CoercedClassesModel" "CoercedClassesModel" "boolType" "I") ∈ lw_all := lw_g (lw_at lw_m15 56 rfl) rfl
theorem q3659 : (Jvm.Cond.soleField "CoercedClassesModel" "boolType") ∈ lw_all := lw_g (lw_at lw_m15 57 rfl) rfl
theorem q3660 : (Jvm.Cond.lays "CoercedClassesModel" "CoercedClassesModel" "nameA" "I") ∈ lw_all := lw_g (lw_at lw_m15 58 rfl) rfl
theorem q3661 : (Jvm.Cond.soleField "CoercedClassesModel" "nameA") ∈ lw_all := lw_g (lw_at lw_m15 59 rfl) rfl
theorem q3662 : (Jvm.Cond.lays "CoercedClassesModel" "CoercedClassesModel" "nameB" "I") ∈ lw_all := lw_g (lw_at lw_m15 60 rfl) rfl
theorem q3663 : (Jvm.Cond.soleField "CoercedClassesModel" "nameB") ∈ lw_all := lw_g (lw_at lw_m15 61 rfl) rfl
theorem q3664 : (Jvm.Cond.laysFinal "CoercedClassesModel" "CoercedClassesModel" "alwaysType" "[I") ∈ lw_all := lw_g (lw_at lw_m15 62 rfl) rfl
theorem q3665 : (Jvm.Cond.soleField "CoercedClassesModel" "alwaysType") ∈ lw_all := lw_g (lw_at lw_m15 63 rfl) rfl
theorem q3666 : (Jvm.Cond.lays "CoercedClassesModel" "CoercedClassesModel" "gClass" "I") ∈ lw_all := lw_g (lw_at lw_m15 64 rfl) rfl
theorem q3667 : (Jvm.Cond.soleField "CoercedClassesModel" "gClass") ∈ lw_all := lw_g (lw_at lw_m15 65 rfl) rfl
theorem q3668 : (Jvm.Cond.lays "CoercedClassesModel" "CoercedClassesModel" "gFor" "I") ∈ lw_all := lw_g (lw_at lw_m15 66 rfl) rfl
theorem q3669 : (Jvm.Cond.soleField "CoercedClassesModel" "gFor") ∈ lw_all := lw_g (lw_at lw_m15 67 rfl) rfl
theorem q3670 : (Jvm.Cond.lays "CoercedClassesModel" "CoercedClassesModel" "gType" "I") ∈ lw_all := lw_g (lw_at lw_m15 68 rfl) rfl
theorem q3671 : (Jvm.Cond.soleField "CoercedClassesModel" "gType") ∈ lw_all := lw_g (lw_at lw_m15 69 rfl) rfl
theorem q3672 : (Jvm.Cond.laysFinal "CoercedClassesModel" "CoercedClassesModel" "terms" "[B") ∈ lw_all := lw_g (lw_at lw_m15 70 rfl) rfl
theorem q3673 : (Jvm.Cond.soleField "CoercedClassesModel" "terms") ∈ lw_all := lw_g (lw_at lw_m15 71 rfl) rfl
theorem q3674 : (Jvm.Cond.laysFinal "CoercedClassesModel" "CoercedClassesModel" "termStart" "[I") ∈ lw_all := lw_g (lw_at lw_m15 72 rfl) rfl
theorem q3675 : (Jvm.Cond.soleField "CoercedClassesModel" "termStart") ∈ lw_all := lw_g (lw_at lw_m15 73 rfl) rfl
theorem q3676 : (Jvm.Cond.laysFinal "CoercedClassesModel" "CoercedClassesModel" "termSize" "[I") ∈ lw_all := lw_g (lw_at lw_m15 74 rfl) rfl
theorem q3677 : (Jvm.Cond.soleField "CoercedClassesModel" "termSize") ∈ lw_all := lw_g (lw_at lw_m15 75 rfl) rfl
theorem q3678 : (Jvm.Cond.lays "CoercedClassesModel" "CoercedClassesModel" "told" "I") ∈ lw_all := lw_g (lw_at lw_m15 76 rfl) rfl
theorem q3679 : (Jvm.Cond.soleField "CoercedClassesModel" "told") ∈ lw_all := lw_g (lw_at lw_m15 77 rfl) rfl
theorem q3680 : (Jvm.Cond.lays "CoercedClassesModel" "CoercedClassesModel" "limit" "I") ∈ lw_all := lw_g (lw_at lw_m15 78 rfl) rfl
theorem q3681 : (Jvm.Cond.soleField "CoercedClassesModel" "limit") ∈ lw_all := lw_g (lw_at lw_m15 79 rfl) rfl
theorem q3682 : (Jvm.Cond.laysFinal "CoercedClassesModel" "CoercedClassesModel" "aroundOf" "[I") ∈ lw_all := lw_g (lw_at lw_m15 80 rfl) rfl
theorem q3683 : (Jvm.Cond.soleField "CoercedClassesModel" "aroundOf") ∈ lw_all := lw_g (lw_at lw_m15 81 rfl) rfl
theorem q3684 : (Jvm.Cond.laysFinal "CoercedClassesModel" "CoercedClassesModel" "deepOf" "[I") ∈ lw_all := lw_g (lw_at lw_m15 82 rfl) rfl
theorem q3685 : (Jvm.Cond.soleField "CoercedClassesModel" "deepOf") ∈ lw_all := lw_g (lw_at lw_m15 83 rfl) rfl
theorem q3686 : (Jvm.Cond.laysFinal "CoercedClassesModel" "CoercedClassesModel" "boundTo" "[J") ∈ lw_all := lw_g (lw_at lw_m15 84 rfl) rfl
theorem q3687 : (Jvm.Cond.soleField "CoercedClassesModel" "boundTo") ∈ lw_all := lw_g (lw_at lw_m15 85 rfl) rfl
theorem q3688 : (Jvm.Cond.lays "CoercedClassesModel" "CoercedClassesModel" "bindings" "I") ∈ lw_all := lw_g (lw_at lw_m15 86 rfl) rfl
theorem q3689 : (Jvm.Cond.soleField "CoercedClassesModel" "bindings") ∈ lw_all := lw_g (lw_at lw_m15 87 rfl) rfl
theorem q3690 : (Jvm.Cond.laysFinal "CoercedClassesModel" "CoercedClassesModel" "cellOne" "[J") ∈ lw_all := lw_g (lw_at lw_m15 88 rfl) rfl
theorem q3691 : (Jvm.Cond.soleField "CoercedClassesModel" "cellOne") ∈ lw_all := lw_g (lw_at lw_m15 89 rfl) rfl
theorem q3692 : (Jvm.Cond.laysFinal "CoercedClassesModel" "CoercedClassesModel" "cellTwo" "[J") ∈ lw_all := lw_g (lw_at lw_m15 90 rfl) rfl
theorem q3693 : (Jvm.Cond.soleField "CoercedClassesModel" "cellTwo") ∈ lw_all := lw_g (lw_at lw_m15 91 rfl) rfl
theorem q3694 : (Jvm.Cond.laysFinal "CoercedClassesModel" "CoercedClassesModel" "cellNode" "[I") ∈ lw_all := lw_g (lw_at lw_m15 92 rfl) rfl
theorem q3695 : (Jvm.Cond.soleField "CoercedClassesModel" "cellNode") ∈ lw_all := lw_g (lw_at lw_m15 93 rfl) rfl
theorem q3696 : (Jvm.Cond.laysFinal "CoercedClassesModel" "CoercedClassesModel" "cellEnv" "[I") ∈ lw_all := lw_g (lw_at lw_m15 94 rfl) rfl
theorem q3697 : (Jvm.Cond.soleField "CoercedClassesModel" "cellEnv") ∈ lw_all := lw_g (lw_at lw_m15 95 rfl) rfl
theorem q3698 : (Jvm.Cond.laysFinal "CoercedClassesModel" "CoercedClassesModel" "cellOwner" "[I") ∈ lw_all := lw_g (lw_at lw_m15 96 rfl) rfl
theorem q3699 : (Jvm.Cond.soleField "CoercedClassesModel" "cellOwner") ∈ lw_all := lw_g (lw_at lw_m15 97 rfl) rfl
theorem q3700 : (Jvm.Cond.laysFinal "CoercedClassesModel" "CoercedClassesModel" "cellRow" "[J") ∈ lw_all := lw_g (lw_at lw_m15 98 rfl) rfl
theorem q3701 : (Jvm.Cond.soleField "CoercedClassesModel" "cellRow") ∈ lw_all := lw_g (lw_at lw_m15 99 rfl) rfl
theorem q3702 : (Jvm.Cond.lays "CoercedClassesModel" "CoercedClassesModel" "things" "I") ∈ lw_all := lw_g (lw_at lw_m15 100 rfl) rfl
theorem q3703 : (Jvm.Cond.soleField "CoercedClassesModel" "things") ∈ lw_all := lw_g (lw_at lw_m15 101 rfl) rfl
theorem q3704 : (Jvm.Cond.laysFinal "CoercedClassesModel" "CoercedClassesModel" "dictionaryOf" "[I") ∈ lw_all := lw_g (lw_at lw_m15 102 rfl) rfl
theorem q3705 : (Jvm.Cond.soleField "CoercedClassesModel" "dictionaryOf") ∈ lw_all := lw_g (lw_at lw_m15 103 rfl) rfl
theorem q3706 : (Jvm.Cond.laysFinal "CoercedClassesModel" "CoercedClassesModel" "dictionaryRow" "[J") ∈ lw_all := lw_g (lw_at lw_m15 104 rfl) rfl
theorem q3707 : (Jvm.Cond.soleField "CoercedClassesModel" "dictionaryRow") ∈ lw_all := lw_g (lw_at lw_m15 105 rfl) rfl
theorem q3708 : (Jvm.Cond.lays "CoercedClassesModel" "CoercedClassesModel" "dictionaries" "I") ∈ lw_all := lw_g (lw_at lw_m15 106 rfl) rfl
theorem q3709 : (Jvm.Cond.soleField "CoercedClassesModel" "dictionaries") ∈ lw_all := lw_g (lw_at lw_m15 107 rfl) rfl
theorem q3710 : (Jvm.Cond.laysFinal "CoercedClassesModel" "CoercedClassesModel" "frameKind" "[I") ∈ lw_all := lw_g (lw_at lw_m15 108 rfl) rfl
theorem q3711 : (Jvm.Cond.soleField "CoercedClassesModel" "frameKind") ∈ lw_all := lw_g (lw_at lw_m15 109 rfl) rfl
theorem q3712 : (Jvm.Cond.laysFinal "CoercedClassesModel" "CoercedClassesModel" "frameNode" "[I") ∈ lw_all := lw_g (lw_at lw_m15 110 rfl) rfl
theorem q3713 : (Jvm.Cond.soleField "CoercedClassesModel" "frameNode") ∈ lw_all := lw_g (lw_at lw_m15 111 rfl) rfl
theorem q3714 : (Jvm.Cond.laysFinal "CoercedClassesModel" "CoercedClassesModel" "frameEnv" "[I") ∈ lw_all := lw_g (lw_at lw_m15 112 rfl) rfl
theorem q3715 : (Jvm.Cond.soleField "CoercedClassesModel" "frameEnv") ∈ lw_all := lw_g (lw_at lw_m15 113 rfl) rfl
theorem q3716 : (Jvm.Cond.laysFinal "CoercedClassesModel" "CoercedClassesModel" "frameOwner" "[I") ∈ lw_all := lw_g (lw_at lw_m15 114 rfl) rfl
theorem q3717 : (Jvm.Cond.soleField "CoercedClassesModel" "frameOwner") ∈ lw_all := lw_g (lw_at lw_m15 115 rfl) rfl
theorem q3718 : (Jvm.Cond.laysFinal "CoercedClassesModel" "CoercedClassesModel" "frameThing" "[J") ∈ lw_all := lw_g (lw_at lw_m15 116 rfl) rfl
theorem q3719 : (Jvm.Cond.soleField "CoercedClassesModel" "frameThing") ∈ lw_all := lw_g (lw_at lw_m15 117 rfl) rfl
theorem q3720 : (Jvm.Cond.laysFinal "CoercedClassesModel" "CoercedClassesModel" "frameRow" "[J") ∈ lw_all := lw_g (lw_at lw_m15 118 rfl) rfl
theorem q3721 : (Jvm.Cond.soleField "CoercedClassesModel" "frameRow") ∈ lw_all := lw_g (lw_at lw_m15 119 rfl) rfl
theorem q3722 : (Jvm.Cond.lays "CoercedClassesModel" "CoercedClassesModel" "frames" "I") ∈ lw_all := lw_g (lw_at lw_m15 120 rfl) rfl
theorem q3723 : (Jvm.Cond.soleField "CoercedClassesModel" "frames") ∈ lw_all := lw_g (lw_at lw_m15 121 rfl) rfl
theorem q3724 : (Jvm.Cond.lays "CoercedClassesModel" "CoercedClassesModel" "mostFrames" "I") ∈ lw_all := lw_g (lw_at lw_m15 122 rfl) rfl
theorem q3725 : (Jvm.Cond.soleField "CoercedClassesModel" "mostFrames") ∈ lw_all := lw_g (lw_at lw_m15 123 rfl) rfl
theorem q3726 : (Jvm.Cond.lays "CoercedClassesModel" "CoercedClassesModel" "state" "I") ∈ lw_all := lw_g (lw_at lw_m15 124 rfl) rfl
theorem q3727 : (Jvm.Cond.soleField "CoercedClassesModel" "state") ∈ lw_all := lw_g (lw_at lw_m15 125 rfl) rfl
theorem q3728 : (Jvm.Cond.lays "CoercedClassesModel" "CoercedClassesModel" "steps" "I") ∈ lw_all := lw_g (lw_at lw_m15 126 rfl) rfl
theorem q3729 : (Jvm.Cond.soleField "CoercedClassesModel" "steps") ∈ lw_all := lw_g (lw_at lw_m15 127 rfl) rfl
theorem q3730 : (Jvm.Cond.lays "CoercedClassesModel" "CoercedClassesModel" "cells" "I") ∈ lw_all := lw_g (lw_at lw_m15 128 rfl) rfl
theorem q3731 : (Jvm.Cond.soleField "CoercedClassesModel" "cells") ∈ lw_all := lw_g (lw_at lw_m15 129 rfl) rfl
theorem q3732 : (Jvm.Cond.lays "CoercedClassesModel" "CoercedClassesModel" "shown" "I") ∈ lw_all := lw_g (lw_at lw_m15 130 rfl) rfl
theorem q3733 : (Jvm.Cond.soleField "CoercedClassesModel" "shown") ∈ lw_all := lw_g (lw_at lw_m15 131 rfl) rfl
theorem q3734 : (Jvm.Cond.laysFinal "CoercedClassesModel" "CoercedClassesModel" "showing" "[B") ∈ lw_all := lw_g (lw_at lw_m15 132 rfl) rfl
theorem q3735 : (Jvm.Cond.soleField "CoercedClassesModel" "showing") ∈ lw_all := lw_g (lw_at lw_m15 133 rfl) rfl
theorem q3736 : (Jvm.Cond.lays "CoercedClassesModel" "CoercedClassesModel" "nextNode" "I") ∈ lw_all := lw_g (lw_at lw_m15 134 rfl) rfl
theorem q3737 : (Jvm.Cond.soleField "CoercedClassesModel" "nextNode") ∈ lw_all := lw_g (lw_at lw_m15 135 rfl) rfl
theorem q3738 : (Jvm.Cond.lays "CoercedClassesModel" "CoercedClassesModel" "nextEnv" "I") ∈ lw_all := lw_g (lw_at lw_m15 136 rfl) rfl
theorem q3739 : (Jvm.Cond.soleField "CoercedClassesModel" "nextEnv") ∈ lw_all := lw_g (lw_at lw_m15 137 rfl) rfl
theorem q3740 : (Jvm.Cond.lays "CoercedClassesModel" "CoercedClassesModel" "nextOwner" "I") ∈ lw_all := lw_g (lw_at lw_m15 138 rfl) rfl
theorem q3741 : (Jvm.Cond.soleField "CoercedClassesModel" "nextOwner") ∈ lw_all := lw_g (lw_at lw_m15 139 rfl) rfl
theorem q3742 : (Jvm.Cond.lays "CoercedClassesModel" "CoercedClassesModel" "askRoot" "I") ∈ lw_all := lw_g (lw_at lw_m15 140 rfl) rfl
theorem q3743 : (Jvm.Cond.soleField "CoercedClassesModel" "askRoot") ∈ lw_all := lw_g (lw_at lw_m15 141 rfl) rfl
theorem q3744 : (Jvm.Cond.lays "CoercedClassesModel" "CoercedClassesModel" "nextRow" "J") ∈ lw_all := lw_g (lw_at lw_m15 142 rfl) rfl
theorem q3745 : (Jvm.Cond.soleField "CoercedClassesModel" "nextRow") ∈ lw_all := lw_g (lw_at lw_m15 143 rfl) rfl
theorem q3746 : (Jvm.Cond.laysFinal "CoercedClassesModel" "CoercedClassesModel" "givenAsOf" "[I") ∈ lw_all := lw_g (lw_at lw_m15 144 rfl) rfl
theorem q3747 : (Jvm.Cond.soleField "CoercedClassesModel" "givenAsOf") ∈ lw_all := lw_g (lw_at lw_m15 145 rfl) rfl
theorem q3748 : (Jvm.Cond.laysFinal "CoercedClassesModel" "CoercedClassesModel" "givenOut" "[I") ∈ lw_all := lw_g (lw_at lw_m15 146 rfl) rfl
theorem q3749 : (Jvm.Cond.soleField "CoercedClassesModel" "givenOut") ∈ lw_all := lw_g (lw_at lw_m15 147 rfl) rfl
theorem q3750 : (Jvm.Cond.lays "CoercedClassesModel" "CoercedClassesModel" "runs" "I") ∈ lw_all := lw_g (lw_at lw_m15 148 rfl) rfl
theorem q3751 : (Jvm.Cond.soleField "CoercedClassesModel" "runs") ∈ lw_all := lw_g (lw_at lw_m15 149 rfl) rfl
theorem q3752 : (Jvm.Cond.laysFinal "CoercedClassesModel" "CoercedClassesModel" "wantClass" "[I") ∈ lw_all := lw_g (lw_at lw_m15 150 rfl) rfl
theorem q3753 : (Jvm.Cond.soleField "CoercedClassesModel" "wantClass") ∈ lw_all := lw_g (lw_at lw_m15 151 rfl) rfl
theorem q3754 : (Jvm.Cond.laysFinal "CoercedClassesModel" "CoercedClassesModel" "wantFrom" "[I") ∈ lw_all := lw_g (lw_at lw_m15 152 rfl) rfl
theorem q3755 : (Jvm.Cond.soleField "CoercedClassesModel" "wantFrom") ∈ lw_all := lw_g (lw_at lw_m15 153 rfl) rfl
theorem q3756 : (Jvm.Cond.laysFinal "CoercedClassesModel" "CoercedClassesModel" "wantInstance" "[I") ∈ lw_all := lw_g (lw_at lw_m15 154 rfl) rfl
theorem q3757 : (Jvm.Cond.soleField "CoercedClassesModel" "wantInstance") ∈ lw_all := lw_g (lw_at lw_m15 155 rfl) rfl
theorem q3758 : (Jvm.Cond.laysFinal "CoercedClassesModel" "CoercedClassesModel" "wantType" "[I") ∈ lw_all := lw_g (lw_at lw_m15 156 rfl) rfl
theorem q3759 : (Jvm.Cond.soleField "CoercedClassesModel" "wantType") ∈ lw_all := lw_g (lw_at lw_m15 157 rfl) rfl
theorem q3760 : (Jvm.Cond.laysFinal "CoercedClassesModel" "CoercedClassesModel" "wantOwner" "[I") ∈ lw_all := lw_g (lw_at lw_m15 158 rfl) rfl
theorem q3761 : (Jvm.Cond.soleField "CoercedClassesModel" "wantOwner") ∈ lw_all := lw_g (lw_at lw_m15 159 rfl) rfl
theorem q3762 : (Jvm.Cond.laysFinal "CoercedClassesModel" "CoercedClassesModel" "wantRow" "[J") ∈ lw_all := lw_g (lw_at lw_m15 160 rfl) rfl
theorem q3763 : (Jvm.Cond.soleField "CoercedClassesModel" "wantRow") ∈ lw_all := lw_g (lw_at lw_m15 161 rfl) rfl
theorem q3764 : (Jvm.Cond.laysFinal "CoercedClassesModel" "CoercedClassesModel" "wantDone" "[I") ∈ lw_all := lw_g (lw_at lw_m15 162 rfl) rfl
theorem q3765 : (Jvm.Cond.soleField "CoercedClassesModel" "wantDone") ∈ lw_all := lw_g (lw_at lw_m15 163 rfl) rfl
theorem q3766 : (Jvm.Cond.laysFinal "CoercedClassesModel" "CoercedClassesModel" "wantGot" "[I") ∈ lw_all := lw_g (lw_at lw_m15 164 rfl) rfl
theorem q3767 : (Jvm.Cond.soleField "CoercedClassesModel" "wantGot") ∈ lw_all := lw_g (lw_at lw_m15 165 rfl) rfl
theorem q3768 : (Jvm.Cond.lays "CoercedClassesModel" "CoercedClassesModel" "pending" "I") ∈ lw_all := lw_g (lw_at lw_m15 166 rfl) rfl
theorem q3769 : (Jvm.Cond.soleField "CoercedClassesModel" "pending") ∈ lw_all := lw_g (lw_at lw_m15 167 rfl) rfl
theorem q3770 : (Jvm.Cond.lays "CoercedClassesModel" "CoercedClassesModel" "programTokens" "I") ∈ lw_all := lw_g (lw_at lw_m15 168 rfl) rfl
theorem q3771 : (Jvm.Cond.soleField "CoercedClassesModel" "programTokens") ∈ lw_all := lw_g (lw_at lw_m15 169 rfl) rfl
theorem q3772 : (Jvm.Cond.lays "CoercedClassesModel" "CoercedClassesModel" "programNodes" "I") ∈ lw_all := lw_g (lw_at lw_m15 170 rfl) rfl
theorem q3773 : (Jvm.Cond.soleField "CoercedClassesModel" "programNodes") ∈ lw_all := lw_g (lw_at lw_m15 171 rfl) rfl
theorem q3774 : (Jvm.Cond.lays "CoercedClassesModel" "CoercedClassesModel" "programTypes" "I") ∈ lw_all := lw_g (lw_at lw_m15 172 rfl) rfl
theorem q3775 : (Jvm.Cond.soleField "CoercedClassesModel" "programTypes") ∈ lw_all := lw_g (lw_at lw_m15 173 rfl) rfl
theorem q3776 : (Jvm.Cond.lays "CoercedClassesModel" "CoercedClassesModel" "programNames" "I") ∈ lw_all := lw_g (lw_at lw_m15 174 rfl) rfl
theorem q3777 : (Jvm.Cond.soleField "CoercedClassesModel" "programNames") ∈ lw_all := lw_g (lw_at lw_m15 175 rfl) rfl
theorem q3778 : (Jvm.Cond.lays "CoercedClassesModel" "CoercedClassesModel" "askType" "I") ∈ lw_all := lw_g (lw_at lw_m15 176 rfl) rfl
theorem q3779 : (Jvm.Cond.soleField "CoercedClassesModel" "askType") ∈ lw_all := lw_g (lw_at lw_m15 177 rfl) rfl
theorem q3780 : (Jvm.Cond.lays "CoercedClassesModel" "CoercedClassesModel" "tells" "Z") ∈ lw_all := lw_g (lw_at lw_m15 178 rfl) rfl
theorem q3781 : (Jvm.Cond.soleField "CoercedClassesModel" "tells") ∈ lw_all := lw_g (lw_at lw_m15 179 rfl) rfl
theorem q3782 : (Jvm.Cond.lays "CoercedClassesModel" "CoercedClassesModel" "wantedByte" "I") ∈ lw_all := lw_g (lw_at lw_m15 180 rfl) rfl
theorem q3783 : (Jvm.Cond.soleField "CoercedClassesModel" "wantedByte") ∈ lw_all := lw_g (lw_at lw_m15 181 rfl) rfl
theorem q3784 : (Jvm.Cond.lays "CoercedClassesModel" "CoercedClassesModel" "foundByte" "I") ∈ lw_all := lw_g (lw_at lw_m15 182 rfl) rfl
theorem q3785 : (Jvm.Cond.soleField "CoercedClassesModel" "foundByte") ∈ lw_all := lw_g (lw_at lw_m15 183 rfl) rfl
theorem q3786 : (Jvm.Cond.superclass "CoercedClassesModel" "java/lang/Object") ∈ lw_all := lw_g (lw_at lw_m15 184 rfl) rfl
theorem q3789 : (Jvm.Cond.instanceMethod ({ cls := "CoercedClassesModel", name := "run", desc := "(I)I" } : Jvm.MethodName)) ∈ lw_all := lw_g (lw_at lw_m15 187 rfl) rfl
theorem q3790 : (Jvm.Cond.selects "CoercedClassesModel" ({ cls := "CoercedClassesModel", name := "run", desc := "(I)I" } : Jvm.MethodName) ({ cls := "CoercedClassesModel", name := "run", desc := "(I)I" } : Jvm.MethodName)) ∈ lw_all := lw_g (lw_at lw_m15 188 rfl) rfl
theorem q3791 : (Jvm.Cond.code ({ cls := "CoercedClassesModel", name := "run", desc := "(I)I" } : Jvm.MethodName) prog_46_method_131_code (3 : Nat) (Option.some Jvm.ClassFile.FieldType.int)) ∈ lw_all := lw_g (lw_at lw_m15 189 rfl) rfl
theorem q3792 : (Jvm.Cond.methodLink "CoercedClassesModel" (927 : Nat) ({ cls := "CoercedClassesModel", name := "step", desc := "(I)V" } : Jvm.MethodName)) ∈ lw_all := lw_g (lw_at lw_m15 190 rfl) rfl
theorem q3793 : (Jvm.Cond.privateMethod ({ cls := "CoercedClassesModel", name := "step", desc := "(I)V" } : Jvm.MethodName)) ∈ lw_tbl := lw_at lw_m15 191 rfl
theorem q3794 : (Jvm.Cond.instanceMethod ({ cls := "CoercedClassesModel", name := "step", desc := "(I)V" } : Jvm.MethodName)) ∈ lw_all := lw_g (lw_at lw_m15 192 rfl) rfl
theorem q3795 : (Jvm.Cond.code ({ cls := "CoercedClassesModel", name := "step", desc := "(I)V" } : Jvm.MethodName) prog_46_method_132_code (4 : Nat) (Option.none : Option Jvm.ClassFile.FieldType)) ∈ lw_all := lw_g (lw_at lw_m15 193 rfl) rfl
theorem q3796 : (Jvm.Cond.methodLink "CoercedClassesModel" (526 : Nat) ({ cls := "CoercedClassesModel", name := "nameAt", desc := "(I)I" } : Jvm.MethodName)) ∈ lw_all := lw_g (lw_at lw_m15 194 rfl) rfl
theorem q3797 : (Jvm.Cond.privateMethod ({ cls := "CoercedClassesModel", name := "nameAt", desc := "(I)I" } : Jvm.MethodName)) ∈ lw_tbl := lw_at lw_m15 195 rfl
theorem q3798 : (Jvm.Cond.instanceMethod ({ cls := "CoercedClassesModel", name := "nameAt", desc := "(I)I" } : Jvm.MethodName)) ∈ lw_all := lw_g (lw_at lw_m15 196 rfl) rfl
theorem q3799 : (Jvm.Cond.code ({ cls := "CoercedClassesModel", name := "nameAt", desc := "(I)I" } : Jvm.MethodName) prog_46_method_41_code (2 : Nat) (Option.some Jvm.ClassFile.FieldType.int)) ∈ lw_all := lw_g (lw_at lw_m15 197 rfl) rfl
theorem q3800 : (Jvm.Cond.methodLink "CoercedClassesModel" (930 : Nat) ({ cls := "CoercedClassesModel", name := "thing", desc := "(IJ)J" } : Jvm.MethodName)) ∈ lw_all := lw_g (lw_at lw_m15 198 rfl) rfl
theorem q3801 : (Jvm.Cond.static ({ cls := "CoercedClassesModel", name := "thing", desc := "(IJ)J" } : Jvm.MethodName)) ∈ lw_all := lw_g (lw_at lw_m15 199 rfl) rfl
theorem q3802 : (Jvm.Cond.code ({ cls := "CoercedClassesModel", name := "thing", desc := "(IJ)J" } : Jvm.MethodName) prog_46_method_118_code (3 : Nat) (Option.some Jvm.ClassFile.FieldType.long)) ∈ lw_all := lw_g (lw_at lw_m15 200 rfl) rfl
theorem q3803 : (Jvm.Cond.methodLink "CoercedClassesModel" (934 : Nat) ({ cls := "CoercedClassesModel", name := "comes", desc := "(J)V" } : Jvm.MethodName)) ∈ lw_all := lw_g (lw_at lw_m15 201 rfl) rfl
theorem q3804 : (Jvm.Cond.privateMethod ({ cls := "CoercedClassesModel", name := "comes", desc := "(J)V" } : Jvm.MethodName)) ∈ lw_tbl := lw_at lw_m15 202 rfl
theorem q3805 : (Jvm.Cond.instanceMethod ({ cls := "CoercedClassesModel", name := "comes", desc := "(J)V" } : Jvm.MethodName)) ∈ lw_all := lw_g (lw_at lw_m15 203 rfl) rfl
theorem q3806 : (Jvm.Cond.code ({ cls := "CoercedClassesModel", name := "comes", desc := "(J)V" } : Jvm.MethodName) prog_46_method_136_code (9 : Nat) (Option.none : Option Jvm.ClassFile.FieldType)) ∈ lw_all := lw_g (lw_at lw_m15 204 rfl) rfl
theorem q3807 : (Jvm.Cond.methodLink "CoercedClassesModel" (950 : Nat) ({ cls := "CoercedClassesModel", name := "show", desc := "(J)V" } : Jvm.MethodName)) ∈ lw_all := lw_g (lw_at lw_m15 205 rfl) rfl
theorem q3808 : (Jvm.Cond.privateMethod ({ cls := "CoercedClassesModel", name := "show", desc := "(J)V" } : Jvm.MethodName)) ∈ lw_tbl := lw_at lw_m15 206 rfl
theorem q3809 : (Jvm.Cond.instanceMethod ({ cls := "CoercedClassesModel", name := "show", desc := "(J)V" } : Jvm.MethodName)) ∈ lw_all := lw_g (lw_at lw_m15 207 rfl) rfl
theorem q3810 : (Jvm.Cond.code ({ cls := "CoercedClassesModel", name := "show", desc := "(J)V" } : Jvm.MethodName) prog_46_method_144_code (5 : Nat) (Option.none : Option Jvm.ClassFile.FieldType)) ∈ lw_all := lw_g (lw_at lw_m15 208 rfl) rfl
theorem q3811 : (Jvm.Cond.constantLong "CoercedClassesModel" (965 : Nat) (7 : Int64)) ∈ lw_all := lw_g (lw_at lw_m15 209 rfl) rfl
theorem q3812 : (Jvm.Cond.methodLink "CoercedClassesModel" (989 : Nat) ({ cls := "CoercedClassesModel", name := "showNumber", desc := "(J)V" } : Jvm.MethodName)) ∈ lw_all := lw_g (lw_at lw_m15 210 rfl) rfl
theorem q3813 : (Jvm.Cond.privateMethod ({ cls := "CoercedClassesModel", name := "showNumber", desc := "(J)V" } : Jvm.MethodName)) ∈ lw_tbl := lw_at lw_m15 211 rfl
theorem q3814 : (Jvm.Cond.instanceMethod ({ cls := "CoercedClassesModel", name := "showNumber", desc := "(J)V" } : Jvm.MethodName)) ∈ lw_all := lw_g (lw_at lw_m15 212 rfl) rfl
theorem q3815 : (Jvm.Cond.code ({ cls := "CoercedClassesModel", name := "showNumber", desc := "(J)V" } : Jvm.MethodName) prog_46_method_142_code (7 : Nat) (Option.none : Option Jvm.ClassFile.FieldType)) ∈ lw_all := lw_g (lw_at lw_m15 213 rfl) rfl
theorem q3816 : (Jvm.Cond.methodLink "CoercedClassesModel" (982 : Nat) ({ cls := "CoercedClassesModel", name := "put1", desc := "(I)V" } : Jvm.MethodName)) ∈ lw_all := lw_g (lw_at lw_m15 214 rfl) rfl
theorem q3817 : (Jvm.Cond.privateMethod ({ cls := "CoercedClassesModel", name := "put1", desc := "(I)V" } : Jvm.MethodName)) ∈ lw_tbl := lw_at lw_m15 215 rfl
theorem q3818 : (Jvm.Cond.instanceMethod ({ cls := "CoercedClassesModel", name := "put1", desc := "(I)V" } : Jvm.MethodName)) ∈ lw_all := lw_g (lw_at lw_m15 216 rfl) rfl
theorem q3819 : (Jvm.Cond.code ({ cls := "CoercedClassesModel", name := "put1", desc := "(I)V" } : Jvm.MethodName) prog_46_method_141_code (2 : Nat) (Option.none : Option Jvm.ClassFile.FieldType)) ∈ lw_all := lw_g (lw_at lw_m15 217 rfl) rfl
theorem q3820 : (Jvm.Cond.constantLong "CoercedClassesModel" (985 : Nat) (10 : Int64)) ∈ lw_all := lw_g (lw_at lw_m15 218 rfl) rfl
theorem q3821 : (Jvm.Cond.constantLong "CoercedClassesModel" (987 : Nat) (48 : Int64)) ∈ lw_all := lw_g (lw_at lw_m15 219 rfl) rfl
theorem q3822 : (Jvm.Cond.constantLong "CoercedClassesModel" (992 : Nat) (1953658213 : Int64)) ∈ lw_all := lw_g (lw_at lw_m15 220 rfl) rfl
theorem q3823 : (Jvm.Cond.constantLong "CoercedClassesModel" (994 : Nat) (439721161573 : Int64)) ∈ lw_all := lw_g (lw_at lw_m15 221 rfl) rfl
theorem q3824 : (Jvm.Cond.methodLink "CoercedClassesModel" (996 : Nat) ({ cls := "CoercedClassesModel", name := "shows", desc := "(J)V" } : Jvm.MethodName)) ∈ lw_all := lw_g (lw_at lw_m15 222 rfl) rfl
theorem q3825 : (Jvm.Cond.privateMethod ({ cls := "CoercedClassesModel", name := "shows", desc := "(J)V" } : Jvm.MethodName)) ∈ lw_tbl := lw_at lw_m15 223 rfl
theorem q3826 : (Jvm.Cond.instanceMethod ({ cls := "CoercedClassesModel", name := "shows", desc := "(J)V" } : Jvm.MethodName)) ∈ lw_all := lw_g (lw_at lw_m15 224 rfl) rfl
theorem q3827 : (Jvm.Cond.code ({ cls := "CoercedClassesModel", name := "shows", desc := "(J)V" } : Jvm.MethodName) prog_46_method_143_code (4 : Nat) (Option.none : Option Jvm.ClassFile.FieldType)) ∈ lw_all := lw_g (lw_at lw_m15 225 rfl) rfl
theorem q3828 : (Jvm.Cond.constantLong "CoercedClassesModel" (755 : Nat) (255 : Int64)) ∈ lw_all := lw_g (lw_at lw_m15 226 rfl) rfl
theorem q3829 : (Jvm.Cond.constantLong "CoercedClassesModel" (999 : Nat) (3 : Int64)) ∈ lw_all := lw_g (lw_at lw_m15 227 rfl) rfl
theorem q3830 : (Jvm.Cond.methodLink "CoercedClassesModel" (947 : Nat) ({ cls := "CoercedClassesModel", name := "go", desc := "(IIIJ)V" } : Jvm.MethodName)) ∈ lw_all := lw_g (lw_at lw_m15 228 rfl) rfl
theorem q3831 : (Jvm.Cond.privateMethod ({ cls := "CoercedClassesModel", name := "go", desc := "(IIIJ)V" } : Jvm.MethodName)) ∈ lw_tbl := lw_at lw_m15 229 rfl
theorem q3832 : (Jvm.Cond.instanceMethod ({ cls := "CoercedClassesModel", name := "go", desc := "(IIIJ)V" } : Jvm.MethodName)) ∈ lw_all := lw_g (lw_at lw_m15 230 rfl) rfl
theorem q3833 : (Jvm.Cond.code ({ cls := "CoercedClassesModel", name := "go", desc := "(IIIJ)V" } : Jvm.MethodName) prog_46_method_122_code (6 : Nat) (Option.none : Option Jvm.ClassFile.FieldType)) ∈ lw_all := lw_g (lw_at lw_m15 231 rfl) rfl
theorem q3834 : (Jvm.Cond.methodLink "CoercedClassesModel" (944 : Nat) ({ cls := "CoercedClassesModel", name := "frame", desc := "(IIJ)Z" } : Jvm.MethodName)) ∈ lw_all := lw_g (lw_at lw_m15 232 rfl) rfl
theorem q3835 : (Jvm.Cond.privateMethod ({ cls := "CoercedClassesModel", name := "frame", desc := "(IIJ)Z" } : Jvm.MethodName)) ∈ lw_tbl := lw_at lw_m15 233 rfl
theorem q3836 : (Jvm.Cond.instanceMethod ({ cls := "CoercedClassesModel", name := "frame", desc := "(IIJ)Z" } : Jvm.MethodName)) ∈ lw_all := lw_g (lw_at lw_m15 234 rfl) rfl
theorem q3837 : (Jvm.Cond.code ({ cls := "CoercedClassesModel", name := "frame", desc := "(IIJ)Z" } : Jvm.MethodName) prog_46_method_121_code (5 : Nat) (Option.some Jvm.ClassFile.FieldType.boolean)) ∈ lw_all := lw_g (lw_at lw_m15 235 rfl) rfl
theorem q3838 : (Jvm.Cond.methodLink "CoercedClassesModel" (953 : Nat) ({ cls := "CoercedClassesModel", name := "bind", desc := "(J)Z" } : Jvm.MethodName)) ∈ lw_all := lw_g (lw_at lw_m15 236 rfl) rfl
theorem q3839 : (Jvm.Cond.privateMethod ({ cls := "CoercedClassesModel", name := "bind", desc := "(J)Z" } : Jvm.MethodName)) ∈ lw_tbl := lw_at lw_m15 237 rfl
theorem q3840 : (Jvm.Cond.instanceMethod ({ cls := "CoercedClassesModel", name := "bind", desc := "(J)Z" } : Jvm.MethodName)) ∈ lw_all := lw_g (lw_at lw_m15 238 rfl) rfl
theorem q3841 : (Jvm.Cond.code ({ cls := "CoercedClassesModel", name := "bind", desc := "(J)Z" } : Jvm.MethodName) prog_46_method_123_code (3 : Nat) (Option.some Jvm.ClassFile.FieldType.boolean)) ∈ lw_all := lw_g (lw_at lw_m15 239 rfl) rfl
theorem q3842 : (Jvm.Cond.methodLink "CoercedClassesModel" (895 : Nat) ({ cls := "CoercedClassesModel", name := "cell", desc := "()Z" } : Jvm.MethodName)) ∈ lw_all := lw_g (lw_at lw_m16 0 rfl) rfl
theorem q3843 : (Jvm.Cond.privateMethod ({ cls := "CoercedClassesModel", name := "cell", desc := "()Z" } : Jvm.MethodName)) ∈ lw_tbl := lw_at lw_m16 1 rfl
theorem q3844 : (Jvm.Cond.instanceMethod ({ cls := "CoercedClassesModel", name := "cell", desc := "()Z" } : Jvm.MethodName)) ∈ lw_all := lw_g (lw_at lw_m16 2 rfl) rfl
theorem q3845 : (Jvm.Cond.code ({ cls := "CoercedClassesModel", name := "cell", desc := "()Z" } : Jvm.MethodName) prog_46_method_120_code (1 : Nat) (Option.some Jvm.ClassFile.FieldType.boolean)) ∈ lw_all := lw_g (lw_at lw_m16 3 rfl) rfl
theorem q3846 : (Jvm.Cond.methodLink "CoercedClassesModel" (957 : Nat) ({ cls := "CoercedClassesModel", name := "chooses", desc := "(IJ)V" } : Jvm.MethodName)) ∈ lw_all := lw_g (lw_at lw_m16 4 rfl) rfl
theorem q3847 : (Jvm.Cond.privateMethod ({ cls := "CoercedClassesModel", name := "chooses", desc := "(IJ)V" } : Jvm.MethodName)) ∈ lw_tbl := lw_at lw_m16 5 rfl
theorem q3848 : (Jvm.Cond.instanceMethod ({ cls := "CoercedClassesModel", name := "chooses", desc := "(IJ)V" } : Jvm.MethodName)) ∈ lw_all := lw_g (lw_at lw_m16 6 rfl) rfl
theorem q3849 : (Jvm.Cond.code ({ cls := "CoercedClassesModel", name := "chooses", desc := "(IJ)V" } : Jvm.MethodName) prog_46_method_137_code (5 : Nat) (Option.none : Option Jvm.ClassFile.FieldType)) ∈ lw_all := lw_g (lw_at lw_m16 7 rfl) rfl
theorem q3850 : (Jvm.Cond.constantLong "CoercedClassesModel" (976 : Nat) (2 : Int64)) ∈ lw_all := lw_g (lw_at lw_m16 8 rfl) rfl
theorem q3851 : (Jvm.Cond.methodLink "CoercedClassesModel" (961 : Nat) ({ cls := "CoercedClassesModel", name := "result", desc := "(III)J" } : Jvm.MethodName)) ∈ lw_all := lw_g (lw_at lw_m16 9 rfl) rfl
theorem q3852 : (Jvm.Cond.static ({ cls := "CoercedClassesModel", name := "result", desc := "(III)J" } : Jvm.MethodName)) ∈ lw_all := lw_g (lw_at lw_m16 10 rfl) rfl
theorem q3853 : (Jvm.Cond.code ({ cls := "CoercedClassesModel", name := "result", desc := "(III)J" } : Jvm.MethodName) prog_46_method_140_code (3 : Nat) (Option.some Jvm.ClassFile.FieldType.long)) ∈ lw_all := lw_g (lw_at lw_m16 11 rfl) rfl
theorem q3854 : (Jvm.Cond.constantLong "CoercedClassesModel" (967 : Nat) (5 : Int64)) ∈ lw_all := lw_g (lw_at lw_m16 12 rfl) rfl
theorem q3855 : (Jvm.Cond.methodLink "CoercedClassesModel" (969 : Nat) ({ cls := "CoercedClassesModel", name := "calls", desc := "(IJ)V" } : Jvm.MethodName)) ∈ lw_all := lw_g (lw_at lw_m16 13 rfl) rfl
theorem q3856 : (Jvm.Cond.privateMethod ({ cls := "CoercedClassesModel", name := "calls", desc := "(IJ)V" } : Jvm.MethodName)) ∈ lw_tbl := lw_at lw_m16 14 rfl
theorem q3857 : (Jvm.Cond.instanceMethod ({ cls := "CoercedClassesModel", name := "calls", desc := "(IJ)V" } : Jvm.MethodName)) ∈ lw_all := lw_g (lw_at lw_m16 15 rfl) rfl
theorem q3858 : (Jvm.Cond.code ({ cls := "CoercedClassesModel", name := "calls", desc := "(IJ)V" } : Jvm.MethodName) prog_46_method_138_code (4 : Nat) (Option.none : Option Jvm.ClassFile.FieldType)) ∈ lw_all := lw_g (lw_at lw_m16 16 rfl) rfl
theorem q3859 : (Jvm.Cond.methodLink "CoercedClassesModel" (972 : Nat) ({ cls := "CoercedClassesModel", name := "applied", desc := "(JJ)J" } : Jvm.MethodName)) ∈ lw_all := lw_g (lw_at lw_m16 17 rfl) rfl
theorem q3860 : (Jvm.Cond.privateMethod ({ cls := "CoercedClassesModel", name := "applied", desc := "(JJ)J" } : Jvm.MethodName)) ∈ lw_tbl := lw_at lw_m16 18 rfl
theorem q3861 : (Jvm.Cond.instanceMethod ({ cls := "CoercedClassesModel", name := "applied", desc := "(JJ)J" } : Jvm.MethodName)) ∈ lw_all := lw_g (lw_at lw_m16 19 rfl) rfl
theorem q3862 : (Jvm.Cond.code ({ cls := "CoercedClassesModel", name := "applied", desc := "(JJ)J" } : Jvm.MethodName) prog_46_method_139_code (6 : Nat) (Option.some Jvm.ClassFile.FieldType.long)) ∈ lw_all := lw_g (lw_at lw_m16 20 rfl) rfl
theorem q3863 : (Jvm.Cond.methodLink "CoercedClassesModel" (978 : Nat) ({ cls := "CoercedClassesModel", name := "two", desc := "(IJJ)J" } : Jvm.MethodName)) ∈ lw_all := lw_g (lw_at lw_m16 21 rfl) rfl
theorem q3864 : (Jvm.Cond.privateMethod ({ cls := "CoercedClassesModel", name := "two", desc := "(IJJ)J" } : Jvm.MethodName)) ∈ lw_tbl := lw_at lw_m16 22 rfl
theorem q3865 : (Jvm.Cond.instanceMethod ({ cls := "CoercedClassesModel", name := "two", desc := "(IJJ)J" } : Jvm.MethodName)) ∈ lw_all := lw_g (lw_at lw_m16 23 rfl) rfl
theorem q3866 : (Jvm.Cond.code ({ cls := "CoercedClassesModel", name := "two", desc := "(IJJ)J" } : Jvm.MethodName) prog_46_method_134_code (6 : Nat) (Option.some Jvm.ClassFile.FieldType.long)) ∈ lw_all := lw_g (lw_at lw_m16 24 rfl) rfl
theorem q3867 : (Jvm.Cond.methodLink "CoercedClassesModel" (937 : Nat) ({ cls := "CoercedClassesModel", name := "wantedName", desc := "(I)V" } : Jvm.MethodName)) ∈ lw_all := lw_g (lw_at lw_m16 25 rfl) rfl
theorem q3868 : (Jvm.Cond.privateMethod ({ cls := "CoercedClassesModel", name := "wantedName", desc := "(I)V" } : Jvm.MethodName)) ∈ lw_tbl := lw_at lw_m16 26 rfl
theorem q3869 : (Jvm.Cond.instanceMethod ({ cls := "CoercedClassesModel", name := "wantedName", desc := "(I)V" } : Jvm.MethodName)) ∈ lw_all := lw_g (lw_at lw_m16 27 rfl) rfl
theorem q3870 : (Jvm.Cond.code ({ cls := "CoercedClassesModel", name := "wantedName", desc := "(I)V" } : Jvm.MethodName) prog_46_method_135_code (14 : Nat) (Option.none : Option Jvm.ClassFile.FieldType)) ∈ lw_all := lw_g (lw_at lw_m16 28 rfl) rfl
theorem q3871 : (Jvm.Cond.methodLink "CoercedClassesModel" (716 : Nat) ({ cls := "CoercedClassesModel", name := "givensOf", desc := "(I)I" } : Jvm.MethodName)) ∈ lw_all := lw_g (lw_at lw_m16 29 rfl) rfl
theorem q3872 : (Jvm.Cond.privateMethod ({ cls := "CoercedClassesModel", name := "givensOf", desc := "(I)I" } : Jvm.MethodName)) ∈ lw_tbl := lw_at lw_m16 30 rfl
theorem q3873 : (Jvm.Cond.instanceMethod ({ cls := "CoercedClassesModel", name := "givensOf", desc := "(I)I" } : Jvm.MethodName)) ∈ lw_all := lw_g (lw_at lw_m16 31 rfl) rfl
theorem q3874 : (Jvm.Cond.code ({ cls := "CoercedClassesModel", name := "givensOf", desc := "(I)I" } : Jvm.MethodName) prog_46_method_88_code (2 : Nat) (Option.some Jvm.ClassFile.FieldType.int)) ∈ lw_all := lw_g (lw_at lw_m16 32 rfl) rfl
theorem q3875 : (Jvm.Cond.methodLink "CoercedClassesModel" (907 : Nat) ({ cls := "CoercedClassesModel", name := "byOwner", desc := "(I)V" } : Jvm.MethodName)) ∈ lw_all := lw_g (lw_at lw_m16 33 rfl) rfl
theorem q3876 : (Jvm.Cond.privateMethod ({ cls := "CoercedClassesModel", name := "byOwner", desc := "(I)V" } : Jvm.MethodName)) ∈ lw_tbl := lw_at lw_m16 34 rfl
theorem q3877 : (Jvm.Cond.instanceMethod ({ cls := "CoercedClassesModel", name := "byOwner", desc := "(I)V" } : Jvm.MethodName)) ∈ lw_all := lw_g (lw_at lw_m16 35 rfl) rfl
theorem q3878 : (Jvm.Cond.code ({ cls := "CoercedClassesModel", name := "byOwner", desc := "(I)V" } : Jvm.MethodName) prog_46_method_126_code (2 : Nat) (Option.none : Option Jvm.ClassFile.FieldType)) ∈ lw_all := lw_g (lw_at lw_m16 36 rfl) rfl
theorem q3879 : (Jvm.Cond.methodLink "CoercedClassesModel" (735 : Nat) ({ cls := "CoercedClassesModel", name := "byFunction", desc := "(I)V" } : Jvm.MethodName)) ∈ lw_all := lw_g (lw_at lw_m16 37 rfl) rfl
theorem q3880 : (Jvm.Cond.privateMethod ({ cls := "CoercedClassesModel", name := "byFunction", desc := "(I)V" } : Jvm.MethodName)) ∈ lw_tbl := lw_at lw_m16 38 rfl
theorem q3881 : (Jvm.Cond.instanceMethod ({ cls := "CoercedClassesModel", name := "byFunction", desc := "(I)V" } : Jvm.MethodName)) ∈ lw_all := lw_g (lw_at lw_m16 39 rfl) rfl
theorem q3882 : (Jvm.Cond.code ({ cls := "CoercedClassesModel", name := "byFunction", desc := "(I)V" } : Jvm.MethodName) prog_46_method_61_code (3 : Nat) (Option.none : Option Jvm.ClassFile.FieldType)) ∈ lw_all := lw_g (lw_at lw_m16 40 rfl) rfl
theorem q3883 : (Jvm.Cond.methodLink "CoercedClassesModel" (595 : Nat) ({ cls := "CoercedClassesModel", name := "byInstance", desc := "(I)V" } : Jvm.MethodName)) ∈ lw_all := lw_g (lw_at lw_m16 41 rfl) rfl
theorem q3884 : (Jvm.Cond.privateMethod ({ cls := "CoercedClassesModel", name := "byInstance", desc := "(I)V" } : Jvm.MethodName)) ∈ lw_tbl := lw_at lw_m16 42 rfl
theorem q3885 : (Jvm.Cond.instanceMethod ({ cls := "CoercedClassesModel", name := "byInstance", desc := "(I)V" } : Jvm.MethodName)) ∈ lw_all := lw_g (lw_at lw_m16 43 rfl) rfl
theorem q3886 : (Jvm.Cond.code ({ cls := "CoercedClassesModel", name := "byInstance", desc := "(I)V" } : Jvm.MethodName) prog_46_method_60_code (3 : Nat) (Option.none : Option Jvm.ClassFile.FieldType)) ∈ lw_all := lw_g (lw_at lw_m16 44 rfl) rfl
theorem q3887 : (Jvm.Cond.methodLink "CoercedClassesModel" (623 : Nat) ({ cls := "CoercedClassesModel", name := "headScope", desc := "(I)V" } : Jvm.MethodName)) ∈ lw_all := lw_g (lw_at lw_m16 45 rfl) rfl
theorem q3888 : (Jvm.Cond.privateMethod ({ cls := "CoercedClassesModel", name := "headScope", desc := "(I)V" } : Jvm.MethodName)) ∈ lw_tbl := lw_at lw_m16 46 rfl
theorem q3889 : (Jvm.Cond.instanceMethod ({ cls := "CoercedClassesModel", name := "headScope", desc := "(I)V" } : Jvm.MethodName)) ∈ lw_all := lw_g (lw_at lw_m16 47 rfl) rfl
theorem q3890 : (Jvm.Cond.code ({ cls := "CoercedClassesModel", name := "headScope", desc := "(I)V" } : Jvm.MethodName) prog_46_method_51_code (3 : Nat) (Option.none : Option Jvm.ClassFile.FieldType)) ∈ lw_all := lw_g (lw_at lw_m16 48 rfl) rfl
theorem q3891 : (Jvm.Cond.methodLink "CoercedClassesModel" (732 : Nat) ({ cls := "CoercedClassesModel", name := "givenPut", desc := "(III)V" } : Jvm.MethodName)) ∈ lw_all := lw_g (lw_at lw_m16 49 rfl) rfl
theorem q3892 : (Jvm.Cond.privateMethod ({ cls := "CoercedClassesModel", name := "givenPut", desc := "(III)V" } : Jvm.MethodName)) ∈ lw_tbl := lw_at lw_m16 50 rfl
theorem q3893 : (Jvm.Cond.instanceMethod ({ cls := "CoercedClassesModel", name := "givenPut", desc := "(III)V" } : Jvm.MethodName)) ∈ lw_all := lw_g (lw_at lw_m16 51 rfl) rfl
theorem q3894 : (Jvm.Cond.code ({ cls := "CoercedClassesModel", name := "givenPut", desc := "(III)V" } : Jvm.MethodName) prog_46_method_89_code (5 : Nat) (Option.none : Option Jvm.ClassFile.FieldType)) ∈ lw_all := lw_g (lw_at lw_m16 52 rfl) rfl
theorem q3895 : (Jvm.Cond.methodLink "CoercedClassesModel" (713 : Nat) ({ cls := "CoercedClassesModel", name := "putAts", desc := "(I)V" } : Jvm.MethodName)) ∈ lw_all := lw_g (lw_at lw_m16 53 rfl) rfl
theorem q3896 : (Jvm.Cond.privateMethod ({ cls := "CoercedClassesModel", name := "putAts", desc := "(I)V" } : Jvm.MethodName)) ∈ lw_tbl := lw_at lw_m16 54 rfl
theorem q3897 : (Jvm.Cond.instanceMethod ({ cls := "CoercedClassesModel", name := "putAts", desc := "(I)V" } : Jvm.MethodName)) ∈ lw_all := lw_g (lw_at lw_m16 55 rfl) rfl
theorem q3898 : (Jvm.Cond.code ({ cls := "CoercedClassesModel", name := "putAts", desc := "(I)V" } : Jvm.MethodName) prog_46_method_86_code (5 : Nat) (Option.none : Option Jvm.ClassFile.FieldType)) ∈ lw_all := lw_g (lw_at lw_m16 56 rfl) rfl
theorem q3899 : (Jvm.Cond.methodLink "CoercedClassesModel" (632 : Nat) ({ cls := "CoercedClassesModel", name := "put", desc := "(I)I" } : Jvm.MethodName)) ∈ lw_all := lw_g (lw_at lw_m16 57 rfl) rfl
theorem q3900 : (Jvm.Cond.privateMethod ({ cls := "CoercedClassesModel", name := "put", desc := "(I)I" } : Jvm.MethodName)) ∈ lw_tbl := lw_at lw_m16 58 rfl
theorem q3901 : (Jvm.Cond.instanceMethod ({ cls := "CoercedClassesModel", name := "put", desc := "(I)I" } : Jvm.MethodName)) ∈ lw_all := lw_g (lw_at lw_m16 59 rfl) rfl
theorem q3902 : (Jvm.Cond.code ({ cls := "CoercedClassesModel", name := "put", desc := "(I)I" } : Jvm.MethodName) prog_46_method_63_code (4 : Nat) (Option.some Jvm.ClassFile.FieldType.int)) ∈ lw_all := lw_g (lw_at lw_m16 60 rfl) rfl
theorem q3903 : (Jvm.Cond.methodLink "CoercedClassesModel" (561 : Nat) ({ cls := "CoercedClassesModel", name := "aType", desc := "(IIII)I" } : Jvm.MethodName)) ∈ lw_all := lw_g (lw_at lw_m16 61 rfl) rfl
theorem q3904 : (Jvm.Cond.privateMethod ({ cls := "CoercedClassesModel", name := "aType", desc := "(IIII)I" } : Jvm.MethodName)) ∈ lw_tbl := lw_at lw_m16 62 rfl
theorem q3905 : (Jvm.Cond.instanceMethod ({ cls := "CoercedClassesModel", name := "aType", desc := "(IIII)I" } : Jvm.MethodName)) ∈ lw_all := lw_g (lw_at lw_m16 63 rfl) rfl
theorem q3906 : (Jvm.Cond.code ({ cls := "CoercedClassesModel", name := "aType", desc := "(IIII)I" } : Jvm.MethodName) prog_46_method_12_code (7 : Nat) (Option.some Jvm.ClassFile.FieldType.int)) ∈ lw_all := lw_g (lw_at lw_m16 64 rfl) rfl
theorem q3907 : (Jvm.Cond.constant "CoercedClassesModel" (426 : Nat) (2147483647 : Int32)) ∈ lw_all := lw_g (lw_at lw_m16 65 rfl) rfl
theorem q3908 : (Jvm.Cond.methodLink "CoercedClassesModel" (775 : Nat) ({ cls := "CoercedClassesModel", name := "outNow", desc := "(I)I" } : Jvm.MethodName)) ∈ lw_all := lw_g (lw_at lw_m16 66 rfl) rfl
theorem q3909 : (Jvm.Cond.privateMethod ({ cls := "CoercedClassesModel", name := "outNow", desc := "(I)I" } : Jvm.MethodName)) ∈ lw_tbl := lw_at lw_m16 67 rfl
theorem q3910 : (Jvm.Cond.instanceMethod ({ cls := "CoercedClassesModel", name := "outNow", desc := "(I)I" } : Jvm.MethodName)) ∈ lw_all := lw_g (lw_at lw_m16 68 rfl) rfl
theorem q3911 : (Jvm.Cond.code ({ cls := "CoercedClassesModel", name := "outNow", desc := "(I)I" } : Jvm.MethodName) prog_46_method_101_code (2 : Nat) (Option.some Jvm.ClassFile.FieldType.int)) ∈ lw_all := lw_g (lw_at lw_m16 69 rfl) rfl
theorem q3912 : (Jvm.Cond.methodLink "CoercedClassesModel" (772 : Nat) ({ cls := "CoercedClassesModel", name := "told1", desc := "()V" } : Jvm.MethodName)) ∈ lw_all := lw_g (lw_at lw_m16 70 rfl) rfl
theorem q3913 : (Jvm.Cond.privateMethod ({ cls := "CoercedClassesModel", name := "told1", desc := "()V" } : Jvm.MethodName)) ∈ lw_tbl := lw_at lw_m16 71 rfl
theorem q3914 : (Jvm.Cond.instanceMethod ({ cls := "CoercedClassesModel", name := "told1", desc := "()V" } : Jvm.MethodName)) ∈ lw_all := lw_g (lw_at lw_m16 72 rfl) rfl
theorem q3915 : (Jvm.Cond.code ({ cls := "CoercedClassesModel", name := "told1", desc := "()V" } : Jvm.MethodName) prog_46_method_102_code (1 : Nat) (Option.none : Option Jvm.ClassFile.FieldType)) ∈ lw_all := lw_g (lw_at lw_m16 73 rfl) rfl
theorem q3916 : (Jvm.Cond.methodLink "CoercedClassesModel" (598 : Nat) ({ cls := "CoercedClassesModel", name := "asks", desc := "()V" } : Jvm.MethodName)) ∈ lw_all := lw_g (lw_at lw_m16 74 rfl) rfl
theorem q3917 : (Jvm.Cond.privateMethod ({ cls := "CoercedClassesModel", name := "asks", desc := "()V" } : Jvm.MethodName)) ∈ lw_tbl := lw_at lw_m16 75 rfl
theorem q3918 : (Jvm.Cond.instanceMethod ({ cls := "CoercedClassesModel", name := "asks", desc := "()V" } : Jvm.MethodName)) ∈ lw_all := lw_g (lw_at lw_m16 76 rfl) rfl
theorem q3919 : (Jvm.Cond.code ({ cls := "CoercedClassesModel", name := "asks", desc := "()V" } : Jvm.MethodName) prog_46_method_58_code (1 : Nat) (Option.none : Option Jvm.ClassFile.FieldType)) ∈ lw_all := lw_g (lw_at lw_m16 77 rfl) rfl
theorem q3920 : (Jvm.Cond.methodLink "CoercedClassesModel" (644 : Nat) ({ cls := "CoercedClassesModel", name := "out", desc := "(I)I" } : Jvm.MethodName)) ∈ lw_all := lw_g (lw_at lw_m16 78 rfl) rfl
theorem q3921 : (Jvm.Cond.privateMethod ({ cls := "CoercedClassesModel", name := "out", desc := "(I)I" } : Jvm.MethodName)) ∈ lw_tbl := lw_at lw_m16 79 rfl
theorem q3922 : (Jvm.Cond.instanceMethod ({ cls := "CoercedClassesModel", name := "out", desc := "(I)I" } : Jvm.MethodName)) ∈ lw_all := lw_g (lw_at lw_m16 80 rfl) rfl
theorem q3923 : (Jvm.Cond.code ({ cls := "CoercedClassesModel", name := "out", desc := "(I)I" } : Jvm.MethodName) prog_46_method_71_code (5 : Nat) (Option.some Jvm.ClassFile.FieldType.int)) ∈ lw_all := lw_g (lw_at lw_m16 81 rfl) rfl
theorem q3924 : (Jvm.Cond.methodLink "CoercedClassesModel" (647 : Nat) ({ cls := "CoercedClassesModel", name := "within", desc := "(I)I" } : Jvm.MethodName)) ∈ lw_all := lw_g (lw_at lw_m16 82 rfl) rfl
theorem q3925 : (Jvm.Cond.privateMethod ({ cls := "CoercedClassesModel", name := "within", desc := "(I)I" } : Jvm.MethodName)) ∈ lw_tbl := lw_at lw_m16 83 rfl
theorem q3926 : (Jvm.Cond.instanceMethod ({ cls := "CoercedClassesModel", name := "within", desc := "(I)I" } : Jvm.MethodName)) ∈ lw_all := lw_g (lw_at lw_m16 84 rfl) rfl
theorem q3927 : (Jvm.Cond.code ({ cls := "CoercedClassesModel", name := "within", desc := "(I)I" } : Jvm.MethodName) prog_46_method_64_code (2 : Nat) (Option.some Jvm.ClassFile.FieldType.int)) ∈ lw_all := lw_g (lw_at lw_m16 85 rfl) rfl
theorem q3928 : (Jvm.Cond.methodLink "CoercedClassesModel" (650 : Nat) ({ cls := "CoercedClassesModel", name := "partsOut", desc := "(I)I" } : Jvm.MethodName)) ∈ lw_all := lw_g (lw_at lw_m16 86 rfl) rfl
theorem q3929 : (Jvm.Cond.privateMethod ({ cls := "CoercedClassesModel", name := "partsOut", desc := "(I)I" } : Jvm.MethodName)) ∈ lw_tbl := lw_at lw_m16 87 rfl
theorem q3930 : (Jvm.Cond.instanceMethod ({ cls := "CoercedClassesModel", name := "partsOut", desc := "(I)I" } : Jvm.MethodName)) ∈ lw_all := lw_g (lw_at lw_m16 88 rfl) rfl
theorem q3931 : (Jvm.Cond.code ({ cls := "CoercedClassesModel", name := "partsOut", desc := "(I)I" } : Jvm.MethodName) prog_46_method_70_code (4 : Nat) (Option.some Jvm.ClassFile.FieldType.int)) ∈ lw_all := lw_g (lw_at lw_m16 89 rfl) rfl
theorem q3932 : (Jvm.Cond.methodLink "CoercedClassesModel" (653 : Nat) ({ cls := "CoercedClassesModel", name := "goesBy", desc := "(II)I" } : Jvm.MethodName)) ∈ lw_all := lw_g (lw_at lw_m16 90 rfl) rfl
theorem q3933 : (Jvm.Cond.privateMethod ({ cls := "CoercedClassesModel", name := "goesBy", desc := "(II)I" } : Jvm.MethodName)) ∈ lw_tbl := lw_at lw_m16 91 rfl
theorem q3934 : (Jvm.Cond.instanceMethod ({ cls := "CoercedClassesModel", name := "goesBy", desc := "(II)I" } : Jvm.MethodName)) ∈ lw_all := lw_g (lw_at lw_m16 92 rfl) rfl
theorem q3935 : (Jvm.Cond.code ({ cls := "CoercedClassesModel", name := "goesBy", desc := "(II)I" } : Jvm.MethodName) prog_46_method_68_code (4 : Nat) (Option.some Jvm.ClassFile.FieldType.int)) ∈ lw_all := lw_g (lw_at lw_m16 93 rfl) rfl
theorem q3936 : (Jvm.Cond.methodLink "CoercedClassesModel" (635 : Nat) ({ cls := "CoercedClassesModel", name := "instanceOf", desc := "(II)I" } : Jvm.MethodName)) ∈ lw_all := lw_g (lw_at lw_m16 94 rfl) rfl
theorem q3937 : (Jvm.Cond.privateMethod ({ cls := "CoercedClassesModel", name := "instanceOf", desc := "(II)I" } : Jvm.MethodName)) ∈ lw_tbl := lw_at lw_m16 95 rfl
theorem q3938 : (Jvm.Cond.instanceMethod ({ cls := "CoercedClassesModel", name := "instanceOf", desc := "(II)I" } : Jvm.MethodName)) ∈ lw_all := lw_g (lw_at lw_m16 96 rfl) rfl
theorem q3939 : (Jvm.Cond.code ({ cls := "CoercedClassesModel", name := "instanceOf", desc := "(II)I" } : Jvm.MethodName) prog_46_method_66_code (4 : Nat) (Option.some Jvm.ClassFile.FieldType.int)) ∈ lw_all := lw_g (lw_at lw_m16 97 rfl) rfl
theorem q3940 : (Jvm.Cond.methodLink "CoercedClassesModel" (638 : Nat) ({ cls := "CoercedClassesModel", name := "givenFamily", desc := "(II)I" } : Jvm.MethodName)) ∈ lw_all := lw_g (lw_at lw_m16 98 rfl) rfl
theorem q3941 : (Jvm.Cond.privateMethod ({ cls := "CoercedClassesModel", name := "givenFamily", desc := "(II)I" } : Jvm.MethodName)) ∈ lw_tbl := lw_at lw_m16 99 rfl
theorem q3942 : (Jvm.Cond.instanceMethod ({ cls := "CoercedClassesModel", name := "givenFamily", desc := "(II)I" } : Jvm.MethodName)) ∈ lw_all := lw_g (lw_at lw_m16 100 rfl) rfl
theorem q3943 : (Jvm.Cond.code ({ cls := "CoercedClassesModel", name := "givenFamily", desc := "(II)I" } : Jvm.MethodName) prog_46_method_67_code (4 : Nat) (Option.some Jvm.ClassFile.FieldType.int)) ∈ lw_all := lw_g (lw_at lw_m16 101 rfl) rfl
theorem q3944 : (Jvm.Cond.methodLink "CoercedClassesModel" (656 : Nat) ({ cls := "CoercedClassesModel", name := "counts", desc := "()V" } : Jvm.MethodName)) ∈ lw_all := lw_g (lw_at lw_m16 102 rfl) rfl
theorem q3945 : (Jvm.Cond.privateMethod ({ cls := "CoercedClassesModel", name := "counts", desc := "()V" } : Jvm.MethodName)) ∈ lw_tbl := lw_at lw_m16 103 rfl
theorem q3946 : (Jvm.Cond.instanceMethod ({ cls := "CoercedClassesModel", name := "counts", desc := "()V" } : Jvm.MethodName)) ∈ lw_all := lw_g (lw_at lw_m16 104 rfl) rfl
theorem q3947 : (Jvm.Cond.code ({ cls := "CoercedClassesModel", name := "counts", desc := "()V" } : Jvm.MethodName) prog_46_method_59_code (1 : Nat) (Option.none : Option Jvm.ClassFile.FieldType)) ∈ lw_all := lw_g (lw_at lw_m16 105 rfl) rfl
theorem q3948 : (Jvm.Cond.methodLink "CoercedClassesModel" (659 : Nat) ({ cls := "CoercedClassesModel", name := "goesTo", desc := "(II)I" } : Jvm.MethodName)) ∈ lw_all := lw_g (lw_at lw_m16 106 rfl) rfl
theorem q3949 : (Jvm.Cond.privateMethod ({ cls := "CoercedClassesModel", name := "goesTo", desc := "(II)I" } : Jvm.MethodName)) ∈ lw_tbl := lw_at lw_m16 107 rfl
theorem q3950 : (Jvm.Cond.instanceMethod ({ cls := "CoercedClassesModel", name := "goesTo", desc := "(II)I" } : Jvm.MethodName)) ∈ lw_all := lw_g (lw_at lw_m16 108 rfl) rfl
theorem q3951 : (Jvm.Cond.code ({ cls := "CoercedClassesModel", name := "goesTo", desc := "(II)I" } : Jvm.MethodName) prog_46_method_69_code (3 : Nat) (Option.some Jvm.ClassFile.FieldType.int)) ∈ lw_all := lw_g (lw_at lw_m16 109 rfl) rfl
theorem q3952 : (Jvm.Cond.methodLink "CoercedClassesModel" (641 : Nat) ({ cls := "CoercedClassesModel", name := "putHead", desc := "(II)V" } : Jvm.MethodName)) ∈ lw_all := lw_g (lw_at lw_m16 110 rfl) rfl
theorem q3953 : (Jvm.Cond.privateMethod ({ cls := "CoercedClassesModel", name := "putHead", desc := "(II)V" } : Jvm.MethodName)) ∈ lw_tbl := lw_at lw_m16 111 rfl
theorem q3954 : (Jvm.Cond.instanceMethod ({ cls := "CoercedClassesModel", name := "putHead", desc := "(II)V" } : Jvm.MethodName)) ∈ lw_all := lw_g (lw_at lw_m16 112 rfl) rfl
theorem q3955 : (Jvm.Cond.code ({ cls := "CoercedClassesModel", name := "putHead", desc := "(II)V" } : Jvm.MethodName) prog_46_method_65_code (4 : Nat) (Option.none : Option Jvm.ClassFile.FieldType)) ∈ lw_all := lw_g (lw_at lw_m16 113 rfl) rfl
theorem q3956 : (Jvm.Cond.methodLink "CoercedClassesModel" (910 : Nat) ({ cls := "CoercedClassesModel", name := "dictionaryOut", desc := "(IIIJ)I" } : Jvm.MethodName)) ∈ lw_all := lw_g (lw_at lw_m16 114 rfl) rfl
theorem q3957 : (Jvm.Cond.privateMethod ({ cls := "CoercedClassesModel", name := "dictionaryOut", desc := "(IIIJ)I" } : Jvm.MethodName)) ∈ lw_tbl := lw_at lw_m16 115 rfl
theorem q3958 : (Jvm.Cond.instanceMethod ({ cls := "CoercedClassesModel", name := "dictionaryOut", desc := "(IIIJ)I" } : Jvm.MethodName)) ∈ lw_all := lw_g (lw_at lw_m16 116 rfl) rfl
theorem q3959 : (Jvm.Cond.code ({ cls := "CoercedClassesModel", name := "dictionaryOut", desc := "(IIIJ)I" } : Jvm.MethodName) prog_46_method_129_code (12 : Nat) (Option.some Jvm.ClassFile.FieldType.int)) ∈ lw_all := lw_g (lw_at lw_m16 117 rfl) rfl
theorem q3960 : (Jvm.Cond.methodLink "CoercedClassesModel" (914 : Nat) ({ cls := "CoercedClassesModel", name := "begins", desc := "(IIIJ)V" } : Jvm.MethodName)) ∈ lw_all := lw_g (lw_at lw_m16 118 rfl) rfl
theorem q3961 : (Jvm.Cond.privateMethod ({ cls := "CoercedClassesModel", name := "begins", desc := "(IIIJ)V" } : Jvm.MethodName)) ∈ lw_tbl := lw_at lw_m16 119 rfl
theorem q3962 : (Jvm.Cond.instanceMethod ({ cls := "CoercedClassesModel", name := "begins", desc := "(IIIJ)V" } : Jvm.MethodName)) ∈ lw_all := lw_g (lw_at lw_m16 120 rfl) rfl
theorem q3963 : (Jvm.Cond.code ({ cls := "CoercedClassesModel", name := "begins", desc := "(IIIJ)V" } : Jvm.MethodName) prog_46_method_127_code (9 : Nat) (Option.none : Option Jvm.ClassFile.FieldType)) ∈ lw_all := lw_g (lw_at lw_m16 121 rfl) rfl
theorem q3964 : (Jvm.Cond.methodLink "CoercedClassesModel" (665 : Nat) ({ cls := "CoercedClassesModel", name := "givenOf", desc := "(II)I" } : Jvm.MethodName)) ∈ lw_all := lw_g (lw_at lw_m16 122 rfl) rfl
theorem q3965 : (Jvm.Cond.privateMethod ({ cls := "CoercedClassesModel", name := "givenOf", desc := "(II)I" } : Jvm.MethodName)) ∈ lw_tbl := lw_at lw_m16 123 rfl
theorem q3966 : (Jvm.Cond.instanceMethod ({ cls := "CoercedClassesModel", name := "givenOf", desc := "(II)I" } : Jvm.MethodName)) ∈ lw_all := lw_g (lw_at lw_m16 124 rfl) rfl
theorem q3967 : (Jvm.Cond.code ({ cls := "CoercedClassesModel", name := "givenOf", desc := "(II)I" } : Jvm.MethodName) prog_46_method_74_code (4 : Nat) (Option.some Jvm.ClassFile.FieldType.int)) ∈ lw_all := lw_g (lw_at lw_m16 125 rfl) rfl
theorem q3968 : (Jvm.Cond.methodLink "CoercedClassesModel" (662 : Nat) ({ cls := "CoercedClassesModel", name := "reaches", desc := "(II)Z" } : Jvm.MethodName)) ∈ lw_all := lw_g (lw_at lw_m16 126 rfl) rfl
theorem q3969 : (Jvm.Cond.privateMethod ({ cls := "CoercedClassesModel", name := "reaches", desc := "(II)Z" } : Jvm.MethodName)) ∈ lw_tbl := lw_at lw_m16 127 rfl
theorem q3970 : (Jvm.Cond.instanceMethod ({ cls := "CoercedClassesModel", name := "reaches", desc := "(II)Z" } : Jvm.MethodName)) ∈ lw_all := lw_g (lw_at lw_m16 128 rfl) rfl
theorem q3971 : (Jvm.Cond.code ({ cls := "CoercedClassesModel", name := "reaches", desc := "(II)Z" } : Jvm.MethodName) prog_46_method_73_code (4 : Nat) (Option.some Jvm.ClassFile.FieldType.boolean)) ∈ lw_all := lw_g (lw_at lw_m16 129 rfl) rfl
theorem q3972 : (Jvm.Cond.methodLink "CoercedClassesModel" (903 : Nat) ({ cls := "CoercedClassesModel", name := "inRow", desc := "(JI)I" } : Jvm.MethodName)) ∈ lw_all := lw_g (lw_at lw_m16 130 rfl) rfl
theorem q3973 : (Jvm.Cond.static ({ cls := "CoercedClassesModel", name := "inRow", desc := "(JI)I" } : Jvm.MethodName)) ∈ lw_all := lw_g (lw_at lw_m16 131 rfl) rfl
theorem q3974 : (Jvm.Cond.code ({ cls := "CoercedClassesModel", name := "inRow", desc := "(JI)I" } : Jvm.MethodName) prog_46_method_125_code (3 : Nat) (Option.some Jvm.ClassFile.FieldType.int)) ∈ lw_all := lw_g (lw_at lw_m16 132 rfl) rfl
theorem q3975 : (Jvm.Cond.constantLong "CoercedClassesModel" (898 : Nat) (4095 : Int64)) ∈ lw_all := lw_g (lw_at lw_m16 133 rfl) rfl
theorem q3976 : (Jvm.Cond.methodLink "CoercedClassesModel" (601 : Nat) ({ cls := "CoercedClassesModel", name := "head", desc := "(I)I" } : Jvm.MethodName)) ∈ lw_all := lw_g (lw_at lw_m16 134 rfl) rfl
theorem q3977 : (Jvm.Cond.privateMethod ({ cls := "CoercedClassesModel", name := "head", desc := "(I)I" } : Jvm.MethodName)) ∈ lw_tbl := lw_at lw_m16 135 rfl
theorem q3978 : (Jvm.Cond.instanceMethod ({ cls := "CoercedClassesModel", name := "head", desc := "(I)I" } : Jvm.MethodName)) ∈ lw_all := lw_g (lw_at lw_m16 136 rfl) rfl
theorem q3979 : (Jvm.Cond.code ({ cls := "CoercedClassesModel", name := "head", desc := "(I)I" } : Jvm.MethodName) prog_46_method_62_code (4 : Nat) (Option.some Jvm.ClassFile.FieldType.int)) ∈ lw_all := lw_g (lw_at lw_m16 137 rfl) rfl
theorem q3980 : (Jvm.Cond.methodLink "CoercedClassesModel" (917 : Nat) ({ cls := "CoercedClassesModel", name := "dictionaryMade", desc := "(II)I" } : Jvm.MethodName)) ∈ lw_all := lw_g (lw_at lw_m16 138 rfl) rfl
theorem q3981 : (Jvm.Cond.privateMethod ({ cls := "CoercedClassesModel", name := "dictionaryMade", desc := "(II)I" } : Jvm.MethodName)) ∈ lw_tbl := lw_at lw_m16 139 rfl
theorem q3982 : (Jvm.Cond.instanceMethod ({ cls := "CoercedClassesModel", name := "dictionaryMade", desc := "(II)I" } : Jvm.MethodName)) ∈ lw_all := lw_g (lw_at lw_m16 140 rfl) rfl
theorem q3983 : (Jvm.Cond.code ({ cls := "CoercedClassesModel", name := "dictionaryMade", desc := "(II)I" } : Jvm.MethodName) prog_46_method_130_code (3 : Nat) (Option.some Jvm.ClassFile.FieldType.int)) ∈ lw_all := lw_g (lw_at lw_m16 141 rfl) rfl
theorem q3984 : (Jvm.Cond.methodLink "CoercedClassesModel" (920 : Nat) ({ cls := "CoercedClassesModel", name := "row", desc := "(IIII)J" } : Jvm.MethodName)) ∈ lw_all := lw_g (lw_at lw_m16 142 rfl) rfl
theorem q3985 : (Jvm.Cond.static ({ cls := "CoercedClassesModel", name := "row", desc := "(IIII)J" } : Jvm.MethodName)) ∈ lw_all := lw_g (lw_at lw_m16 143 rfl) rfl
theorem q3986 : (Jvm.Cond.code ({ cls := "CoercedClassesModel", name := "row", desc := "(IIII)J" } : Jvm.MethodName) prog_46_method_124_code (4 : Nat) (Option.some Jvm.ClassFile.FieldType.long)) ∈ lw_all := lw_g (lw_at lw_m16 144 rfl) rfl
theorem q3987 : (Jvm.Cond.methodLink "CoercedClassesModel" (940 : Nat) ({ cls := "CoercedClassesModel", name := "function", desc := "(I)J" } : Jvm.MethodName)) ∈ lw_all := lw_g (lw_at lw_m16 145 rfl) rfl
theorem q3988 : (Jvm.Cond.privateMethod ({ cls := "CoercedClassesModel", name := "function", desc := "(I)J" } : Jvm.MethodName)) ∈ lw_tbl := lw_at lw_m16 146 rfl
theorem q3989 : (Jvm.Cond.instanceMethod ({ cls := "CoercedClassesModel", name := "function", desc := "(I)J" } : Jvm.MethodName)) ∈ lw_all := lw_g (lw_at lw_m16 147 rfl) rfl
theorem q3990 : (Jvm.Cond.code ({ cls := "CoercedClassesModel", name := "function", desc := "(I)J" } : Jvm.MethodName) prog_46_method_133_code (2 : Nat) (Option.some Jvm.ClassFile.FieldType.long)) ∈ lw_all := lw_g (lw_at lw_m16 148 rfl) rfl
theorem q3992 : (Jvm.Cond.instanceMethod ({ cls := "CoercedClassesModel", name := "feed", desc := "(IIIII)I" } : Jvm.MethodName)) ∈ lw_all := lw_g (lw_at lw_m16 150 rfl) rfl
theorem q3993 : (Jvm.Cond.selects "CoercedClassesModel" ({ cls := "CoercedClassesModel", name := "feed", desc := "(IIIII)I" } : Jvm.MethodName) ({ cls := "CoercedClassesModel", name := "feed", desc := "(IIIII)I" } : Jvm.MethodName)) ∈ lw_all := lw_g (lw_at lw_m16 151 rfl) rfl
theorem q3994 : (Jvm.Cond.code ({ cls := "CoercedClassesModel", name := "feed", desc := "(IIIII)I" } : Jvm.MethodName) prog_46_method_150_code (8 : Nat) (Option.some Jvm.ClassFile.FieldType.int)) ∈ lw_all := lw_g (lw_at lw_m16 152 rfl) rfl
theorem q3996 : (Jvm.Cond.instanceMethod ({ cls := "CoercedClassesModel", name := "load", desc := "(I)I" } : Jvm.MethodName)) ∈ lw_all := lw_g (lw_at lw_m16 154 rfl) rfl
theorem q3997 : (Jvm.Cond.selects "CoercedClassesModel" ({ cls := "CoercedClassesModel", name := "load", desc := "(I)I" } : Jvm.MethodName) ({ cls := "CoercedClassesModel", name := "load", desc := "(I)I" } : Jvm.MethodName)) ∈ lw_all := lw_g (lw_at lw_m16 155 rfl) rfl
theorem q3998 : (Jvm.Cond.code ({ cls := "CoercedClassesModel", name := "load", desc := "(I)I" } : Jvm.MethodName) prog_46_method_151_code (3 : Nat) (Option.some Jvm.ClassFile.FieldType.int)) ∈ lw_all := lw_g (lw_at lw_m16 156 rfl) rfl
theorem q3999 : (Jvm.Cond.methodLink "CoercedClassesModel" (1088 : Nat) ({ cls := "CoercedClassesModel", name := "isProgram", desc := "([BI)Z" } : Jvm.MethodName)) ∈ lw_all := lw_g (lw_at lw_m16 157 rfl) rfl
theorem q4000 : (Jvm.Cond.privateMethod ({ cls := "CoercedClassesModel", name := "isProgram", desc := "([BI)Z" } : Jvm.MethodName)) ∈ lw_tbl := lw_at lw_m16 158 rfl
theorem q4001 : (Jvm.Cond.instanceMethod ({ cls := "CoercedClassesModel", name := "isProgram", desc := "([BI)Z" } : Jvm.MethodName)) ∈ lw_all := lw_g (lw_at lw_m16 159 rfl) rfl
theorem q4002 : (Jvm.Cond.code ({ cls := "CoercedClassesModel", name := "isProgram", desc := "([BI)Z" } : Jvm.MethodName) prog_46_method_147_code (4 : Nat) (Option.some Jvm.ClassFile.FieldType.boolean)) ∈ lw_all := lw_g (lw_at lw_m16 160 rfl) rfl
theorem q4003 : (Jvm.Cond.methodLink "CoercedClassesModel" (1026 : Nat) ({ cls := "CoercedClassesModel", name := "always", desc := "()V" } : Jvm.MethodName)) ∈ lw_all := lw_g (lw_at lw_m16 161 rfl) rfl
theorem q4004 : (Jvm.Cond.privateMethod ({ cls := "CoercedClassesModel", name := "always", desc := "()V" } : Jvm.MethodName)) ∈ lw_tbl := lw_at lw_m16 162 rfl
theorem q4005 : (Jvm.Cond.instanceMethod ({ cls := "CoercedClassesModel", name := "always", desc := "()V" } : Jvm.MethodName)) ∈ lw_all := lw_g (lw_at lw_m16 163 rfl) rfl
theorem q4006 : (Jvm.Cond.code ({ cls := "CoercedClassesModel", name := "always", desc := "()V" } : Jvm.MethodName) prog_46_method_145_code (5 : Nat) (Option.none : Option Jvm.ClassFile.FieldType)) ∈ lw_all := lw_g (lw_at lw_m16 164 rfl) rfl
theorem q4007 : (Jvm.Cond.constantLong "CoercedClassesModel" (1001 : Nat) (7235948 : Int64)) ∈ lw_all := lw_g (lw_at lw_m16 165 rfl) rfl
theorem q4008 : (Jvm.Cond.methodLink "CoercedClassesModel" (1003 : Nat) ({ cls := "CoercedClassesModel", name := "spell", desc := "(J)V" } : Jvm.MethodName)) ∈ lw_all := lw_g (lw_at lw_m16 166 rfl) rfl
theorem q4009 : (Jvm.Cond.privateMethod ({ cls := "CoercedClassesModel", name := "spell", desc := "(J)V" } : Jvm.MethodName)) ∈ lw_tbl := lw_at lw_m16 167 rfl
theorem q4010 : (Jvm.Cond.instanceMethod ({ cls := "CoercedClassesModel", name := "spell", desc := "(J)V" } : Jvm.MethodName)) ∈ lw_all := lw_g (lw_at lw_m16 168 rfl) rfl
theorem q4011 : (Jvm.Cond.code ({ cls := "CoercedClassesModel", name := "spell", desc := "(J)V" } : Jvm.MethodName) prog_46_method_146_code (5 : Nat) (Option.none : Option Jvm.ClassFile.FieldType)) ∈ lw_all := lw_g (lw_at lw_m16 169 rfl) rfl
theorem q4012 : (Jvm.Cond.constantLong "CoercedClassesModel" (1006 : Nat) (1668247155 : Int64)) ∈ lw_all := lw_g (lw_at lw_m16 170 rfl) rfl
theorem q4013 : (Jvm.Cond.constantLong "CoercedClassesModel" (1008 : Nat) (1885432178 : Int64)) ∈ lw_all := lw_g (lw_at lw_m16 171 rfl) rfl
theorem q4014 : (Jvm.Cond.constantLong "CoercedClassesModel" (1010 : Nat) (6714228 : Int64)) ∈ lw_all := lw_g (lw_at lw_m16 172 rfl) rfl
theorem q4015 : (Jvm.Cond.constantLong "CoercedClassesModel" (1012 : Nat) (7564900 : Int64)) ∈ lw_all := lw_g (lw_at lw_m16 173 rfl) rfl
theorem q4016 : (Jvm.Cond.constantLong "CoercedClassesModel" (1014 : Nat) (97 : Int64)) ∈ lw_all := lw_g (lw_at lw_m16 174 rfl) rfl
theorem q4017 : (Jvm.Cond.constantLong "CoercedClassesModel" (1016 : Nat) (98 : Int64)) ∈ lw_all := lw_g (lw_at lw_m16 175 rfl) rfl
theorem q4018 : (Jvm.Cond.constantLong "CoercedClassesModel" (1018 : Nat) (4812404 : Int64)) ∈ lw_all := lw_g (lw_at lw_m16 176 rfl) rfl
theorem q4019 : (Jvm.Cond.constantLong "CoercedClassesModel" (1020 : Nat) (1114599276 : Int64)) ∈ lw_all := lw_g (lw_at lw_m16 177 rfl) rfl
theorem q4020 : (Jvm.Cond.constantLong "CoercedClassesModel" (1022 : Nat) (1281979252 : Int64)) ∈ lw_all := lw_g (lw_at lw_m16 178 rfl) rfl
theorem q4021 : (Jvm.Cond.constantLong "CoercedClassesModel" (1024 : Nat) (1348561266 : Int64)) ∈ lw_all := lw_g (lw_at lw_m16 179 rfl) rfl
theorem q4022 : (Jvm.Cond.methodLink "CoercedClassesModel" (1029 : Nat) ({ cls := "CoercedClassesModel", name := "scan", desc := "()V" } : Jvm.MethodName)) ∈ lw_all := lw_g (lw_at lw_m16 180 rfl) rfl
theorem q4023 : (Jvm.Cond.privateMethod ({ cls := "CoercedClassesModel", name := "scan", desc := "()V" } : Jvm.MethodName)) ∈ lw_tbl := lw_at lw_m16 181 rfl
theorem q4024 : (Jvm.Cond.instanceMethod ({ cls := "CoercedClassesModel", name := "scan", desc := "()V" } : Jvm.MethodName)) ∈ lw_all := lw_g (lw_at lw_m16 182 rfl) rfl
theorem q4025 : (Jvm.Cond.code ({ cls := "CoercedClassesModel", name := "scan", desc := "()V" } : Jvm.MethodName) prog_46_method_11_code (5 : Nat) (Option.none : Option Jvm.ClassFile.FieldType)) ∈ lw_all := lw_g (lw_at lw_m16 183 rfl) rfl
theorem q4026 : (Jvm.Cond.methodLink "CoercedClassesModel" (379 : Nat) ({ cls := "CoercedClassesModel", name := "b", desc := "(I)I" } : Jvm.MethodName)) ∈ lw_all := lw_g (lw_at lw_m16 184 rfl) rfl
theorem q4027 : (Jvm.Cond.privateMethod ({ cls := "CoercedClassesModel", name := "b", desc := "(I)I" } : Jvm.MethodName)) ∈ lw_tbl := lw_at lw_m16 185 rfl
theorem q4028 : (Jvm.Cond.instanceMethod ({ cls := "CoercedClassesModel", name := "b", desc := "(I)I" } : Jvm.MethodName)) ∈ lw_all := lw_g (lw_at lw_m16 186 rfl) rfl
theorem q4029 : (Jvm.Cond.code ({ cls := "CoercedClassesModel", name := "b", desc := "(I)I" } : Jvm.MethodName) prog_46_method_7_code (2 : Nat) (Option.some Jvm.ClassFile.FieldType.int)) ∈ lw_all := lw_g (lw_at lw_m16 187 rfl) rfl
theorem q4030 : (Jvm.Cond.methodLink "CoercedClassesModel" (409 : Nat) ({ cls := "CoercedClassesModel", name := "isSmall", desc := "(I)Z" } : Jvm.MethodName)) ∈ lw_all := lw_g (lw_at lw_m16 188 rfl) rfl
theorem q4031 : (Jvm.Cond.static ({ cls := "CoercedClassesModel", name := "isSmall", desc := "(I)Z" } : Jvm.MethodName)) ∈ lw_all := lw_g (lw_at lw_m16 189 rfl) rfl
theorem q4032 : (Jvm.Cond.code ({ cls := "CoercedClassesModel", name := "isSmall", desc := "(I)Z" } : Jvm.MethodName) prog_46_method_4_code (1 : Nat) (Option.some Jvm.ClassFile.FieldType.boolean)) ∈ lw_all := lw_g (lw_at lw_m16 190 rfl) rfl
theorem q4033 : (Jvm.Cond.methodLink "CoercedClassesModel" (413 : Nat) ({ cls := "CoercedClassesModel", name := "isBig", desc := "(I)Z" } : Jvm.MethodName)) ∈ lw_all := lw_g (lw_at lw_m16 191 rfl) rfl
theorem q4034 : (Jvm.Cond.static ({ cls := "CoercedClassesModel", name := "isBig", desc := "(I)Z" } : Jvm.MethodName)) ∈ lw_all := lw_g (lw_at lw_m16 192 rfl) rfl
theorem q4035 : (Jvm.Cond.code ({ cls := "CoercedClassesModel", name := "isBig", desc := "(I)Z" } : Jvm.MethodName) prog_46_method_5_code (1 : Nat) (Option.some Jvm.ClassFile.FieldType.boolean)) ∈ lw_all := lw_g (lw_at lw_m16 193 rfl) rfl
theorem q4036 : (Jvm.Cond.methodLink "CoercedClassesModel" (416 : Nat) ({ cls := "CoercedClassesModel", name := "isDigit", desc := "(I)Z" } : Jvm.MethodName)) ∈ lw_all := lw_g (lw_at lw_m16 194 rfl) rfl
theorem q4037 : (Jvm.Cond.static ({ cls := "CoercedClassesModel", name := "isDigit", desc := "(I)Z" } : Jvm.MethodName)) ∈ lw_all := lw_g (lw_at lw_m16 195 rfl) rfl
theorem q4038 : (Jvm.Cond.code ({ cls := "CoercedClassesModel", name := "isDigit", desc := "(I)Z" } : Jvm.MethodName) prog_46_method_6_code (1 : Nat) (Option.some Jvm.ClassFile.FieldType.boolean)) ∈ lw_all := lw_g (lw_at lw_m16 196 rfl) rfl
theorem q4039 : (Jvm.Cond.methodLink "CoercedClassesModel" (419 : Nat) ({ cls := "CoercedClassesModel", name := "wordKind", desc := "(II)I" } : Jvm.MethodName)) ∈ lw_all := lw_g (lw_at lw_m16 197 rfl) rfl
theorem q4040 : (Jvm.Cond.privateMethod ({ cls := "CoercedClassesModel", name := "wordKind", desc := "(II)I" } : Jvm.MethodName)) ∈ lw_tbl := lw_at lw_m16 198 rfl
theorem q4041 : (Jvm.Cond.instanceMethod ({ cls := "CoercedClassesModel", name := "wordKind", desc := "(II)I" } : Jvm.MethodName)) ∈ lw_all := lw_g (lw_at lw_m16 199 rfl) rfl
theorem q4042 : (Jvm.Cond.code ({ cls := "CoercedClassesModel", name := "wordKind", desc := "(II)I" } : Jvm.MethodName) prog_46_method_10_code (3 : Nat) (Option.some Jvm.ClassFile.FieldType.int)) ∈ lw_all := lw_g (lw_at lw_m16 200 rfl) rfl
theorem q4043 : (Jvm.Cond.constantLong "CoercedClassesModel" (383 : Nat) (427020088179 : Int64)) ∈ lw_all := lw_g (lw_at lw_m16 201 rfl) rfl
theorem q4044 : (Jvm.Cond.methodLink "CoercedClassesModel" (385 : Nat) ({ cls := "CoercedClassesModel", name := "isThe", desc := "(IIJ)Z" } : Jvm.MethodName)) ∈ lw_all := lw_g (lw_at lw_m16 202 rfl) rfl
theorem q4045 : (Jvm.Cond.privateMethod ({ cls := "CoercedClassesModel", name := "isThe", desc := "(IIJ)Z" } : Jvm.MethodName)) ∈ lw_tbl := lw_at lw_m16 203 rfl
theorem q4046 : (Jvm.Cond.instanceMethod ({ cls := "CoercedClassesModel", name := "isThe", desc := "(IIJ)Z" } : Jvm.MethodName)) ∈ lw_all := lw_g (lw_at lw_m16 204 rfl) rfl
theorem q4047 : (Jvm.Cond.code ({ cls := "CoercedClassesModel", name := "isThe", desc := "(IIJ)Z" } : Jvm.MethodName) prog_46_method_9_code (8 : Nat) (Option.some Jvm.ClassFile.FieldType.boolean)) ∈ lw_all := lw_g (lw_at lw_m16 205 rfl) rfl
theorem q4048 : (Jvm.Cond.constantLong "CoercedClassesModel" (389 : Nat) (7597136565108630373 : Int64)) ∈ lw_all := lw_g (lw_at lw_m16 206 rfl) rfl
theorem q4049 : (Jvm.Cond.constantLong "CoercedClassesModel" (391 : Nat) (1954115685 : Int64)) ∈ lw_all := lw_g (lw_at lw_m16 207 rfl) rfl
theorem q4050 : (Jvm.Cond.constantLong "CoercedClassesModel" (393 : Nat) (112628846390380 : Int64)) ∈ lw_all := lw_g (lw_at lw_m16 208 rfl) rfl
theorem q4051 : (Jvm.Cond.constantLong "CoercedClassesModel" (395 : Nat) (26982 : Int64)) ∈ lw_all := lw_g (lw_at lw_m16 209 rfl) rfl
theorem q4052 : (Jvm.Cond.constantLong "CoercedClassesModel" (397 : Nat) (1952998766 : Int64)) ∈ lw_all := lw_g (lw_at lw_m16 210 rfl) rfl
theorem q4053 : (Jvm.Cond.constantLong "CoercedClassesModel" (399 : Nat) (1701606245 : Int64)) ∈ lw_all := lw_g (lw_at lw_m16 211 rfl) rfl
theorem q4054 : (Jvm.Cond.constantLong "CoercedClassesModel" (401 : Nat) (7103860 : Int64)) ∈ lw_all := lw_g (lw_at lw_m16 212 rfl) rfl
theorem q4055 : (Jvm.Cond.constantLong "CoercedClassesModel" (403 : Nat) (26990 : Int64)) ∈ lw_all := lw_g (lw_at lw_m16 213 rfl) rfl
theorem q4056 : (Jvm.Cond.constantLong "CoercedClassesModel" (405 : Nat) (1667330917 : Int64)) ∈ lw_all := lw_g (lw_at lw_m16 214 rfl) rfl
theorem q4057 : (Jvm.Cond.constantLong "CoercedClassesModel" (407 : Nat) (28518 : Int64)) ∈ lw_all := lw_g (lw_at lw_m16 215 rfl) rfl
theorem q4058 : (Jvm.Cond.methodLink "CoercedClassesModel" (422 : Nat) ({ cls := "CoercedClassesModel", name := "token", desc := "(III)V" } : Jvm.MethodName)) ∈ lw_all := lw_g (lw_at lw_m16 216 rfl) rfl
theorem q4059 : (Jvm.Cond.privateMethod ({ cls := "CoercedClassesModel", name := "token", desc := "(III)V" } : Jvm.MethodName)) ∈ lw_tbl := lw_at lw_m16 217 rfl
theorem q4060 : (Jvm.Cond.instanceMethod ({ cls := "CoercedClassesModel", name := "token", desc := "(III)V" } : Jvm.MethodName)) ∈ lw_all := lw_g (lw_at lw_m16 218 rfl) rfl
theorem q4061 : (Jvm.Cond.code ({ cls := "CoercedClassesModel", name := "token", desc := "(III)V" } : Jvm.MethodName) prog_46_method_8_code (6 : Nat) (Option.none : Option Jvm.ClassFile.FieldType)) ∈ lw_all := lw_g (lw_at lw_m16 219 rfl) rfl
theorem q4062 : (Jvm.Cond.methodLink "CoercedClassesModel" (375 : Nat) ({ cls := "CoercedClassesModel", name := "name", desc := "(II)I" } : Jvm.MethodName)) ∈ lw_all := lw_g (lw_at lw_m16 220 rfl) rfl
theorem q4063 : (Jvm.Cond.privateMethod ({ cls := "CoercedClassesModel", name := "name", desc := "(II)I" } : Jvm.MethodName)) ∈ lw_tbl := lw_at lw_m16 221 rfl
theorem q4064 : (Jvm.Cond.instanceMethod ({ cls := "CoercedClassesModel", name := "name", desc := "(II)I" } : Jvm.MethodName)) ∈ lw_all := lw_g (lw_at lw_m16 222 rfl) rfl
theorem q4065 : (Jvm.Cond.code ({ cls := "CoercedClassesModel", name := "name", desc := "(II)I" } : Jvm.MethodName) prog_46_method_3_code (6 : Nat) (Option.some Jvm.ClassFile.FieldType.int)) ∈ lw_all := lw_g (lw_at lw_m16 223 rfl) rfl
theorem q4066 : (Jvm.Cond.methodLink "CoercedClassesModel" (469 : Nat) ({ cls := "CoercedClassesModel", name := "is", desc := "(I)Z" } : Jvm.MethodName)) ∈ lw_all := lw_g (lw_at lw_m16 224 rfl) rfl
theorem q4067 : (Jvm.Cond.privateMethod ({ cls := "CoercedClassesModel", name := "is", desc := "(I)Z" } : Jvm.MethodName)) ∈ lw_tbl := lw_at lw_m16 225 rfl
theorem q4068 : (Jvm.Cond.instanceMethod ({ cls := "CoercedClassesModel", name := "is", desc := "(I)Z" } : Jvm.MethodName)) ∈ lw_all := lw_g (lw_at lw_m16 226 rfl) rfl
theorem q4069 : (Jvm.Cond.code ({ cls := "CoercedClassesModel", name := "is", desc := "(I)Z" } : Jvm.MethodName) prog_46_method_15_code (2 : Nat) (Option.some Jvm.ClassFile.FieldType.boolean)) ∈ lw_all := lw_g (lw_at lw_m16 227 rfl) rfl
theorem q4070 : (Jvm.Cond.methodLink "CoercedClassesModel" (1032 : Nat) ({ cls := "CoercedClassesModel", name := "decl", desc := "()V" } : Jvm.MethodName)) ∈ lw_all := lw_g (lw_at lw_m16 228 rfl) rfl
theorem q4071 : (Jvm.Cond.privateMethod ({ cls := "CoercedClassesModel", name := "decl", desc := "()V" } : Jvm.MethodName)) ∈ lw_tbl := lw_at lw_m16 229 rfl
theorem q4072 : (Jvm.Cond.instanceMethod ({ cls := "CoercedClassesModel", name := "decl", desc := "()V" } : Jvm.MethodName)) ∈ lw_all := lw_g (lw_at lw_m16 230 rfl) rfl
theorem q4073 : (Jvm.Cond.code ({ cls := "CoercedClassesModel", name := "decl", desc := "()V" } : Jvm.MethodName) prog_46_method_34_code (2 : Nat) (Option.none : Option Jvm.ClassFile.FieldType)) ∈ lw_all := lw_g (lw_at lw_m16 231 rfl) rfl
theorem q4074 : (Jvm.Cond.methodLink "CoercedClassesModel" (442 : Nat) ({ cls := "CoercedClassesModel", name := "takes", desc := "(I)Z" } : Jvm.MethodName)) ∈ lw_all := lw_g (lw_at lw_m16 232 rfl) rfl
theorem q4075 : (Jvm.Cond.privateMethod ({ cls := "CoercedClassesModel", name := "takes", desc := "(I)Z" } : Jvm.MethodName)) ∈ lw_tbl := lw_at lw_m16 233 rfl
theorem q4076 : (Jvm.Cond.instanceMethod ({ cls := "CoercedClassesModel", name := "takes", desc := "(I)Z" } : Jvm.MethodName)) ∈ lw_all := lw_g (lw_at lw_m16 234 rfl) rfl
theorem q4077 : (Jvm.Cond.code ({ cls := "CoercedClassesModel", name := "takes", desc := "(I)Z" } : Jvm.MethodName) prog_46_method_16_code (2 : Nat) (Option.some Jvm.ClassFile.FieldType.boolean)) ∈ lw_all := lw_g (lw_at lw_m16 235 rfl) rfl
theorem q4078 : (Jvm.Cond.methodLink "CoercedClassesModel" (513 : Nat) ({ cls := "CoercedClassesModel", name := "aClass", desc := "(I)V" } : Jvm.MethodName)) ∈ lw_all := lw_g (lw_at lw_m16 236 rfl) rfl
theorem q4079 : (Jvm.Cond.privateMethod ({ cls := "CoercedClassesModel", name := "aClass", desc := "(I)V" } : Jvm.MethodName)) ∈ lw_tbl := lw_at lw_m16 237 rfl
theorem q4080 : (Jvm.Cond.instanceMethod ({ cls := "CoercedClassesModel", name := "aClass", desc := "(I)V" } : Jvm.MethodName)) ∈ lw_all := lw_g (lw_at lw_m16 238 rfl) rfl
theorem q4081 : (Jvm.Cond.code ({ cls := "CoercedClassesModel", name := "aClass", desc := "(I)V" } : Jvm.MethodName) prog_46_method_35_code (5 : Nat) (Option.none : Option Jvm.ClassFile.FieldType)) ∈ lw_all := lw_g (lw_at lw_m16 239 rfl) rfl
theorem q4082 : (Jvm.Cond.methodLink "CoercedClassesModel" (479 : Nat) ({ cls := "CoercedClassesModel", name := "needed", desc := "(I)I" } : Jvm.MethodName)) ∈ lw_all := lw_g (lw_at lw_m17 0 rfl) rfl
theorem q4083 : (Jvm.Cond.privateMethod ({ cls := "CoercedClassesModel", name := "needed", desc := "(I)I" } : Jvm.MethodName)) ∈ lw_tbl := lw_at lw_m17 1 rfl
theorem q4084 : (Jvm.Cond.instanceMethod ({ cls := "CoercedClassesModel", name := "needed", desc := "(I)I" } : Jvm.MethodName)) ∈ lw_all := lw_g (lw_at lw_m17 2 rfl) rfl
theorem q4085 : (Jvm.Cond.code ({ cls := "CoercedClassesModel", name := "needed", desc := "(I)I" } : Jvm.MethodName) prog_46_method_19_code (3 : Nat) (Option.some Jvm.ClassFile.FieldType.int)) ∈ lw_all := lw_g (lw_at lw_m17 3 rfl) rfl
theorem q4086 : (Jvm.Cond.methodLink "CoercedClassesModel" (448 : Nat) ({ cls := "CoercedClassesModel", name := "need", desc := "(I)V" } : Jvm.MethodName)) ∈ lw_all := lw_g (lw_at lw_m17 4 rfl) rfl
theorem q4087 : (Jvm.Cond.privateMethod ({ cls := "CoercedClassesModel", name := "need", desc := "(I)V" } : Jvm.MethodName)) ∈ lw_tbl := lw_at lw_m17 5 rfl
theorem q4088 : (Jvm.Cond.instanceMethod ({ cls := "CoercedClassesModel", name := "need", desc := "(I)V" } : Jvm.MethodName)) ∈ lw_all := lw_g (lw_at lw_m17 6 rfl) rfl
theorem q4089 : (Jvm.Cond.code ({ cls := "CoercedClassesModel", name := "need", desc := "(I)V" } : Jvm.MethodName) prog_46_method_18_code (2 : Nat) (Option.none : Option Jvm.ClassFile.FieldType)) ∈ lw_all := lw_g (lw_at lw_m17 7 rfl) rfl
theorem q4090 : (Jvm.Cond.methodLink "CoercedClassesModel" (445 : Nat) ({ cls := "CoercedClassesModel", name := "wrong", desc := "()V" } : Jvm.MethodName)) ∈ lw_all := lw_g (lw_at lw_m17 8 rfl) rfl
theorem q4091 : (Jvm.Cond.privateMethod ({ cls := "CoercedClassesModel", name := "wrong", desc := "()V" } : Jvm.MethodName)) ∈ lw_tbl := lw_at lw_m17 9 rfl
theorem q4092 : (Jvm.Cond.instanceMethod ({ cls := "CoercedClassesModel", name := "wrong", desc := "()V" } : Jvm.MethodName)) ∈ lw_all := lw_g (lw_at lw_m17 10 rfl) rfl
theorem q4093 : (Jvm.Cond.code ({ cls := "CoercedClassesModel", name := "wrong", desc := "()V" } : Jvm.MethodName) prog_46_method_17_code (1 : Nat) (Option.none : Option Jvm.ClassFile.FieldType)) ∈ lw_all := lw_g (lw_at lw_m17 11 rfl) rfl
theorem q4094 : (Jvm.Cond.methodLink "CoercedClassesModel" (462 : Nat) ({ cls := "CoercedClassesModel", name := "readType", desc := "()I" } : Jvm.MethodName)) ∈ lw_all := lw_g (lw_at lw_m17 12 rfl) rfl
theorem q4095 : (Jvm.Cond.privateMethod ({ cls := "CoercedClassesModel", name := "readType", desc := "()I" } : Jvm.MethodName)) ∈ lw_tbl := lw_at lw_m17 13 rfl
theorem q4096 : (Jvm.Cond.instanceMethod ({ cls := "CoercedClassesModel", name := "readType", desc := "()I" } : Jvm.MethodName)) ∈ lw_all := lw_g (lw_at lw_m17 14 rfl) rfl
theorem q4097 : (Jvm.Cond.code ({ cls := "CoercedClassesModel", name := "readType", desc := "()I" } : Jvm.MethodName) prog_46_method_21_code (3 : Nat) (Option.some Jvm.ClassFile.FieldType.int)) ∈ lw_all := lw_g (lw_at lw_m17 15 rfl) rfl
theorem q4098 : (Jvm.Cond.methodLink "CoercedClassesModel" (455 : Nat) ({ cls := "CoercedClassesModel", name := "enter", desc := "()V" } : Jvm.MethodName)) ∈ lw_all := lw_g (lw_at lw_m17 16 rfl) rfl
theorem q4099 : (Jvm.Cond.privateMethod ({ cls := "CoercedClassesModel", name := "enter", desc := "()V" } : Jvm.MethodName)) ∈ lw_tbl := lw_at lw_m17 17 rfl
theorem q4100 : (Jvm.Cond.instanceMethod ({ cls := "CoercedClassesModel", name := "enter", desc := "()V" } : Jvm.MethodName)) ∈ lw_all := lw_g (lw_at lw_m17 18 rfl) rfl
theorem q4101 : (Jvm.Cond.code ({ cls := "CoercedClassesModel", name := "enter", desc := "()V" } : Jvm.MethodName) prog_46_method_20_code (1 : Nat) (Option.none : Option Jvm.ClassFile.FieldType)) ∈ lw_all := lw_g (lw_at lw_m17 19 rfl) rfl
theorem q4102 : (Jvm.Cond.methodLink "CoercedClassesModel" (458 : Nat) ({ cls := "CoercedClassesModel", name := "ground", desc := "()I" } : Jvm.MethodName)) ∈ lw_all := lw_g (lw_at lw_m17 20 rfl) rfl
theorem q4103 : (Jvm.Cond.privateMethod ({ cls := "CoercedClassesModel", name := "ground", desc := "()I" } : Jvm.MethodName)) ∈ lw_tbl := lw_at lw_m17 21 rfl
theorem q4104 : (Jvm.Cond.instanceMethod ({ cls := "CoercedClassesModel", name := "ground", desc := "()I" } : Jvm.MethodName)) ∈ lw_all := lw_g (lw_at lw_m17 22 rfl) rfl
theorem q4105 : (Jvm.Cond.code ({ cls := "CoercedClassesModel", name := "ground", desc := "()I" } : Jvm.MethodName) prog_46_method_23_code (4 : Nat) (Option.some Jvm.ClassFile.FieldType.int)) ∈ lw_all := lw_g (lw_at lw_m17 23 rfl) rfl
theorem q4106 : (Jvm.Cond.methodLink "CoercedClassesModel" (472 : Nat) ({ cls := "CoercedClassesModel", name := "piece", desc := "()I" } : Jvm.MethodName)) ∈ lw_all := lw_g (lw_at lw_m17 24 rfl) rfl
theorem q4107 : (Jvm.Cond.privateMethod ({ cls := "CoercedClassesModel", name := "piece", desc := "()I" } : Jvm.MethodName)) ∈ lw_tbl := lw_at lw_m17 25 rfl
theorem q4108 : (Jvm.Cond.instanceMethod ({ cls := "CoercedClassesModel", name := "piece", desc := "()I" } : Jvm.MethodName)) ∈ lw_all := lw_g (lw_at lw_m17 26 rfl) rfl
theorem q4109 : (Jvm.Cond.code ({ cls := "CoercedClassesModel", name := "piece", desc := "()I" } : Jvm.MethodName) prog_46_method_24_code (2 : Nat) (Option.some Jvm.ClassFile.FieldType.int)) ∈ lw_all := lw_g (lw_at lw_m17 27 rfl) rfl
theorem q4110 : (Jvm.Cond.methodLink "CoercedClassesModel" (465 : Nat) ({ cls := "CoercedClassesModel", name := "node", desc := "(IIIIII)I" } : Jvm.MethodName)) ∈ lw_all := lw_g (lw_at lw_m17 28 rfl) rfl
theorem q4111 : (Jvm.Cond.privateMethod ({ cls := "CoercedClassesModel", name := "node", desc := "(IIIIII)I" } : Jvm.MethodName)) ∈ lw_tbl := lw_at lw_m17 29 rfl
theorem q4112 : (Jvm.Cond.instanceMethod ({ cls := "CoercedClassesModel", name := "node", desc := "(IIIIII)I" } : Jvm.MethodName)) ∈ lw_all := lw_g (lw_at lw_m17 30 rfl) rfl
theorem q4113 : (Jvm.Cond.code ({ cls := "CoercedClassesModel", name := "node", desc := "(IIIIII)I" } : Jvm.MethodName) prog_46_method_14_code (8 : Nat) (Option.some Jvm.ClassFile.FieldType.int)) ∈ lw_all := lw_g (lw_at lw_m17 31 rfl) rfl
theorem q4114 : (Jvm.Cond.methodLink "CoercedClassesModel" (475 : Nat) ({ cls := "CoercedClassesModel", name := "isPiece", desc := "()Z" } : Jvm.MethodName)) ∈ lw_all := lw_g (lw_at lw_m17 32 rfl) rfl
theorem q4115 : (Jvm.Cond.privateMethod ({ cls := "CoercedClassesModel", name := "isPiece", desc := "()Z" } : Jvm.MethodName)) ∈ lw_tbl := lw_at lw_m17 33 rfl
theorem q4116 : (Jvm.Cond.instanceMethod ({ cls := "CoercedClassesModel", name := "isPiece", desc := "()Z" } : Jvm.MethodName)) ∈ lw_all := lw_g (lw_at lw_m17 34 rfl) rfl
theorem q4117 : (Jvm.Cond.code ({ cls := "CoercedClassesModel", name := "isPiece", desc := "()Z" } : Jvm.MethodName) prog_46_method_22_code (1 : Nat) (Option.some Jvm.ClassFile.FieldType.boolean)) ∈ lw_all := lw_g (lw_at lw_m17 35 rfl) rfl
theorem q4118 : (Jvm.Cond.methodLink "CoercedClassesModel" (516 : Nat) ({ cls := "CoercedClassesModel", name := "anInstance", desc := "(I)V" } : Jvm.MethodName)) ∈ lw_all := lw_g (lw_at lw_m17 36 rfl) rfl
theorem q4119 : (Jvm.Cond.privateMethod ({ cls := "CoercedClassesModel", name := "anInstance", desc := "(I)V" } : Jvm.MethodName)) ∈ lw_tbl := lw_at lw_m17 37 rfl
theorem q4120 : (Jvm.Cond.instanceMethod ({ cls := "CoercedClassesModel", name := "anInstance", desc := "(I)V" } : Jvm.MethodName)) ∈ lw_all := lw_g (lw_at lw_m17 38 rfl) rfl
theorem q4121 : (Jvm.Cond.code ({ cls := "CoercedClassesModel", name := "anInstance", desc := "(I)V" } : Jvm.MethodName) prog_46_method_37_code (5 : Nat) (Option.none : Option Jvm.ClassFile.FieldType)) ∈ lw_all := lw_g (lw_at lw_m17 39 rfl) rfl
theorem q4122 : (Jvm.Cond.methodLink "CoercedClassesModel" (522 : Nat) ({ cls := "CoercedClassesModel", name := "conditions", desc := "(Z)I" } : Jvm.MethodName)) ∈ lw_all := lw_g (lw_at lw_m17 40 rfl) rfl
theorem q4123 : (Jvm.Cond.privateMethod ({ cls := "CoercedClassesModel", name := "conditions", desc := "(Z)I" } : Jvm.MethodName)) ∈ lw_tbl := lw_at lw_m17 41 rfl
theorem q4124 : (Jvm.Cond.instanceMethod ({ cls := "CoercedClassesModel", name := "conditions", desc := "(Z)I" } : Jvm.MethodName)) ∈ lw_all := lw_g (lw_at lw_m17 42 rfl) rfl
theorem q4125 : (Jvm.Cond.code ({ cls := "CoercedClassesModel", name := "conditions", desc := "(Z)I" } : Jvm.MethodName) prog_46_method_36_code (8 : Nat) (Option.some Jvm.ClassFile.FieldType.int)) ∈ lw_all := lw_g (lw_at lw_m17 43 rfl) rfl
theorem q4126 : (Jvm.Cond.methodLink "CoercedClassesModel" (482 : Nat) ({ cls := "CoercedClassesModel", name := "readEx", desc := "()I" } : Jvm.MethodName)) ∈ lw_all := lw_g (lw_at lw_m17 44 rfl) rfl
theorem q4127 : (Jvm.Cond.privateMethod ({ cls := "CoercedClassesModel", name := "readEx", desc := "()I" } : Jvm.MethodName)) ∈ lw_tbl := lw_at lw_m17 45 rfl
theorem q4128 : (Jvm.Cond.instanceMethod ({ cls := "CoercedClassesModel", name := "readEx", desc := "()I" } : Jvm.MethodName)) ∈ lw_all := lw_g (lw_at lw_m17 46 rfl) rfl
theorem q4129 : (Jvm.Cond.code ({ cls := "CoercedClassesModel", name := "readEx", desc := "()I" } : Jvm.MethodName) prog_46_method_25_code (6 : Nat) (Option.some Jvm.ClassFile.FieldType.int)) ∈ lw_all := lw_g (lw_at lw_m17 47 rfl) rfl
theorem q4130 : (Jvm.Cond.methodLink "CoercedClassesModel" (485 : Nat) ({ cls := "CoercedClassesModel", name := "readCase", desc := "(I)I" } : Jvm.MethodName)) ∈ lw_all := lw_g (lw_at lw_m17 48 rfl) rfl
theorem q4131 : (Jvm.Cond.privateMethod ({ cls := "CoercedClassesModel", name := "readCase", desc := "(I)I" } : Jvm.MethodName)) ∈ lw_tbl := lw_at lw_m17 49 rfl
theorem q4132 : (Jvm.Cond.instanceMethod ({ cls := "CoercedClassesModel", name := "readCase", desc := "(I)I" } : Jvm.MethodName)) ∈ lw_all := lw_g (lw_at lw_m17 50 rfl) rfl
theorem q4133 : (Jvm.Cond.code ({ cls := "CoercedClassesModel", name := "readCase", desc := "(I)I" } : Jvm.MethodName) prog_46_method_27_code (6 : Nat) (Option.some Jvm.ClassFile.FieldType.int)) ∈ lw_all := lw_g (lw_at lw_m17 51 rfl) rfl
theorem q4134 : (Jvm.Cond.methodLink "CoercedClassesModel" (491 : Nat) ({ cls := "CoercedClassesModel", name := "isNamed", desc := "(II)Z" } : Jvm.MethodName)) ∈ lw_all := lw_g (lw_at lw_m17 52 rfl) rfl
theorem q4135 : (Jvm.Cond.privateMethod ({ cls := "CoercedClassesModel", name := "isNamed", desc := "(II)Z" } : Jvm.MethodName)) ∈ lw_tbl := lw_at lw_m17 53 rfl
theorem q4136 : (Jvm.Cond.instanceMethod ({ cls := "CoercedClassesModel", name := "isNamed", desc := "(II)Z" } : Jvm.MethodName)) ∈ lw_all := lw_g (lw_at lw_m17 54 rfl) rfl
theorem q4137 : (Jvm.Cond.code ({ cls := "CoercedClassesModel", name := "isNamed", desc := "(II)Z" } : Jvm.MethodName) prog_46_method_26_code (3 : Nat) (Option.some Jvm.ClassFile.FieldType.boolean)) ∈ lw_all := lw_g (lw_at lw_m17 55 rfl) rfl
theorem q4138 : (Jvm.Cond.methodLink "CoercedClassesModel" (488 : Nat) ({ cls := "CoercedClassesModel", name := "compare", desc := "()I" } : Jvm.MethodName)) ∈ lw_all := lw_g (lw_at lw_m17 56 rfl) rfl
theorem q4139 : (Jvm.Cond.privateMethod ({ cls := "CoercedClassesModel", name := "compare", desc := "()I" } : Jvm.MethodName)) ∈ lw_tbl := lw_at lw_m17 57 rfl
theorem q4140 : (Jvm.Cond.instanceMethod ({ cls := "CoercedClassesModel", name := "compare", desc := "()I" } : Jvm.MethodName)) ∈ lw_all := lw_g (lw_at lw_m17 58 rfl) rfl
theorem q4141 : (Jvm.Cond.code ({ cls := "CoercedClassesModel", name := "compare", desc := "()I" } : Jvm.MethodName) prog_46_method_28_code (3 : Nat) (Option.some Jvm.ClassFile.FieldType.int)) ∈ lw_all := lw_g (lw_at lw_m17 59 rfl) rfl
theorem q4142 : (Jvm.Cond.methodLink "CoercedClassesModel" (495 : Nat) ({ cls := "CoercedClassesModel", name := "sum", desc := "()I" } : Jvm.MethodName)) ∈ lw_all := lw_g (lw_at lw_m17 60 rfl) rfl
theorem q4143 : (Jvm.Cond.privateMethod ({ cls := "CoercedClassesModel", name := "sum", desc := "()I" } : Jvm.MethodName)) ∈ lw_tbl := lw_at lw_m17 61 rfl
theorem q4144 : (Jvm.Cond.instanceMethod ({ cls := "CoercedClassesModel", name := "sum", desc := "()I" } : Jvm.MethodName)) ∈ lw_all := lw_g (lw_at lw_m17 62 rfl) rfl
theorem q4145 : (Jvm.Cond.code ({ cls := "CoercedClassesModel", name := "sum", desc := "()I" } : Jvm.MethodName) prog_46_method_29_code (3 : Nat) (Option.some Jvm.ClassFile.FieldType.int)) ∈ lw_all := lw_g (lw_at lw_m17 63 rfl) rfl
theorem q4146 : (Jvm.Cond.methodLink "CoercedClassesModel" (498 : Nat) ({ cls := "CoercedClassesModel", name := "product", desc := "()I" } : Jvm.MethodName)) ∈ lw_all := lw_g (lw_at lw_m17 64 rfl) rfl
theorem q4147 : (Jvm.Cond.privateMethod ({ cls := "CoercedClassesModel", name := "product", desc := "()I" } : Jvm.MethodName)) ∈ lw_tbl := lw_at lw_m17 65 rfl
theorem q4148 : (Jvm.Cond.instanceMethod ({ cls := "CoercedClassesModel", name := "product", desc := "()I" } : Jvm.MethodName)) ∈ lw_all := lw_g (lw_at lw_m17 66 rfl) rfl
theorem q4149 : (Jvm.Cond.code ({ cls := "CoercedClassesModel", name := "product", desc := "()I" } : Jvm.MethodName) prog_46_method_30_code (3 : Nat) (Option.some Jvm.ClassFile.FieldType.int)) ∈ lw_all := lw_g (lw_at lw_m17 67 rfl) rfl
theorem q4150 : (Jvm.Cond.methodLink "CoercedClassesModel" (501 : Nat) ({ cls := "CoercedClassesModel", name := "use", desc := "()I" } : Jvm.MethodName)) ∈ lw_all := lw_g (lw_at lw_m17 68 rfl) rfl
theorem q4151 : (Jvm.Cond.privateMethod ({ cls := "CoercedClassesModel", name := "use", desc := "()I" } : Jvm.MethodName)) ∈ lw_tbl := lw_at lw_m17 69 rfl
theorem q4152 : (Jvm.Cond.instanceMethod ({ cls := "CoercedClassesModel", name := "use", desc := "()I" } : Jvm.MethodName)) ∈ lw_all := lw_g (lw_at lw_m17 70 rfl) rfl
theorem q4153 : (Jvm.Cond.code ({ cls := "CoercedClassesModel", name := "use", desc := "()I" } : Jvm.MethodName) prog_46_method_32_code (8 : Nat) (Option.some Jvm.ClassFile.FieldType.int)) ∈ lw_all := lw_g (lw_at lw_m17 71 rfl) rfl
theorem q4154 : (Jvm.Cond.methodLink "CoercedClassesModel" (504 : Nat) ({ cls := "CoercedClassesModel", name := "atom", desc := "()I" } : Jvm.MethodName)) ∈ lw_all := lw_g (lw_at lw_m17 72 rfl) rfl
theorem q4155 : (Jvm.Cond.privateMethod ({ cls := "CoercedClassesModel", name := "atom", desc := "()I" } : Jvm.MethodName)) ∈ lw_tbl := lw_at lw_m17 73 rfl
theorem q4156 : (Jvm.Cond.instanceMethod ({ cls := "CoercedClassesModel", name := "atom", desc := "()I" } : Jvm.MethodName)) ∈ lw_all := lw_g (lw_at lw_m17 74 rfl) rfl
theorem q4157 : (Jvm.Cond.code ({ cls := "CoercedClassesModel", name := "atom", desc := "()I" } : Jvm.MethodName) prog_46_method_33_code (2 : Nat) (Option.some Jvm.ClassFile.FieldType.int)) ∈ lw_all := lw_g (lw_at lw_m17 75 rfl) rfl
theorem q4158 : (Jvm.Cond.methodLink "CoercedClassesModel" (507 : Nat) ({ cls := "CoercedClassesModel", name := "isAtom", desc := "()Z" } : Jvm.MethodName)) ∈ lw_all := lw_g (lw_at lw_m17 76 rfl) rfl
theorem q4159 : (Jvm.Cond.privateMethod ({ cls := "CoercedClassesModel", name := "isAtom", desc := "()Z" } : Jvm.MethodName)) ∈ lw_tbl := lw_at lw_m17 77 rfl
theorem q4160 : (Jvm.Cond.instanceMethod ({ cls := "CoercedClassesModel", name := "isAtom", desc := "()Z" } : Jvm.MethodName)) ∈ lw_all := lw_g (lw_at lw_m17 78 rfl) rfl
theorem q4161 : (Jvm.Cond.code ({ cls := "CoercedClassesModel", name := "isAtom", desc := "()Z" } : Jvm.MethodName) prog_46_method_31_code (1 : Nat) (Option.some Jvm.ClassFile.FieldType.boolean)) ∈ lw_all := lw_g (lw_at lw_m17 79 rfl) rfl
theorem q4162 : (Jvm.Cond.methodLink "CoercedClassesModel" (519 : Nat) ({ cls := "CoercedClassesModel", name := "aFunction", desc := "(I)V" } : Jvm.MethodName)) ∈ lw_all := lw_g (lw_at lw_m17 80 rfl) rfl
theorem q4163 : (Jvm.Cond.privateMethod ({ cls := "CoercedClassesModel", name := "aFunction", desc := "(I)V" } : Jvm.MethodName)) ∈ lw_tbl := lw_at lw_m17 81 rfl
theorem q4164 : (Jvm.Cond.instanceMethod ({ cls := "CoercedClassesModel", name := "aFunction", desc := "(I)V" } : Jvm.MethodName)) ∈ lw_all := lw_g (lw_at lw_m17 82 rfl) rfl
theorem q4165 : (Jvm.Cond.code ({ cls := "CoercedClassesModel", name := "aFunction", desc := "(I)V" } : Jvm.MethodName) prog_46_method_38_code (2 : Nat) (Option.none : Option Jvm.ClassFile.FieldType)) ∈ lw_all := lw_g (lw_at lw_m17 83 rfl) rfl
theorem q4166 : (Jvm.Cond.methodLink "CoercedClassesModel" (1035 : Nat) ({ cls := "CoercedClassesModel", name := "stand", desc := "(I)V" } : Jvm.MethodName)) ∈ lw_all := lw_g (lw_at lw_m17 84 rfl) rfl
theorem q4167 : (Jvm.Cond.privateMethod ({ cls := "CoercedClassesModel", name := "stand", desc := "(I)V" } : Jvm.MethodName)) ∈ lw_tbl := lw_at lw_m17 85 rfl
theorem q4168 : (Jvm.Cond.instanceMethod ({ cls := "CoercedClassesModel", name := "stand", desc := "(I)V" } : Jvm.MethodName)) ∈ lw_all := lw_g (lw_at lw_m17 86 rfl) rfl
theorem q4169 : (Jvm.Cond.code ({ cls := "CoercedClassesModel", name := "stand", desc := "(I)V" } : Jvm.MethodName) prog_46_method_45_code (7 : Nat) (Option.none : Option Jvm.ClassFile.FieldType)) ∈ lw_all := lw_g (lw_at lw_m17 87 rfl) rfl
theorem q4170 : (Jvm.Cond.methodLink "CoercedClassesModel" (529 : Nat) ({ cls := "CoercedClassesModel", name := "breaks", desc := "(II)V" } : Jvm.MethodName)) ∈ lw_all := lw_g (lw_at lw_m17 88 rfl) rfl
theorem q4171 : (Jvm.Cond.privateMethod ({ cls := "CoercedClassesModel", name := "breaks", desc := "(II)V" } : Jvm.MethodName)) ∈ lw_tbl := lw_at lw_m17 89 rfl
theorem q4172 : (Jvm.Cond.instanceMethod ({ cls := "CoercedClassesModel", name := "breaks", desc := "(II)V" } : Jvm.MethodName)) ∈ lw_all := lw_g (lw_at lw_m17 90 rfl) rfl
theorem q4173 : (Jvm.Cond.code ({ cls := "CoercedClassesModel", name := "breaks", desc := "(II)V" } : Jvm.MethodName) prog_46_method_40_code (3 : Nat) (Option.none : Option Jvm.ClassFile.FieldType)) ∈ lw_all := lw_g (lw_at lw_m17 91 rfl) rfl
theorem q4174 : (Jvm.Cond.methodLink "CoercedClassesModel" (536 : Nat) ({ cls := "CoercedClassesModel", name := "tells", desc := "(I)V" } : Jvm.MethodName)) ∈ lw_all := lw_g (lw_at lw_m17 92 rfl) rfl
theorem q4175 : (Jvm.Cond.privateMethod ({ cls := "CoercedClassesModel", name := "tells", desc := "(I)V" } : Jvm.MethodName)) ∈ lw_tbl := lw_at lw_m17 93 rfl
theorem q4176 : (Jvm.Cond.instanceMethod ({ cls := "CoercedClassesModel", name := "tells", desc := "(I)V" } : Jvm.MethodName)) ∈ lw_all := lw_g (lw_at lw_m17 94 rfl) rfl
theorem q4177 : (Jvm.Cond.code ({ cls := "CoercedClassesModel", name := "tells", desc := "(I)V" } : Jvm.MethodName) prog_46_method_44_code (3 : Nat) (Option.none : Option Jvm.ClassFile.FieldType)) ∈ lw_all := lw_g (lw_at lw_m17 95 rfl) rfl
theorem q4178 : (Jvm.Cond.methodLink "CoercedClassesModel" (539 : Nat) ({ cls := "CoercedClassesModel", name := "standsGreat", desc := "(III)Z" } : Jvm.MethodName)) ∈ lw_all := lw_g (lw_at lw_m17 96 rfl) rfl
theorem q4179 : (Jvm.Cond.privateMethod ({ cls := "CoercedClassesModel", name := "standsGreat", desc := "(III)Z" } : Jvm.MethodName)) ∈ lw_tbl := lw_at lw_m17 97 rfl
theorem q4180 : (Jvm.Cond.instanceMethod ({ cls := "CoercedClassesModel", name := "standsGreat", desc := "(III)Z" } : Jvm.MethodName)) ∈ lw_all := lw_g (lw_at lw_m17 98 rfl) rfl
theorem q4181 : (Jvm.Cond.code ({ cls := "CoercedClassesModel", name := "standsGreat", desc := "(III)Z" } : Jvm.MethodName) prog_46_method_42_code (5 : Nat) (Option.some Jvm.ClassFile.FieldType.boolean)) ∈ lw_all := lw_g (lw_at lw_m17 99 rfl) rfl
theorem q4182 : (Jvm.Cond.methodLink "CoercedClassesModel" (543 : Nat) ({ cls := "CoercedClassesModel", name := "standsTerm", desc := "(III)Z" } : Jvm.MethodName)) ∈ lw_all := lw_g (lw_at lw_m17 100 rfl) rfl
theorem q4183 : (Jvm.Cond.privateMethod ({ cls := "CoercedClassesModel", name := "standsTerm", desc := "(III)Z" } : Jvm.MethodName)) ∈ lw_tbl := lw_at lw_m17 101 rfl
theorem q4184 : (Jvm.Cond.instanceMethod ({ cls := "CoercedClassesModel", name := "standsTerm", desc := "(III)Z" } : Jvm.MethodName)) ∈ lw_all := lw_g (lw_at lw_m17 102 rfl) rfl
theorem q4185 : (Jvm.Cond.code ({ cls := "CoercedClassesModel", name := "standsTerm", desc := "(III)Z" } : Jvm.MethodName) prog_46_method_43_code (5 : Nat) (Option.some Jvm.ClassFile.FieldType.boolean)) ∈ lw_all := lw_g (lw_at lw_m17 103 rfl) rfl
theorem q4186 : (Jvm.Cond.methodLink "CoercedClassesModel" (1038 : Nat) ({ cls := "CoercedClassesModel", name := "fillClass", desc := "(I)V" } : Jvm.MethodName)) ∈ lw_all := lw_g (lw_at lw_m17 104 rfl) rfl
theorem q4187 : (Jvm.Cond.privateMethod ({ cls := "CoercedClassesModel", name := "fillClass", desc := "(I)V" } : Jvm.MethodName)) ∈ lw_tbl := lw_at lw_m17 105 rfl
theorem q4188 : (Jvm.Cond.instanceMethod ({ cls := "CoercedClassesModel", name := "fillClass", desc := "(I)V" } : Jvm.MethodName)) ∈ lw_all := lw_g (lw_at lw_m17 106 rfl) rfl
theorem q4189 : (Jvm.Cond.code ({ cls := "CoercedClassesModel", name := "fillClass", desc := "(I)V" } : Jvm.MethodName) prog_46_method_52_code (5 : Nat) (Option.none : Option Jvm.ClassFile.FieldType)) ∈ lw_all := lw_g (lw_at lw_m17 107 rfl) rfl
theorem q4190 : (Jvm.Cond.methodLink "CoercedClassesModel" (565 : Nat) ({ cls := "CoercedClassesModel", name := "known", desc := "(I)I" } : Jvm.MethodName)) ∈ lw_all := lw_g (lw_at lw_m17 108 rfl) rfl
theorem q4191 : (Jvm.Cond.privateMethod ({ cls := "CoercedClassesModel", name := "known", desc := "(I)I" } : Jvm.MethodName)) ∈ lw_tbl := lw_at lw_m17 109 rfl
theorem q4192 : (Jvm.Cond.instanceMethod ({ cls := "CoercedClassesModel", name := "known", desc := "(I)I" } : Jvm.MethodName)) ∈ lw_all := lw_g (lw_at lw_m17 110 rfl) rfl
theorem q4193 : (Jvm.Cond.code ({ cls := "CoercedClassesModel", name := "known", desc := "(I)I" } : Jvm.MethodName) prog_46_method_47_code (11 : Nat) (Option.some Jvm.ClassFile.FieldType.int)) ∈ lw_all := lw_g (lw_at lw_m17 111 rfl) rfl
theorem q4194 : (Jvm.Cond.methodLink "CoercedClassesModel" (558 : Nat) ({ cls := "CoercedClassesModel", name := "inScope", desc := "(I)I" } : Jvm.MethodName)) ∈ lw_all := lw_g (lw_at lw_m17 112 rfl) rfl
theorem q4195 : (Jvm.Cond.privateMethod ({ cls := "CoercedClassesModel", name := "inScope", desc := "(I)I" } : Jvm.MethodName)) ∈ lw_tbl := lw_at lw_m17 113 rfl
theorem q4196 : (Jvm.Cond.instanceMethod ({ cls := "CoercedClassesModel", name := "inScope", desc := "(I)I" } : Jvm.MethodName)) ∈ lw_all := lw_g (lw_at lw_m17 114 rfl) rfl
theorem q4197 : (Jvm.Cond.code ({ cls := "CoercedClassesModel", name := "inScope", desc := "(I)I" } : Jvm.MethodName) prog_46_method_46_code (3 : Nat) (Option.some Jvm.ClassFile.FieldType.int)) ∈ lw_all := lw_g (lw_at lw_m17 115 rfl) rfl
theorem q4198 : (Jvm.Cond.methodLink "CoercedClassesModel" (568 : Nat) ({ cls := "CoercedClassesModel", name := "partsOf", desc := "(I)I" } : Jvm.MethodName)) ∈ lw_all := lw_g (lw_at lw_m17 116 rfl) rfl
theorem q4199 : (Jvm.Cond.static ({ cls := "CoercedClassesModel", name := "partsOf", desc := "(I)I" } : Jvm.MethodName)) ∈ lw_all := lw_g (lw_at lw_m17 117 rfl) rfl
theorem q4200 : (Jvm.Cond.code ({ cls := "CoercedClassesModel", name := "partsOf", desc := "(I)I" } : Jvm.MethodName) prog_46_method_39_code (1 : Nat) (Option.some Jvm.ClassFile.FieldType.int)) ∈ lw_all := lw_g (lw_at lw_m17 118 rfl) rfl
theorem q4201 : (Jvm.Cond.methodLink "CoercedClassesModel" (1041 : Nat) ({ cls := "CoercedClassesModel", name := "fillInstance", desc := "(I)V" } : Jvm.MethodName)) ∈ lw_all := lw_g (lw_at lw_m17 119 rfl) rfl
theorem q4202 : (Jvm.Cond.privateMethod ({ cls := "CoercedClassesModel", name := "fillInstance", desc := "(I)V" } : Jvm.MethodName)) ∈ lw_tbl := lw_at lw_m17 120 rfl
theorem q4203 : (Jvm.Cond.instanceMethod ({ cls := "CoercedClassesModel", name := "fillInstance", desc := "(I)V" } : Jvm.MethodName)) ∈ lw_all := lw_g (lw_at lw_m17 121 rfl) rfl
theorem q4204 : (Jvm.Cond.code ({ cls := "CoercedClassesModel", name := "fillInstance", desc := "(I)V" } : Jvm.MethodName) prog_46_method_53_code (7 : Nat) (Option.none : Option Jvm.ClassFile.FieldType)) ∈ lw_all := lw_g (lw_at lw_m17 122 rfl) rfl
theorem q4205 : (Jvm.Cond.methodLink "CoercedClassesModel" (580 : Nat) ({ cls := "CoercedClassesModel", name := "exKnown", desc := "(I)V" } : Jvm.MethodName)) ∈ lw_all := lw_g (lw_at lw_m17 123 rfl) rfl
theorem q4206 : (Jvm.Cond.privateMethod ({ cls := "CoercedClassesModel", name := "exKnown", desc := "(I)V" } : Jvm.MethodName)) ∈ lw_tbl := lw_at lw_m17 124 rfl
theorem q4207 : (Jvm.Cond.instanceMethod ({ cls := "CoercedClassesModel", name := "exKnown", desc := "(I)V" } : Jvm.MethodName)) ∈ lw_all := lw_g (lw_at lw_m17 125 rfl) rfl
theorem q4208 : (Jvm.Cond.code ({ cls := "CoercedClassesModel", name := "exKnown", desc := "(I)V" } : Jvm.MethodName) prog_46_method_48_code (4 : Nat) (Option.none : Option Jvm.ClassFile.FieldType)) ∈ lw_all := lw_g (lw_at lw_m17 126 rfl) rfl
theorem q4209 : (Jvm.Cond.methodLink "CoercedClassesModel" (574 : Nat) ({ cls := "CoercedClassesModel", name := "hasLeft", desc := "(I)Z" } : Jvm.MethodName)) ∈ lw_all := lw_g (lw_at lw_m17 127 rfl) rfl
theorem q4210 : (Jvm.Cond.privateMethod ({ cls := "CoercedClassesModel", name := "hasLeft", desc := "(I)Z" } : Jvm.MethodName)) ∈ lw_tbl := lw_at lw_m17 128 rfl
theorem q4211 : (Jvm.Cond.instanceMethod ({ cls := "CoercedClassesModel", name := "hasLeft", desc := "(I)Z" } : Jvm.MethodName)) ∈ lw_all := lw_g (lw_at lw_m17 129 rfl) rfl
theorem q4212 : (Jvm.Cond.code ({ cls := "CoercedClassesModel", name := "hasLeft", desc := "(I)Z" } : Jvm.MethodName) prog_46_method_78_code (2 : Nat) (Option.some Jvm.ClassFile.FieldType.boolean)) ∈ lw_all := lw_g (lw_at lw_m17 130 rfl) rfl
theorem q4213 : (Jvm.Cond.methodLink "CoercedClassesModel" (577 : Nat) ({ cls := "CoercedClassesModel", name := "oneKnown", desc := "(I)V" } : Jvm.MethodName)) ∈ lw_all := lw_g (lw_at lw_m17 131 rfl) rfl
theorem q4214 : (Jvm.Cond.privateMethod ({ cls := "CoercedClassesModel", name := "oneKnown", desc := "(I)V" } : Jvm.MethodName)) ∈ lw_tbl := lw_at lw_m17 132 rfl
theorem q4215 : (Jvm.Cond.instanceMethod ({ cls := "CoercedClassesModel", name := "oneKnown", desc := "(I)V" } : Jvm.MethodName)) ∈ lw_all := lw_g (lw_at lw_m17 133 rfl) rfl
theorem q4216 : (Jvm.Cond.code ({ cls := "CoercedClassesModel", name := "oneKnown", desc := "(I)V" } : Jvm.MethodName) prog_46_method_49_code (5 : Nat) (Option.none : Option Jvm.ClassFile.FieldType)) ∈ lw_all := lw_g (lw_at lw_m17 134 rfl) rfl
theorem q4217 : (Jvm.Cond.methodLink "CoercedClassesModel" (586 : Nat) ({ cls := "CoercedClassesModel", name := "binds", desc := "(I)V" } : Jvm.MethodName)) ∈ lw_all := lw_g (lw_at lw_m17 135 rfl) rfl
theorem q4218 : (Jvm.Cond.privateMethod ({ cls := "CoercedClassesModel", name := "binds", desc := "(I)V" } : Jvm.MethodName)) ∈ lw_tbl := lw_at lw_m17 136 rfl
theorem q4219 : (Jvm.Cond.instanceMethod ({ cls := "CoercedClassesModel", name := "binds", desc := "(I)V" } : Jvm.MethodName)) ∈ lw_all := lw_g (lw_at lw_m17 137 rfl) rfl
theorem q4220 : (Jvm.Cond.code ({ cls := "CoercedClassesModel", name := "binds", desc := "(I)V" } : Jvm.MethodName) prog_46_method_50_code (2 : Nat) (Option.none : Option Jvm.ClassFile.FieldType)) ∈ lw_all := lw_g (lw_at lw_m17 138 rfl) rfl
theorem q4221 : (Jvm.Cond.methodLink "CoercedClassesModel" (1044 : Nat) ({ cls := "CoercedClassesModel", name := "fillFunction", desc := "(I)V" } : Jvm.MethodName)) ∈ lw_all := lw_g (lw_at lw_m17 139 rfl) rfl
theorem q4222 : (Jvm.Cond.privateMethod ({ cls := "CoercedClassesModel", name := "fillFunction", desc := "(I)V" } : Jvm.MethodName)) ∈ lw_tbl := lw_at lw_m17 140 rfl
theorem q4223 : (Jvm.Cond.instanceMethod ({ cls := "CoercedClassesModel", name := "fillFunction", desc := "(I)V" } : Jvm.MethodName)) ∈ lw_all := lw_g (lw_at lw_m17 141 rfl) rfl
theorem q4224 : (Jvm.Cond.code ({ cls := "CoercedClassesModel", name := "fillFunction", desc := "(I)V" } : Jvm.MethodName) prog_46_method_54_code (7 : Nat) (Option.none : Option Jvm.ClassFile.FieldType)) ∈ lw_all := lw_g (lw_at lw_m17 142 rfl) rfl
theorem q4225 : (Jvm.Cond.methodLink "CoercedClassesModel" (1047 : Nat) ({ cls := "CoercedClassesModel", name := "third", desc := "()V" } : Jvm.MethodName)) ∈ lw_all := lw_g (lw_at lw_m17 143 rfl) rfl
theorem q4226 : (Jvm.Cond.privateMethod ({ cls := "CoercedClassesModel", name := "third", desc := "()V" } : Jvm.MethodName)) ∈ lw_tbl := lw_at lw_m17 144 rfl
theorem q4227 : (Jvm.Cond.instanceMethod ({ cls := "CoercedClassesModel", name := "third", desc := "()V" } : Jvm.MethodName)) ∈ lw_all := lw_g (lw_at lw_m17 145 rfl) rfl
theorem q4228 : (Jvm.Cond.code ({ cls := "CoercedClassesModel", name := "third", desc := "()V" } : Jvm.MethodName) prog_46_method_57_code (6 : Nat) (Option.none : Option Jvm.ClassFile.FieldType)) ∈ lw_all := lw_g (lw_at lw_m17 146 rfl) rfl
theorem q4229 : (Jvm.Cond.methodLink "CoercedClassesModel" (592 : Nat) ({ cls := "CoercedClassesModel", name := "namesAlone", desc := "(I)V" } : Jvm.MethodName)) ∈ lw_all := lw_g (lw_at lw_m17 147 rfl) rfl
theorem q4230 : (Jvm.Cond.privateMethod ({ cls := "CoercedClassesModel", name := "namesAlone", desc := "(I)V" } : Jvm.MethodName)) ∈ lw_tbl := lw_at lw_m17 148 rfl
theorem q4231 : (Jvm.Cond.instanceMethod ({ cls := "CoercedClassesModel", name := "namesAlone", desc := "(I)V" } : Jvm.MethodName)) ∈ lw_all := lw_g (lw_at lw_m17 149 rfl) rfl
theorem q4232 : (Jvm.Cond.code ({ cls := "CoercedClassesModel", name := "namesAlone", desc := "(I)V" } : Jvm.MethodName) prog_46_method_56_code (3 : Nat) (Option.none : Option Jvm.ClassFile.FieldType)) ∈ lw_all := lw_g (lw_at lw_m17 150 rfl) rfl
theorem q4233 : (Jvm.Cond.methodLink "CoercedClassesModel" (589 : Nat) ({ cls := "CoercedClassesModel", name := "hasFamily", desc := "(I)Z" } : Jvm.MethodName)) ∈ lw_all := lw_g (lw_at lw_m17 151 rfl) rfl
theorem q4234 : (Jvm.Cond.privateMethod ({ cls := "CoercedClassesModel", name := "hasFamily", desc := "(I)Z" } : Jvm.MethodName)) ∈ lw_tbl := lw_at lw_m17 152 rfl
theorem q4235 : (Jvm.Cond.instanceMethod ({ cls := "CoercedClassesModel", name := "hasFamily", desc := "(I)Z" } : Jvm.MethodName)) ∈ lw_all := lw_g (lw_at lw_m17 153 rfl) rfl
theorem q4236 : (Jvm.Cond.code ({ cls := "CoercedClassesModel", name := "hasFamily", desc := "(I)Z" } : Jvm.MethodName) prog_46_method_55_code (2 : Nat) (Option.some Jvm.ClassFile.FieldType.boolean)) ∈ lw_all := lw_g (lw_at lw_m17 154 rfl) rfl
theorem q4237 : (Jvm.Cond.methodLink "CoercedClassesModel" (604 : Nat) ({ cls := "CoercedClassesModel", name := "had", desc := "(II)Z" } : Jvm.MethodName)) ∈ lw_all := lw_g (lw_at lw_m17 155 rfl) rfl
theorem q4238 : (Jvm.Cond.privateMethod ({ cls := "CoercedClassesModel", name := "had", desc := "(II)Z" } : Jvm.MethodName)) ∈ lw_tbl := lw_at lw_m17 156 rfl
theorem q4239 : (Jvm.Cond.instanceMethod ({ cls := "CoercedClassesModel", name := "had", desc := "(II)Z" } : Jvm.MethodName)) ∈ lw_all := lw_g (lw_at lw_m17 157 rfl) rfl
theorem q4240 : (Jvm.Cond.code ({ cls := "CoercedClassesModel", name := "had", desc := "(II)Z" } : Jvm.MethodName) prog_46_method_75_code (6 : Nat) (Option.some Jvm.ClassFile.FieldType.boolean)) ∈ lw_all := lw_g (lw_at lw_m17 158 rfl) rfl
theorem q4241 : (Jvm.Cond.methodLink "CoercedClassesModel" (1050 : Nat) ({ cls := "CoercedClassesModel", name := "judgeAll", desc := "()V" } : Jvm.MethodName)) ∈ lw_all := lw_g (lw_at lw_m17 159 rfl) rfl
theorem q4242 : (Jvm.Cond.privateMethod ({ cls := "CoercedClassesModel", name := "judgeAll", desc := "()V" } : Jvm.MethodName)) ∈ lw_tbl := lw_at lw_m17 160 rfl
theorem q4243 : (Jvm.Cond.instanceMethod ({ cls := "CoercedClassesModel", name := "judgeAll", desc := "()V" } : Jvm.MethodName)) ∈ lw_all := lw_g (lw_at lw_m17 161 rfl) rfl
theorem q4244 : (Jvm.Cond.code ({ cls := "CoercedClassesModel", name := "judgeAll", desc := "()V" } : Jvm.MethodName) prog_46_method_91_code (6 : Nat) (Option.none : Option Jvm.ClassFile.FieldType)) ∈ lw_all := lw_g (lw_at lw_m17 162 rfl) rfl
theorem q4245 : (Jvm.Cond.methodLink "CoercedClassesModel" (689 : Nat) ({ cls := "CoercedClassesModel", name := "judge", desc := "(I)I" } : Jvm.MethodName)) ∈ lw_all := lw_g (lw_at lw_m17 163 rfl) rfl
theorem q4246 : (Jvm.Cond.privateMethod ({ cls := "CoercedClassesModel", name := "judge", desc := "(I)I" } : Jvm.MethodName)) ∈ lw_tbl := lw_at lw_m17 164 rfl
theorem q4247 : (Jvm.Cond.instanceMethod ({ cls := "CoercedClassesModel", name := "judge", desc := "(I)I" } : Jvm.MethodName)) ∈ lw_all := lw_g (lw_at lw_m17 165 rfl) rfl
theorem q4248 : (Jvm.Cond.code ({ cls := "CoercedClassesModel", name := "judge", desc := "(I)I" } : Jvm.MethodName) prog_46_method_79_code (4 : Nat) (Option.some Jvm.ClassFile.FieldType.int)) ∈ lw_all := lw_g (lw_at lw_m17 166 rfl) rfl
theorem q4249 : (Jvm.Cond.methodLink "CoercedClassesModel" (668 : Nat) ({ cls := "CoercedClassesModel", name := "judgeOne", desc := "(I)I" } : Jvm.MethodName)) ∈ lw_all := lw_g (lw_at lw_m17 167 rfl) rfl
theorem q4250 : (Jvm.Cond.privateMethod ({ cls := "CoercedClassesModel", name := "judgeOne", desc := "(I)I" } : Jvm.MethodName)) ∈ lw_tbl := lw_at lw_m17 168 rfl
theorem q4251 : (Jvm.Cond.instanceMethod ({ cls := "CoercedClassesModel", name := "judgeOne", desc := "(I)I" } : Jvm.MethodName)) ∈ lw_all := lw_g (lw_at lw_m17 169 rfl) rfl
theorem q4252 : (Jvm.Cond.code ({ cls := "CoercedClassesModel", name := "judgeOne", desc := "(I)I" } : Jvm.MethodName) prog_46_method_83_code (5 : Nat) (Option.some Jvm.ClassFile.FieldType.int)) ∈ lw_all := lw_g (lw_at lw_m17 170 rfl) rfl
theorem q4253 : (Jvm.Cond.methodLink "CoercedClassesModel" (698 : Nat) ({ cls := "CoercedClassesModel", name := "named", desc := "(I)I" } : Jvm.MethodName)) ∈ lw_all := lw_g (lw_at lw_m17 171 rfl) rfl
theorem q4254 : (Jvm.Cond.privateMethod ({ cls := "CoercedClassesModel", name := "named", desc := "(I)I" } : Jvm.MethodName)) ∈ lw_tbl := lw_at lw_m17 172 rfl
theorem q4255 : (Jvm.Cond.instanceMethod ({ cls := "CoercedClassesModel", name := "named", desc := "(I)I" } : Jvm.MethodName)) ∈ lw_all := lw_g (lw_at lw_m17 173 rfl) rfl
theorem q4256 : (Jvm.Cond.code ({ cls := "CoercedClassesModel", name := "named", desc := "(I)I" } : Jvm.MethodName) prog_46_method_87_code (11 : Nat) (Option.some Jvm.ClassFile.FieldType.int)) ∈ lw_all := lw_g (lw_at lw_m17 174 rfl) rfl
theorem q4257 : (Jvm.Cond.methodLink "CoercedClassesModel" (683 : Nat) ({ cls := "CoercedClassesModel", name := "fails", desc := "(II)V" } : Jvm.MethodName)) ∈ lw_all := lw_g (lw_at lw_m17 175 rfl) rfl
theorem q4258 : (Jvm.Cond.privateMethod ({ cls := "CoercedClassesModel", name := "fails", desc := "(II)V" } : Jvm.MethodName)) ∈ lw_tbl := lw_at lw_m17 176 rfl
theorem q4259 : (Jvm.Cond.instanceMethod ({ cls := "CoercedClassesModel", name := "fails", desc := "(II)V" } : Jvm.MethodName)) ∈ lw_all := lw_g (lw_at lw_m17 177 rfl) rfl
theorem q4260 : (Jvm.Cond.code ({ cls := "CoercedClassesModel", name := "fails", desc := "(II)V" } : Jvm.MethodName) prog_46_method_77_code (3 : Nat) (Option.none : Option Jvm.ClassFile.FieldType)) ∈ lw_all := lw_g (lw_at lw_m17 178 rfl) rfl
theorem q4261 : (Jvm.Cond.methodLink "CoercedClassesModel" (710 : Nat) ({ cls := "CoercedClassesModel", name := "allOf", desc := "(I)I" } : Jvm.MethodName)) ∈ lw_all := lw_g (lw_at lw_m17 179 rfl) rfl
theorem q4262 : (Jvm.Cond.privateMethod ({ cls := "CoercedClassesModel", name := "allOf", desc := "(I)I" } : Jvm.MethodName)) ∈ lw_tbl := lw_at lw_m17 180 rfl
theorem q4263 : (Jvm.Cond.instanceMethod ({ cls := "CoercedClassesModel", name := "allOf", desc := "(I)I" } : Jvm.MethodName)) ∈ lw_all := lw_g (lw_at lw_m17 181 rfl) rfl
theorem q4264 : (Jvm.Cond.code ({ cls := "CoercedClassesModel", name := "allOf", desc := "(I)I" } : Jvm.MethodName) prog_46_method_85_code (3 : Nat) (Option.some Jvm.ClassFile.FieldType.int)) ∈ lw_all := lw_g (lw_at lw_m17 182 rfl) rfl
theorem q4265 : (Jvm.Cond.methodLink "CoercedClassesModel" (719 : Nat) ({ cls := "CoercedClassesModel", name := "given", desc := "(IIII)V" } : Jvm.MethodName)) ∈ lw_all := lw_g (lw_at lw_m17 183 rfl) rfl
theorem q4266 : (Jvm.Cond.privateMethod ({ cls := "CoercedClassesModel", name := "given", desc := "(IIII)V" } : Jvm.MethodName)) ∈ lw_tbl := lw_at lw_m17 184 rfl
theorem q4267 : (Jvm.Cond.instanceMethod ({ cls := "CoercedClassesModel", name := "given", desc := "(IIII)V" } : Jvm.MethodName)) ∈ lw_all := lw_g (lw_at lw_m17 185 rfl) rfl
theorem q4268 : (Jvm.Cond.code ({ cls := "CoercedClassesModel", name := "given", desc := "(IIII)V" } : Jvm.MethodName) prog_46_method_90_code (7 : Nat) (Option.none : Option Jvm.ClassFile.FieldType)) ∈ lw_all := lw_g (lw_at lw_m17 186 rfl) rfl
theorem q4269 : (Jvm.Cond.methodLink "CoercedClassesModel" (677 : Nat) ({ cls := "CoercedClassesModel", name := "one", desc := "(II)Z" } : Jvm.MethodName)) ∈ lw_all := lw_g (lw_at lw_m17 187 rfl) rfl
theorem q4270 : (Jvm.Cond.privateMethod ({ cls := "CoercedClassesModel", name := "one", desc := "(II)Z" } : Jvm.MethodName)) ∈ lw_tbl := lw_at lw_m17 188 rfl
theorem q4271 : (Jvm.Cond.instanceMethod ({ cls := "CoercedClassesModel", name := "one", desc := "(II)Z" } : Jvm.MethodName)) ∈ lw_all := lw_g (lw_at lw_m17 189 rfl) rfl
theorem q4272 : (Jvm.Cond.code ({ cls := "CoercedClassesModel", name := "one", desc := "(II)Z" } : Jvm.MethodName) prog_46_method_72_code (5 : Nat) (Option.some Jvm.ClassFile.FieldType.boolean)) ∈ lw_all := lw_g (lw_at lw_m17 190 rfl) rfl
theorem q4273 : (Jvm.Cond.methodLink "CoercedClassesModel" (701 : Nat) ({ cls := "CoercedClassesModel", name := "bindsType", desc := "(I)V" } : Jvm.MethodName)) ∈ lw_all := lw_g (lw_at lw_m17 191 rfl) rfl
theorem q4274 : (Jvm.Cond.privateMethod ({ cls := "CoercedClassesModel", name := "bindsType", desc := "(I)V" } : Jvm.MethodName)) ∈ lw_tbl := lw_at lw_m17 192 rfl
theorem q4275 : (Jvm.Cond.instanceMethod ({ cls := "CoercedClassesModel", name := "bindsType", desc := "(I)V" } : Jvm.MethodName)) ∈ lw_all := lw_g (lw_at lw_m17 193 rfl) rfl
theorem q4276 : (Jvm.Cond.code ({ cls := "CoercedClassesModel", name := "bindsType", desc := "(I)V" } : Jvm.MethodName) prog_46_method_84_code (2 : Nat) (Option.none : Option Jvm.ClassFile.FieldType)) ∈ lw_all := lw_g (lw_at lw_m17 194 rfl) rfl
theorem q4277 : (Jvm.Cond.methodLink "CoercedClassesModel" (686 : Nat) ({ cls := "CoercedClassesModel", name := "wanted", desc := "(II)V" } : Jvm.MethodName)) ∈ lw_all := lw_g (lw_at lw_m17 195 rfl) rfl
theorem q4278 : (Jvm.Cond.privateMethod ({ cls := "CoercedClassesModel", name := "wanted", desc := "(II)V" } : Jvm.MethodName)) ∈ lw_tbl := lw_at lw_m17 196 rfl
theorem q4279 : (Jvm.Cond.instanceMethod ({ cls := "CoercedClassesModel", name := "wanted", desc := "(II)V" } : Jvm.MethodName)) ∈ lw_all := lw_g (lw_at lw_m17 197 rfl) rfl
theorem q4280 : (Jvm.Cond.code ({ cls := "CoercedClassesModel", name := "wanted", desc := "(II)V" } : Jvm.MethodName) prog_46_method_80_code (4 : Nat) (Option.none : Option Jvm.ClassFile.FieldType)) ∈ lw_all := lw_g (lw_at lw_m17 198 rfl) rfl
theorem q4281 : (Jvm.Cond.methodLink "CoercedClassesModel" (680 : Nat) ({ cls := "CoercedClassesModel", name := "placeOf", desc := "(I)I" } : Jvm.MethodName)) ∈ lw_all := lw_g (lw_at lw_m17 199 rfl) rfl
theorem q4282 : (Jvm.Cond.privateMethod ({ cls := "CoercedClassesModel", name := "placeOf", desc := "(I)I" } : Jvm.MethodName)) ∈ lw_tbl := lw_at lw_m17 200 rfl
theorem q4283 : (Jvm.Cond.instanceMethod ({ cls := "CoercedClassesModel", name := "placeOf", desc := "(I)I" } : Jvm.MethodName)) ∈ lw_all := lw_g (lw_at lw_m17 201 rfl) rfl
theorem q4284 : (Jvm.Cond.code ({ cls := "CoercedClassesModel", name := "placeOf", desc := "(I)I" } : Jvm.MethodName) prog_46_method_76_code (3 : Nat) (Option.some Jvm.ClassFile.FieldType.int)) ∈ lw_all := lw_g (lw_at lw_m17 202 rfl) rfl
theorem q4285 : (Jvm.Cond.methodLink "CoercedClassesModel" (695 : Nat) ({ cls := "CoercedClassesModel", name := "formed", desc := "(IIII)I" } : Jvm.MethodName)) ∈ lw_all := lw_g (lw_at lw_m17 203 rfl) rfl
theorem q4286 : (Jvm.Cond.privateMethod ({ cls := "CoercedClassesModel", name := "formed", desc := "(IIII)I" } : Jvm.MethodName)) ∈ lw_tbl := lw_at lw_m17 204 rfl
theorem q4287 : (Jvm.Cond.instanceMethod ({ cls := "CoercedClassesModel", name := "formed", desc := "(IIII)I" } : Jvm.MethodName)) ∈ lw_all := lw_g (lw_at lw_m17 205 rfl) rfl
theorem q4288 : (Jvm.Cond.code ({ cls := "CoercedClassesModel", name := "formed", desc := "(IIII)I" } : Jvm.MethodName) prog_46_method_81_code (7 : Nat) (Option.some Jvm.ClassFile.FieldType.int)) ∈ lw_all := lw_g (lw_at lw_m17 206 rfl) rfl
theorem q4289 : (Jvm.Cond.methodLink "CoercedClassesModel" (674 : Nat) ({ cls := "CoercedClassesModel", name := "judgeUp", desc := "(II)I" } : Jvm.MethodName)) ∈ lw_all := lw_g (lw_at lw_m17 207 rfl) rfl
theorem q4290 : (Jvm.Cond.privateMethod ({ cls := "CoercedClassesModel", name := "judgeUp", desc := "(II)I" } : Jvm.MethodName)) ∈ lw_tbl := lw_at lw_m17 208 rfl
theorem q4291 : (Jvm.Cond.instanceMethod ({ cls := "CoercedClassesModel", name := "judgeUp", desc := "(II)I" } : Jvm.MethodName)) ∈ lw_all := lw_g (lw_at lw_m17 209 rfl) rfl
theorem q4292 : (Jvm.Cond.code ({ cls := "CoercedClassesModel", name := "judgeUp", desc := "(II)I" } : Jvm.MethodName) prog_46_method_82_code (5 : Nat) (Option.some Jvm.ClassFile.FieldType.int)) ∈ lw_all := lw_g (lw_at lw_m17 210 rfl) rfl
theorem q4293 : (Jvm.Cond.methodLink "CoercedClassesModel" (738 : Nat) ({ cls := "CoercedClassesModel", name := "lineType", desc := "(II)I" } : Jvm.MethodName)) ∈ lw_all := lw_g (lw_at lw_m17 211 rfl) rfl
theorem q4294 : (Jvm.Cond.privateMethod ({ cls := "CoercedClassesModel", name := "lineType", desc := "(II)I" } : Jvm.MethodName)) ∈ lw_tbl := lw_at lw_m17 212 rfl
theorem q4295 : (Jvm.Cond.instanceMethod ({ cls := "CoercedClassesModel", name := "lineType", desc := "(II)I" } : Jvm.MethodName)) ∈ lw_all := lw_g (lw_at lw_m17 213 rfl) rfl
theorem q4296 : (Jvm.Cond.code ({ cls := "CoercedClassesModel", name := "lineType", desc := "(II)I" } : Jvm.MethodName) prog_46_method_92_code (3 : Nat) (Option.some Jvm.ClassFile.FieldType.int)) ∈ lw_all := lw_g (lw_at lw_m17 214 rfl) rfl
theorem q4297 : (Jvm.Cond.methodLink "CoercedClassesModel" (1053 : Nat) ({ cls := "CoercedClassesModel", name := "sayProgram", desc := "()V" } : Jvm.MethodName)) ∈ lw_all := lw_g (lw_at lw_m17 215 rfl) rfl
theorem q4298 : (Jvm.Cond.privateMethod ({ cls := "CoercedClassesModel", name := "sayProgram", desc := "()V" } : Jvm.MethodName)) ∈ lw_tbl := lw_at lw_m17 216 rfl
theorem q4299 : (Jvm.Cond.instanceMethod ({ cls := "CoercedClassesModel", name := "sayProgram", desc := "()V" } : Jvm.MethodName)) ∈ lw_all := lw_g (lw_at lw_m17 217 rfl) rfl
theorem q4300 : (Jvm.Cond.code ({ cls := "CoercedClassesModel", name := "sayProgram", desc := "()V" } : Jvm.MethodName) prog_46_method_117_code (3 : Nat) (Option.none : Option Jvm.ClassFile.FieldType)) ∈ lw_all := lw_g (lw_at lw_m17 218 rfl) rfl
theorem q4301 : (Jvm.Cond.constant "CoercedClassesModel" (839 : Nat) (60000 : Int32)) ∈ lw_all := lw_g (lw_at lw_m17 219 rfl) rfl
theorem q4302 : (Jvm.Cond.methodLink "CoercedClassesModel" (840 : Nat) ({ cls := "CoercedClassesModel", name := "begins", desc := "(I)V" } : Jvm.MethodName)) ∈ lw_all := lw_g (lw_at lw_m17 220 rfl) rfl
theorem q4303 : (Jvm.Cond.privateMethod ({ cls := "CoercedClassesModel", name := "begins", desc := "(I)V" } : Jvm.MethodName)) ∈ lw_tbl := lw_at lw_m17 221 rfl
theorem q4304 : (Jvm.Cond.instanceMethod ({ cls := "CoercedClassesModel", name := "begins", desc := "(I)V" } : Jvm.MethodName)) ∈ lw_all := lw_g (lw_at lw_m17 222 rfl) rfl
theorem q4305 : (Jvm.Cond.code ({ cls := "CoercedClassesModel", name := "begins", desc := "(I)V" } : Jvm.MethodName) prog_46_method_114_code (2 : Nat) (Option.none : Option Jvm.ClassFile.FieldType)) ∈ lw_all := lw_g (lw_at lw_m17 223 rfl) rfl
theorem q4306 : (Jvm.Cond.methodLink "CoercedClassesModel" (833 : Nat) ({ cls := "CoercedClassesModel", name := "sayAll", desc := "(I)V" } : Jvm.MethodName)) ∈ lw_all := lw_g (lw_at lw_m17 224 rfl) rfl
theorem q4307 : (Jvm.Cond.privateMethod ({ cls := "CoercedClassesModel", name := "sayAll", desc := "(I)V" } : Jvm.MethodName)) ∈ lw_tbl := lw_at lw_m17 225 rfl
theorem q4308 : (Jvm.Cond.instanceMethod ({ cls := "CoercedClassesModel", name := "sayAll", desc := "(I)V" } : Jvm.MethodName)) ∈ lw_all := lw_g (lw_at lw_m17 226 rfl) rfl
theorem q4309 : (Jvm.Cond.code ({ cls := "CoercedClassesModel", name := "sayAll", desc := "(I)V" } : Jvm.MethodName) prog_46_method_112_code (2 : Nat) (Option.none : Option Jvm.ClassFile.FieldType)) ∈ lw_all := lw_g (lw_at lw_m17 227 rfl) rfl
theorem q4310 : (Jvm.Cond.methodLink "CoercedClassesModel" (757 : Nat) ({ cls := "CoercedClassesModel", name := "say", desc := "(I)V" } : Jvm.MethodName)) ∈ lw_all := lw_g (lw_at lw_m17 228 rfl) rfl
theorem q4311 : (Jvm.Cond.privateMethod ({ cls := "CoercedClassesModel", name := "say", desc := "(I)V" } : Jvm.MethodName)) ∈ lw_tbl := lw_at lw_m17 229 rfl
theorem q4312 : (Jvm.Cond.instanceMethod ({ cls := "CoercedClassesModel", name := "say", desc := "(I)V" } : Jvm.MethodName)) ∈ lw_all := lw_g (lw_at lw_m17 230 rfl) rfl
theorem q4313 : (Jvm.Cond.code ({ cls := "CoercedClassesModel", name := "say", desc := "(I)V" } : Jvm.MethodName) prog_46_method_93_code (2 : Nat) (Option.none : Option Jvm.ClassFile.FieldType)) ∈ lw_all := lw_g (lw_at lw_m17 231 rfl) rfl
theorem q4314 : (Jvm.Cond.methodLink "CoercedClassesModel" (763 : Nat) ({ cls := "CoercedClassesModel", name := "sayName", desc := "(I)V" } : Jvm.MethodName)) ∈ lw_all := lw_g (lw_at lw_m17 232 rfl) rfl
theorem q4315 : (Jvm.Cond.privateMethod ({ cls := "CoercedClassesModel", name := "sayName", desc := "(I)V" } : Jvm.MethodName)) ∈ lw_tbl := lw_at lw_m17 233 rfl
theorem q4316 : (Jvm.Cond.instanceMethod ({ cls := "CoercedClassesModel", name := "sayName", desc := "(I)V" } : Jvm.MethodName)) ∈ lw_all := lw_g (lw_at lw_m17 234 rfl) rfl
theorem q4317 : (Jvm.Cond.code ({ cls := "CoercedClassesModel", name := "sayName", desc := "(I)V" } : Jvm.MethodName) prog_46_method_95_code (3 : Nat) (Option.none : Option Jvm.ClassFile.FieldType)) ∈ lw_all := lw_g (lw_at lw_m17 235 rfl) rfl
theorem q4318 : (Jvm.Cond.methodLink "CoercedClassesModel" (836 : Nat) ({ cls := "CoercedClassesModel", name := "sayGivens", desc := "()V" } : Jvm.MethodName)) ∈ lw_all := lw_g (lw_at lw_m17 236 rfl) rfl
theorem q4319 : (Jvm.Cond.privateMethod ({ cls := "CoercedClassesModel", name := "sayGivens", desc := "()V" } : Jvm.MethodName)) ∈ lw_tbl := lw_at lw_m17 237 rfl
theorem q4320 : (Jvm.Cond.instanceMethod ({ cls := "CoercedClassesModel", name := "sayGivens", desc := "()V" } : Jvm.MethodName)) ∈ lw_all := lw_g (lw_at lw_m17 238 rfl) rfl
theorem q4321 : (Jvm.Cond.code ({ cls := "CoercedClassesModel", name := "sayGivens", desc := "()V" } : Jvm.MethodName) prog_46_method_113_code (2 : Nat) (Option.none : Option Jvm.ClassFile.FieldType)) ∈ lw_all := lw_g (lw_at lw_m17 239 rfl) rfl
theorem q4322 : (Jvm.Cond.methodLink "CoercedClassesModel" (760 : Nat) ({ cls := "CoercedClassesModel", name := "sayNumber", desc := "(I)V" } : Jvm.MethodName)) ∈ lw_all := lw_g (lw_at lw_m18 0 rfl) rfl
theorem q4323 : (Jvm.Cond.privateMethod ({ cls := "CoercedClassesModel", name := "sayNumber", desc := "(I)V" } : Jvm.MethodName)) ∈ lw_tbl := lw_at lw_m18 1 rfl
theorem q4324 : (Jvm.Cond.instanceMethod ({ cls := "CoercedClassesModel", name := "sayNumber", desc := "(I)V" } : Jvm.MethodName)) ∈ lw_all := lw_g (lw_at lw_m18 2 rfl) rfl
theorem q4325 : (Jvm.Cond.code ({ cls := "CoercedClassesModel", name := "sayNumber", desc := "(I)V" } : Jvm.MethodName) prog_46_method_96_code (2 : Nat) (Option.none : Option Jvm.ClassFile.FieldType)) ∈ lw_all := lw_g (lw_at lw_m18 3 rfl) rfl
theorem q4326 : (Jvm.Cond.methodLink "CoercedClassesModel" (766 : Nat) ({ cls := "CoercedClassesModel", name := "sayType", desc := "(I)V" } : Jvm.MethodName)) ∈ lw_all := lw_g (lw_at lw_m18 4 rfl) rfl
theorem q4327 : (Jvm.Cond.privateMethod ({ cls := "CoercedClassesModel", name := "sayType", desc := "(I)V" } : Jvm.MethodName)) ∈ lw_tbl := lw_at lw_m18 5 rfl
theorem q4328 : (Jvm.Cond.instanceMethod ({ cls := "CoercedClassesModel", name := "sayType", desc := "(I)V" } : Jvm.MethodName)) ∈ lw_all := lw_g (lw_at lw_m18 6 rfl) rfl
theorem q4329 : (Jvm.Cond.code ({ cls := "CoercedClassesModel", name := "sayType", desc := "(I)V" } : Jvm.MethodName) prog_46_method_99_code (2 : Nat) (Option.none : Option Jvm.ClassFile.FieldType)) ∈ lw_all := lw_g (lw_at lw_m18 7 rfl) rfl
theorem q4330 : (Jvm.Cond.methodLink "CoercedClassesModel" (769 : Nat) ({ cls := "CoercedClassesModel", name := "sayGreat", desc := "(I)V" } : Jvm.MethodName)) ∈ lw_all := lw_g (lw_at lw_m18 8 rfl) rfl
theorem q4331 : (Jvm.Cond.privateMethod ({ cls := "CoercedClassesModel", name := "sayGreat", desc := "(I)V" } : Jvm.MethodName)) ∈ lw_tbl := lw_at lw_m18 9 rfl
theorem q4332 : (Jvm.Cond.instanceMethod ({ cls := "CoercedClassesModel", name := "sayGreat", desc := "(I)V" } : Jvm.MethodName)) ∈ lw_all := lw_g (lw_at lw_m18 10 rfl) rfl
theorem q4333 : (Jvm.Cond.code ({ cls := "CoercedClassesModel", name := "sayGreat", desc := "(I)V" } : Jvm.MethodName) prog_46_method_98_code (2 : Nat) (Option.none : Option Jvm.ClassFile.FieldType)) ∈ lw_all := lw_g (lw_at lw_m18 11 rfl) rfl
theorem q4334 : (Jvm.Cond.methodLink "CoercedClassesModel" (805 : Nat) ({ cls := "CoercedClassesModel", name := "sayEx", desc := "(I)V" } : Jvm.MethodName)) ∈ lw_all := lw_g (lw_at lw_m18 12 rfl) rfl
theorem q4335 : (Jvm.Cond.privateMethod ({ cls := "CoercedClassesModel", name := "sayEx", desc := "(I)V" } : Jvm.MethodName)) ∈ lw_tbl := lw_at lw_m18 13 rfl
theorem q4336 : (Jvm.Cond.instanceMethod ({ cls := "CoercedClassesModel", name := "sayEx", desc := "(I)V" } : Jvm.MethodName)) ∈ lw_all := lw_g (lw_at lw_m18 14 rfl) rfl
theorem q4337 : (Jvm.Cond.code ({ cls := "CoercedClassesModel", name := "sayEx", desc := "(I)V" } : Jvm.MethodName) prog_46_method_108_code (6 : Nat) (Option.none : Option Jvm.ClassFile.FieldType)) ∈ lw_all := lw_g (lw_at lw_m18 15 rfl) rfl
theorem q4338 : (Jvm.Cond.methodLink "CoercedClassesModel" (799 : Nat) ({ cls := "CoercedClassesModel", name := "sayPlain", desc := "(I)V" } : Jvm.MethodName)) ∈ lw_all := lw_g (lw_at lw_m18 16 rfl) rfl
theorem q4339 : (Jvm.Cond.privateMethod ({ cls := "CoercedClassesModel", name := "sayPlain", desc := "(I)V" } : Jvm.MethodName)) ∈ lw_tbl := lw_at lw_m18 17 rfl
theorem q4340 : (Jvm.Cond.instanceMethod ({ cls := "CoercedClassesModel", name := "sayPlain", desc := "(I)V" } : Jvm.MethodName)) ∈ lw_all := lw_g (lw_at lw_m18 18 rfl) rfl
theorem q4341 : (Jvm.Cond.code ({ cls := "CoercedClassesModel", name := "sayPlain", desc := "(I)V" } : Jvm.MethodName) prog_46_method_110_code (3 : Nat) (Option.none : Option Jvm.ClassFile.FieldType)) ∈ lw_all := lw_g (lw_at lw_m18 19 rfl) rfl
theorem q4342 : (Jvm.Cond.methodLink "CoercedClassesModel" (808 : Nat) ({ cls := "CoercedClassesModel", name := "sayNamed", desc := "(I)V" } : Jvm.MethodName)) ∈ lw_all := lw_g (lw_at lw_m18 20 rfl) rfl
theorem q4343 : (Jvm.Cond.privateMethod ({ cls := "CoercedClassesModel", name := "sayNamed", desc := "(I)V" } : Jvm.MethodName)) ∈ lw_tbl := lw_at lw_m18 21 rfl
theorem q4344 : (Jvm.Cond.instanceMethod ({ cls := "CoercedClassesModel", name := "sayNamed", desc := "(I)V" } : Jvm.MethodName)) ∈ lw_all := lw_g (lw_at lw_m18 22 rfl) rfl
theorem q4345 : (Jvm.Cond.code ({ cls := "CoercedClassesModel", name := "sayNamed", desc := "(I)V" } : Jvm.MethodName) prog_46_method_111_code (7 : Nat) (Option.none : Option Jvm.ClassFile.FieldType)) ∈ lw_all := lw_g (lw_at lw_m18 23 rfl) rfl
theorem q4346 : (Jvm.Cond.methodLink "CoercedClassesModel" (793 : Nat) ({ cls := "CoercedClassesModel", name := "sayDictionary", desc := "(II)V" } : Jvm.MethodName)) ∈ lw_all := lw_g (lw_at lw_m18 24 rfl) rfl
theorem q4347 : (Jvm.Cond.privateMethod ({ cls := "CoercedClassesModel", name := "sayDictionary", desc := "(II)V" } : Jvm.MethodName)) ∈ lw_tbl := lw_at lw_m18 25 rfl
theorem q4348 : (Jvm.Cond.instanceMethod ({ cls := "CoercedClassesModel", name := "sayDictionary", desc := "(II)V" } : Jvm.MethodName)) ∈ lw_all := lw_g (lw_at lw_m18 26 rfl) rfl
theorem q4349 : (Jvm.Cond.code ({ cls := "CoercedClassesModel", name := "sayDictionary", desc := "(II)V" } : Jvm.MethodName) prog_46_method_107_code (6 : Nat) (Option.none : Option Jvm.ClassFile.FieldType)) ∈ lw_all := lw_g (lw_at lw_m18 27 rfl) rfl
theorem q4350 : (Jvm.Cond.methodLink "CoercedClassesModel" (790 : Nat) ({ cls := "CoercedClassesModel", name := "sayAbove", desc := "(III)V" } : Jvm.MethodName)) ∈ lw_all := lw_g (lw_at lw_m18 28 rfl) rfl
theorem q4351 : (Jvm.Cond.privateMethod ({ cls := "CoercedClassesModel", name := "sayAbove", desc := "(III)V" } : Jvm.MethodName)) ∈ lw_tbl := lw_at lw_m18 29 rfl
theorem q4352 : (Jvm.Cond.instanceMethod ({ cls := "CoercedClassesModel", name := "sayAbove", desc := "(III)V" } : Jvm.MethodName)) ∈ lw_all := lw_g (lw_at lw_m18 30 rfl) rfl
theorem q4353 : (Jvm.Cond.code ({ cls := "CoercedClassesModel", name := "sayAbove", desc := "(III)V" } : Jvm.MethodName) prog_46_method_106_code (7 : Nat) (Option.none : Option Jvm.ClassFile.FieldType)) ∈ lw_all := lw_g (lw_at lw_m18 31 rfl) rfl
theorem q4354 : (Jvm.Cond.methodLink "CoercedClassesModel" (787 : Nat) ({ cls := "CoercedClassesModel", name := "sayClass", desc := "(I)V" } : Jvm.MethodName)) ∈ lw_all := lw_g (lw_at lw_m18 32 rfl) rfl
theorem q4355 : (Jvm.Cond.privateMethod ({ cls := "CoercedClassesModel", name := "sayClass", desc := "(I)V" } : Jvm.MethodName)) ∈ lw_tbl := lw_at lw_m18 33 rfl
theorem q4356 : (Jvm.Cond.instanceMethod ({ cls := "CoercedClassesModel", name := "sayClass", desc := "(I)V" } : Jvm.MethodName)) ∈ lw_all := lw_g (lw_at lw_m18 34 rfl) rfl
theorem q4357 : (Jvm.Cond.code ({ cls := "CoercedClassesModel", name := "sayClass", desc := "(I)V" } : Jvm.MethodName) prog_46_method_97_code (2 : Nat) (Option.none : Option Jvm.ClassFile.FieldType)) ∈ lw_all := lw_g (lw_at lw_m18 35 rfl) rfl
theorem q4358 : (Jvm.Cond.methodLink "CoercedClassesModel" (784 : Nat) ({ cls := "CoercedClassesModel", name := "sayParts", desc := "(I)V" } : Jvm.MethodName)) ∈ lw_all := lw_g (lw_at lw_m18 36 rfl) rfl
theorem q4359 : (Jvm.Cond.privateMethod ({ cls := "CoercedClassesModel", name := "sayParts", desc := "(I)V" } : Jvm.MethodName)) ∈ lw_tbl := lw_at lw_m18 37 rfl
theorem q4360 : (Jvm.Cond.instanceMethod ({ cls := "CoercedClassesModel", name := "sayParts", desc := "(I)V" } : Jvm.MethodName)) ∈ lw_all := lw_g (lw_at lw_m18 38 rfl) rfl
theorem q4361 : (Jvm.Cond.code ({ cls := "CoercedClassesModel", name := "sayParts", desc := "(I)V" } : Jvm.MethodName) prog_46_method_100_code (2 : Nat) (Option.none : Option Jvm.ClassFile.FieldType)) ∈ lw_all := lw_g (lw_at lw_m18 39 rfl) rfl
theorem q4362 : (Jvm.Cond.methodLink "CoercedClassesModel" (796 : Nat) ({ cls := "CoercedClassesModel", name := "sayOne", desc := "(II)V" } : Jvm.MethodName)) ∈ lw_all := lw_g (lw_at lw_m18 40 rfl) rfl
theorem q4363 : (Jvm.Cond.privateMethod ({ cls := "CoercedClassesModel", name := "sayOne", desc := "(II)V" } : Jvm.MethodName)) ∈ lw_tbl := lw_at lw_m18 41 rfl
theorem q4364 : (Jvm.Cond.instanceMethod ({ cls := "CoercedClassesModel", name := "sayOne", desc := "(II)V" } : Jvm.MethodName)) ∈ lw_all := lw_g (lw_at lw_m18 42 rfl) rfl
theorem q4365 : (Jvm.Cond.code ({ cls := "CoercedClassesModel", name := "sayOne", desc := "(II)V" } : Jvm.MethodName) prog_46_method_105_code (4 : Nat) (Option.none : Option Jvm.ClassFile.FieldType)) ∈ lw_all := lw_g (lw_at lw_m18 43 rfl) rfl
theorem q4366 : (Jvm.Cond.methodLink "CoercedClassesModel" (778 : Nat) ({ cls := "CoercedClassesModel", name := "sayAlike", desc := "(I)V" } : Jvm.MethodName)) ∈ lw_all := lw_g (lw_at lw_m18 44 rfl) rfl
theorem q4367 : (Jvm.Cond.privateMethod ({ cls := "CoercedClassesModel", name := "sayAlike", desc := "(I)V" } : Jvm.MethodName)) ∈ lw_tbl := lw_at lw_m18 45 rfl
theorem q4368 : (Jvm.Cond.instanceMethod ({ cls := "CoercedClassesModel", name := "sayAlike", desc := "(I)V" } : Jvm.MethodName)) ∈ lw_all := lw_g (lw_at lw_m18 46 rfl) rfl
theorem q4369 : (Jvm.Cond.code ({ cls := "CoercedClassesModel", name := "sayAlike", desc := "(I)V" } : Jvm.MethodName) prog_46_method_103_code (2 : Nat) (Option.none : Option Jvm.ClassFile.FieldType)) ∈ lw_all := lw_g (lw_at lw_m18 47 rfl) rfl
theorem q4370 : (Jvm.Cond.methodLink "CoercedClassesModel" (781 : Nat) ({ cls := "CoercedClassesModel", name := "sayWhy", desc := "(I)V" } : Jvm.MethodName)) ∈ lw_all := lw_g (lw_at lw_m18 48 rfl) rfl
theorem q4371 : (Jvm.Cond.privateMethod ({ cls := "CoercedClassesModel", name := "sayWhy", desc := "(I)V" } : Jvm.MethodName)) ∈ lw_tbl := lw_at lw_m18 49 rfl
theorem q4372 : (Jvm.Cond.instanceMethod ({ cls := "CoercedClassesModel", name := "sayWhy", desc := "(I)V" } : Jvm.MethodName)) ∈ lw_all := lw_g (lw_at lw_m18 50 rfl) rfl
theorem q4373 : (Jvm.Cond.code ({ cls := "CoercedClassesModel", name := "sayWhy", desc := "(I)V" } : Jvm.MethodName) prog_46_method_104_code (9 : Nat) (Option.none : Option Jvm.ClassFile.FieldType)) ∈ lw_all := lw_g (lw_at lw_m18 51 rfl) rfl
theorem q4374 : (Jvm.Cond.constantLong "CoercedClassesModel" (811 : Nat) (1818588192 : Int64)) ∈ lw_all := lw_g (lw_at lw_m18 52 rfl) rfl
theorem q4375 : (Jvm.Cond.methodLink "CoercedClassesModel" (813 : Nat) ({ cls := "CoercedClassesModel", name := "says", desc := "(J)V" } : Jvm.MethodName)) ∈ lw_all := lw_g (lw_at lw_m18 53 rfl) rfl
theorem q4376 : (Jvm.Cond.privateMethod ({ cls := "CoercedClassesModel", name := "says", desc := "(J)V" } : Jvm.MethodName)) ∈ lw_tbl := lw_at lw_m18 54 rfl
theorem q4377 : (Jvm.Cond.instanceMethod ({ cls := "CoercedClassesModel", name := "says", desc := "(J)V" } : Jvm.MethodName)) ∈ lw_all := lw_g (lw_at lw_m18 55 rfl) rfl
theorem q4378 : (Jvm.Cond.code ({ cls := "CoercedClassesModel", name := "says", desc := "(J)V" } : Jvm.MethodName) prog_46_method_94_code (4 : Nat) (Option.none : Option Jvm.ClassFile.FieldType)) ∈ lw_all := lw_g (lw_at lw_m18 56 rfl) rfl
theorem q4379 : (Jvm.Cond.constantLong "CoercedClassesModel" (817 : Nat) (543780384 : Int64)) ∈ lw_all := lw_g (lw_at lw_m18 57 rfl) rfl
theorem q4380 : (Jvm.Cond.constantLong "CoercedClassesModel" (819 : Nat) (6907424 : Int64)) ∈ lw_all := lw_g (lw_at lw_m18 58 rfl) rfl
theorem q4381 : (Jvm.Cond.constantLong "CoercedClassesModel" (821 : Nat) (35684339772960 : Int64)) ∈ lw_all := lw_g (lw_at lw_m18 59 rfl) rfl
theorem q4382 : (Jvm.Cond.constantLong "CoercedClassesModel" (823 : Nat) (35619983287584 : Int64)) ∈ lw_all := lw_g (lw_at lw_m18 60 rfl) rfl
theorem q4383 : (Jvm.Cond.constantLong "CoercedClassesModel" (825 : Nat) (426836714784 : Int64)) ∈ lw_all := lw_g (lw_at lw_m18 61 rfl) rfl
theorem q4384 : (Jvm.Cond.constantLong "CoercedClassesModel" (827 : Nat) (139307917435 : Int64)) ∈ lw_all := lw_g (lw_at lw_m18 62 rfl) rfl
theorem q4385 : (Jvm.Cond.constantLong "CoercedClassesModel" (829 : Nat) (474215099710 : Int64)) ∈ lw_all := lw_g (lw_at lw_m18 63 rfl) rfl
theorem q4386 : (Jvm.Cond.constantLong "CoercedClassesModel" (831 : Nat) (65298257310496 : Int64)) ∈ lw_all := lw_g (lw_at lw_m18 64 rfl) rfl
theorem q4387 : (Jvm.Cond.methodLink "CoercedClassesModel" (802 : Nat) ({ cls := "CoercedClassesModel", name := "sayCast", desc := "(I)V" } : Jvm.MethodName)) ∈ lw_all := lw_g (lw_at lw_m18 65 rfl) rfl
theorem q4388 : (Jvm.Cond.privateMethod ({ cls := "CoercedClassesModel", name := "sayCast", desc := "(I)V" } : Jvm.MethodName)) ∈ lw_tbl := lw_at lw_m18 66 rfl
theorem q4389 : (Jvm.Cond.instanceMethod ({ cls := "CoercedClassesModel", name := "sayCast", desc := "(I)V" } : Jvm.MethodName)) ∈ lw_all := lw_g (lw_at lw_m18 67 rfl) rfl
theorem q4390 : (Jvm.Cond.code ({ cls := "CoercedClassesModel", name := "sayCast", desc := "(I)V" } : Jvm.MethodName) prog_46_method_109_code (2 : Nat) (Option.none : Option Jvm.ClassFile.FieldType)) ∈ lw_all := lw_g (lw_at lw_m18 68 rfl) rfl
theorem q4391 : (Jvm.Cond.methodLink "CoercedClassesModel" (843 : Nat) ({ cls := "CoercedClassesModel", name := "endsTerm", desc := "(I)V" } : Jvm.MethodName)) ∈ lw_all := lw_g (lw_at lw_m18 69 rfl) rfl
theorem q4392 : (Jvm.Cond.privateMethod ({ cls := "CoercedClassesModel", name := "endsTerm", desc := "(I)V" } : Jvm.MethodName)) ∈ lw_tbl := lw_at lw_m18 70 rfl
theorem q4393 : (Jvm.Cond.instanceMethod ({ cls := "CoercedClassesModel", name := "endsTerm", desc := "(I)V" } : Jvm.MethodName)) ∈ lw_all := lw_g (lw_at lw_m18 71 rfl) rfl
theorem q4394 : (Jvm.Cond.code ({ cls := "CoercedClassesModel", name := "endsTerm", desc := "(I)V" } : Jvm.MethodName) prog_46_method_115_code (2 : Nat) (Option.none : Option Jvm.ClassFile.FieldType)) ∈ lw_all := lw_g (lw_at lw_m18 72 rfl) rfl
theorem q4395 : (Jvm.Cond.methodLink "CoercedClassesModel" (846 : Nat) ({ cls := "CoercedClassesModel", name := "sayHead", desc := "(I)V" } : Jvm.MethodName)) ∈ lw_all := lw_g (lw_at lw_m18 73 rfl) rfl
theorem q4396 : (Jvm.Cond.privateMethod ({ cls := "CoercedClassesModel", name := "sayHead", desc := "(I)V" } : Jvm.MethodName)) ∈ lw_tbl := lw_at lw_m18 74 rfl
theorem q4397 : (Jvm.Cond.instanceMethod ({ cls := "CoercedClassesModel", name := "sayHead", desc := "(I)V" } : Jvm.MethodName)) ∈ lw_all := lw_g (lw_at lw_m18 75 rfl) rfl
theorem q4398 : (Jvm.Cond.code ({ cls := "CoercedClassesModel", name := "sayHead", desc := "(I)V" } : Jvm.MethodName) prog_46_method_116_code (3 : Nat) (Option.none : Option Jvm.ClassFile.FieldType)) ∈ lw_all := lw_g (lw_at lw_m18 76 rfl) rfl
theorem q4399 : (Jvm.Cond.methodLink "CoercedClassesModel" (1104 : Nat) ({ cls := "CoercedClassesModel", name := "again", desc := "(Z)V" } : Jvm.MethodName)) ∈ lw_all := lw_g (lw_at lw_m18 77 rfl) rfl
theorem q4400 : (Jvm.Cond.privateMethod ({ cls := "CoercedClassesModel", name := "again", desc := "(Z)V" } : Jvm.MethodName)) ∈ lw_tbl := lw_at lw_m18 78 rfl
theorem q4401 : (Jvm.Cond.instanceMethod ({ cls := "CoercedClassesModel", name := "again", desc := "(Z)V" } : Jvm.MethodName)) ∈ lw_all := lw_g (lw_at lw_m18 79 rfl) rfl
theorem q4402 : (Jvm.Cond.code ({ cls := "CoercedClassesModel", name := "again", desc := "(Z)V" } : Jvm.MethodName) prog_46_method_149_code (3 : Nat) (Option.none : Option Jvm.ClassFile.FieldType)) ∈ lw_all := lw_g (lw_at lw_m18 80 rfl) rfl
theorem q4403 : (Jvm.Cond.methodLink "CoercedClassesModel" (1095 : Nat) ({ cls := "CoercedClassesModel", name := "isAsk", desc := "([BI)Z" } : Jvm.MethodName)) ∈ lw_all := lw_g (lw_at lw_m18 81 rfl) rfl
theorem q4404 : (Jvm.Cond.privateMethod ({ cls := "CoercedClassesModel", name := "isAsk", desc := "([BI)Z" } : Jvm.MethodName)) ∈ lw_tbl := lw_at lw_m18 82 rfl
theorem q4405 : (Jvm.Cond.instanceMethod ({ cls := "CoercedClassesModel", name := "isAsk", desc := "([BI)Z" } : Jvm.MethodName)) ∈ lw_all := lw_g (lw_at lw_m18 83 rfl) rfl
theorem q4406 : (Jvm.Cond.code ({ cls := "CoercedClassesModel", name := "isAsk", desc := "([BI)Z" } : Jvm.MethodName) prog_46_method_148_code (5 : Nat) (Option.some Jvm.ClassFile.FieldType.boolean)) ∈ lw_all := lw_g (lw_at lw_m18 84 rfl) rfl
theorem q4407 : (Jvm.Cond.methodLink "CoercedClassesModel" (1068 : Nat) ({ cls := "CoercedClassesModel", name := "forgetTypes", desc := "(I)V" } : Jvm.MethodName)) ∈ lw_all := lw_g (lw_at lw_m18 85 rfl) rfl
theorem q4408 : (Jvm.Cond.privateMethod ({ cls := "CoercedClassesModel", name := "forgetTypes", desc := "(I)V" } : Jvm.MethodName)) ∈ lw_tbl := lw_at lw_m18 86 rfl
theorem q4409 : (Jvm.Cond.instanceMethod ({ cls := "CoercedClassesModel", name := "forgetTypes", desc := "(I)V" } : Jvm.MethodName)) ∈ lw_all := lw_g (lw_at lw_m18 87 rfl) rfl
theorem q4410 : (Jvm.Cond.code ({ cls := "CoercedClassesModel", name := "forgetTypes", desc := "(I)V" } : Jvm.MethodName) prog_46_method_13_code (3 : Nat) (Option.none : Option Jvm.ClassFile.FieldType)) ∈ lw_all := lw_g (lw_at lw_m18 88 rfl) rfl
theorem q4411 : (Jvm.Cond.constant "CoercedClassesModel" (1074 : Nat) (60100 : Int32)) ∈ lw_all := lw_g (lw_at lw_m18 89 rfl) rfl
theorem q4412 : (Jvm.Cond.constant "CoercedClassesModel" (1075 : Nat) (80100 : Int32)) ∈ lw_all := lw_g (lw_at lw_m18 90 rfl) rfl
theorem q4414 : (Jvm.Cond.instanceMethod ({ cls := "CoercedClassesModel", name := "ask", desc := "(I)Z" } : Jvm.MethodName)) ∈ lw_all := lw_g (lw_at lw_m18 92 rfl) rfl
theorem q4415 : (Jvm.Cond.selects "CoercedClassesModel" ({ cls := "CoercedClassesModel", name := "ask", desc := "(I)Z" } : Jvm.MethodName) ({ cls := "CoercedClassesModel", name := "ask", desc := "(I)Z" } : Jvm.MethodName)) ∈ lw_all := lw_g (lw_at lw_m18 93 rfl) rfl
theorem q4416 : (Jvm.Cond.code ({ cls := "CoercedClassesModel", name := "ask", desc := "(I)Z" } : Jvm.MethodName) prog_46_method_152_code (3 : Nat) (Option.some Jvm.ClassFile.FieldType.boolean)) ∈ lw_all := lw_g (lw_at lw_m18 94 rfl) rfl
theorem q4417 : (Jvm.Cond.methodLink "CoercedClassesModel" (1108 : Nat) ({ cls := "CoercedClassesModel", name := "beginRun", desc := "()V" } : Jvm.MethodName)) ∈ lw_all := lw_g (lw_at lw_m18 95 rfl) rfl
theorem q4418 : (Jvm.Cond.privateMethod ({ cls := "CoercedClassesModel", name := "beginRun", desc := "()V" } : Jvm.MethodName)) ∈ lw_tbl := lw_at lw_m18 96 rfl
theorem q4419 : (Jvm.Cond.instanceMethod ({ cls := "CoercedClassesModel", name := "beginRun", desc := "()V" } : Jvm.MethodName)) ∈ lw_all := lw_g (lw_at lw_m18 97 rfl) rfl
theorem q4420 : (Jvm.Cond.code ({ cls := "CoercedClassesModel", name := "beginRun", desc := "()V" } : Jvm.MethodName) prog_46_method_119_code (1 : Nat) (Option.none : Option Jvm.ClassFile.FieldType)) ∈ lw_all := lw_g (lw_at lw_m18 98 rfl) rfl
theorem q4422 : (Jvm.Cond.instanceMethod ({ cls := "CoercedClassesModel", name := "fault", desc := "(I)I" } : Jvm.MethodName)) ∈ lw_all := lw_g (lw_at lw_m18 100 rfl) rfl
theorem q4423 : (Jvm.Cond.selects "CoercedClassesModel" ({ cls := "CoercedClassesModel", name := "fault", desc := "(I)I" } : Jvm.MethodName) ({ cls := "CoercedClassesModel", name := "fault", desc := "(I)I" } : Jvm.MethodName)) ∈ lw_all := lw_g (lw_at lw_m18 101 rfl) rfl
theorem q4424 : (Jvm.Cond.code ({ cls := "CoercedClassesModel", name := "fault", desc := "(I)I" } : Jvm.MethodName) prog_46_method_153_code (2 : Nat) (Option.some Jvm.ClassFile.FieldType.int)) ∈ lw_all := lw_g (lw_at lw_m18 102 rfl) rfl
theorem q4426 : (Jvm.Cond.instanceMethod ({ cls := "CoercedClassesModel", name := "about", desc := "(I)I" } : Jvm.MethodName)) ∈ lw_all := lw_g (lw_at lw_m18 104 rfl) rfl
theorem q4427 : (Jvm.Cond.selects "CoercedClassesModel" ({ cls := "CoercedClassesModel", name := "about", desc := "(I)I" } : Jvm.MethodName) ({ cls := "CoercedClassesModel", name := "about", desc := "(I)I" } : Jvm.MethodName)) ∈ lw_all := lw_g (lw_at lw_m18 105 rfl) rfl
theorem q4428 : (Jvm.Cond.code ({ cls := "CoercedClassesModel", name := "about", desc := "(I)I" } : Jvm.MethodName) prog_46_method_154_code (2 : Nat) (Option.some Jvm.ClassFile.FieldType.int)) ∈ lw_all := lw_g (lw_at lw_m18 106 rfl) rfl
theorem q4430 : (Jvm.Cond.instanceMethod ({ cls := "CoercedClassesModel", name := "octet", desc := "(I)I" } : Jvm.MethodName)) ∈ lw_all := lw_g (lw_at lw_m18 108 rfl) rfl
theorem q4431 : (Jvm.Cond.selects "CoercedClassesModel" ({ cls := "CoercedClassesModel", name := "octet", desc := "(I)I" } : Jvm.MethodName) ({ cls := "CoercedClassesModel", name := "octet", desc := "(I)I" } : Jvm.MethodName)) ∈ lw_all := lw_g (lw_at lw_m18 109 rfl) rfl
theorem q4432 : (Jvm.Cond.code ({ cls := "CoercedClassesModel", name := "octet", desc := "(I)I" } : Jvm.MethodName) prog_46_method_155_code (2 : Nat) (Option.some Jvm.ClassFile.FieldType.int)) ∈ lw_all := lw_g (lw_at lw_m18 110 rfl) rfl
theorem q4434 : (Jvm.Cond.instanceMethod ({ cls := "CoercedClassesModel", name := "size", desc := "(II)I" } : Jvm.MethodName)) ∈ lw_all := lw_g (lw_at lw_m18 112 rfl) rfl
theorem q4435 : (Jvm.Cond.selects "CoercedClassesModel" ({ cls := "CoercedClassesModel", name := "size", desc := "(II)I" } : Jvm.MethodName) ({ cls := "CoercedClassesModel", name := "size", desc := "(II)I" } : Jvm.MethodName)) ∈ lw_all := lw_g (lw_at lw_m18 113 rfl) rfl
theorem q4436 : (Jvm.Cond.code ({ cls := "CoercedClassesModel", name := "size", desc := "(II)I" } : Jvm.MethodName) prog_46_method_157_code (4 : Nat) (Option.some Jvm.ClassFile.FieldType.int)) ∈ lw_all := lw_g (lw_at lw_m18 114 rfl) rfl
theorem q4437 : (Jvm.Cond.methodLink "CoercedClassesModel" (1111 : Nat) ({ cls := "CoercedClassesModel", name := "which", desc := "(II)I" } : Jvm.MethodName)) ∈ lw_all := lw_g (lw_at lw_m18 115 rfl) rfl
theorem q4438 : (Jvm.Cond.privateMethod ({ cls := "CoercedClassesModel", name := "which", desc := "(II)I" } : Jvm.MethodName)) ∈ lw_tbl := lw_at lw_m18 116 rfl
theorem q4439 : (Jvm.Cond.instanceMethod ({ cls := "CoercedClassesModel", name := "which", desc := "(II)I" } : Jvm.MethodName)) ∈ lw_all := lw_g (lw_at lw_m18 117 rfl) rfl
theorem q4440 : (Jvm.Cond.code ({ cls := "CoercedClassesModel", name := "which", desc := "(II)I" } : Jvm.MethodName) prog_46_method_156_code (4 : Nat) (Option.some Jvm.ClassFile.FieldType.int)) ∈ lw_all := lw_g (lw_at lw_m18 118 rfl) rfl
theorem q4442 : (Jvm.Cond.instanceMethod ({ cls := "CoercedClassesModel", name := "term", desc := "(III)I" } : Jvm.MethodName)) ∈ lw_all := lw_g (lw_at lw_m18 120 rfl) rfl
theorem q4443 : (Jvm.Cond.selects "CoercedClassesModel" ({ cls := "CoercedClassesModel", name := "term", desc := "(III)I" } : Jvm.MethodName) ({ cls := "CoercedClassesModel", name := "term", desc := "(III)I" } : Jvm.MethodName)) ∈ lw_all := lw_g (lw_at lw_m18 121 rfl) rfl
theorem q4444 : (Jvm.Cond.code ({ cls := "CoercedClassesModel", name := "term", desc := "(III)I" } : Jvm.MethodName) prog_46_method_158_code (5 : Nat) (Option.some Jvm.ClassFile.FieldType.int)) ∈ lw_all := lw_g (lw_at lw_m18 122 rfl) rfl
theorem q4446 : (Jvm.Cond.instanceMethod ({ cls := "CoercedClassesModel", name := "check", desc := "(II)I" } : Jvm.MethodName)) ∈ lw_all := lw_g (lw_at lw_m18 124 rfl) rfl
theorem q4447 : (Jvm.Cond.selects "CoercedClassesModel" ({ cls := "CoercedClassesModel", name := "check", desc := "(II)I" } : Jvm.MethodName) ({ cls := "CoercedClassesModel", name := "check", desc := "(II)I" } : Jvm.MethodName)) ∈ lw_all := lw_g (lw_at lw_m18 125 rfl) rfl
theorem q4448 : (Jvm.Cond.code ({ cls := "CoercedClassesModel", name := "check", desc := "(II)I" } : Jvm.MethodName) prog_46_method_159_code (6 : Nat) (Option.some Jvm.ClassFile.FieldType.int)) ∈ lw_all := lw_g (lw_at lw_m18 126 rfl) rfl
theorem q4450 : (Jvm.Cond.instanceMethod ({ cls := "CoercedClassesModel", name := "type", desc := "(III)I" } : Jvm.MethodName)) ∈ lw_all := lw_g (lw_at lw_m18 128 rfl) rfl
theorem q4451 : (Jvm.Cond.selects "CoercedClassesModel" ({ cls := "CoercedClassesModel", name := "type", desc := "(III)I" } : Jvm.MethodName) ({ cls := "CoercedClassesModel", name := "type", desc := "(III)I" } : Jvm.MethodName)) ∈ lw_all := lw_g (lw_at lw_m18 129 rfl) rfl
theorem q4452 : (Jvm.Cond.code ({ cls := "CoercedClassesModel", name := "type", desc := "(III)I" } : Jvm.MethodName) prog_46_method_160_code (7 : Nat) (Option.some Jvm.ClassFile.FieldType.int)) ∈ lw_all := lw_g (lw_at lw_m18 130 rfl) rfl
theorem q4483 : (Jvm.Cond.castable "CoercedClassesModel" "java/lang/Object") ∈ lw_tbl := lw_at lw_m18 161 rfl
theorem layX13_0 : u_lay RX13 TX13 0 ∈ lw_all := lw_g (lw_at lw_m14 62 rfl) rfl
theorem layX13_1 : u_lay RX13 TX13 1 ∈ lw_all := lw_g (lw_at lw_m14 64 rfl) rfl
theorem layX13_2 : u_lay RX13 TX13 2 ∈ lw_all := lw_g (lw_at lw_m14 66 rfl) rfl
theorem layX13_3 : u_lay RX13 TX13 3 ∈ lw_all := lw_g (lw_at lw_m14 68 rfl) rfl
theorem layX13_4 : u_lay RX13 TX13 4 ∈ lw_all := lw_g (lw_at lw_m14 70 rfl) rfl
theorem layX13_5 : u_lay RX13 TX13 5 ∈ lw_all := lw_g (lw_at lw_m14 72 rfl) rfl
theorem layX13_6 : u_lay RX13 TX13 6 ∈ lw_all := lw_g (lw_at lw_m14 74 rfl) rfl
theorem layX13_7 : u_lay RX13 TX13 7 ∈ lw_all := lw_g (lw_at lw_m14 76 rfl) rfl
theorem layX13_8 : u_lay RX13 TX13 8 ∈ lw_all := lw_g (lw_at lw_m14 78 rfl) rfl
theorem layX13_9 : u_lay RX13 TX13 9 ∈ lw_all := lw_g (lw_at lw_m14 80 rfl) rfl
theorem layX13_10 : u_lay RX13 TX13 10 ∈ lw_all := lw_g (lw_at lw_m14 82 rfl) rfl
theorem layX13_11 : u_lay RX13 TX13 11 ∈ lw_all := lw_g (lw_at lw_m14 84 rfl) rfl
theorem layX13_12 : u_lay RX13 TX13 12 ∈ lw_all := lw_g (lw_at lw_m14 86 rfl) rfl
theorem layX13_13 : u_lay RX13 TX13 13 ∈ lw_all := lw_g (lw_at lw_m14 88 rfl) rfl
theorem layX13_14 : u_lay RX13 TX13 14 ∈ lw_all := lw_g (lw_at lw_m14 90 rfl) rfl
theorem layX13_15 : u_lay RX13 TX13 15 ∈ lw_all := lw_g (lw_at lw_m14 92 rfl) rfl
theorem layX13_16 : u_lay RX13 TX13 16 ∈ lw_all := lw_g (lw_at lw_m14 94 rfl) rfl
theorem layX13_17 : u_lay RX13 TX13 17 ∈ lw_all := lw_g (lw_at lw_m14 96 rfl) rfl
theorem layX13_18 : u_lay RX13 TX13 18 ∈ lw_all := lw_g (lw_at lw_m14 98 rfl) rfl
theorem layX13_19 : u_lay RX13 TX13 19 ∈ lw_all := lw_g (lw_at lw_m14 100 rfl) rfl
theorem layX13_20 : u_lay RX13 TX13 20 ∈ lw_all := lw_g (lw_at lw_m14 102 rfl) rfl
theorem layX13_21 : u_lay RX13 TX13 21 ∈ lw_all := lw_g (lw_at lw_m14 104 rfl) rfl
theorem layX13_22 : u_lay RX13 TX13 22 ∈ lw_all := lw_g (lw_at lw_m14 106 rfl) rfl
theorem layX13_23 : u_lay RX13 TX13 23 ∈ lw_all := lw_g (lw_at lw_m14 108 rfl) rfl
theorem layX13_24 : u_lay RX13 TX13 24 ∈ lw_all := lw_g (lw_at lw_m14 110 rfl) rfl
theorem layX13_25 : u_lay RX13 TX13 25 ∈ lw_all := lw_g (lw_at lw_m14 112 rfl) rfl
theorem layX13_26 : u_lay RX13 TX13 26 ∈ lw_all := lw_g (lw_at lw_m14 114 rfl) rfl
theorem layX13_27 : u_lay RX13 TX13 27 ∈ lw_all := lw_g (lw_at lw_m14 116 rfl) rfl
theorem layX13_28 : u_lay RX13 TX13 28 ∈ lw_all := lw_g (lw_at lw_m14 118 rfl) rfl
theorem layX13_29 : u_lay RX13 TX13 29 ∈ lw_all := lw_g (lw_at lw_m14 120 rfl) rfl
theorem layX13_30 : u_lay RX13 TX13 30 ∈ lw_all := lw_g (lw_at lw_m14 122 rfl) rfl
theorem layX13_31 : u_lay RX13 TX13 31 ∈ lw_all := lw_g (lw_at lw_m14 124 rfl) rfl
theorem layX13_32 : u_lay RX13 TX13 32 ∈ lw_all := lw_g (lw_at lw_m14 126 rfl) rfl
theorem layX13_33 : u_lay RX13 TX13 33 ∈ lw_all := lw_g (lw_at lw_m14 128 rfl) rfl
theorem layX13_34 : u_lay RX13 TX13 34 ∈ lw_all := lw_g (lw_at lw_m14 130 rfl) rfl
theorem layX13_35 : u_lay RX13 TX13 35 ∈ lw_all := lw_g (lw_at lw_m14 132 rfl) rfl
theorem layX13_36 : u_lay RX13 TX13 36 ∈ lw_all := lw_g (lw_at lw_m14 134 rfl) rfl
theorem layX13_37 : u_lay RX13 TX13 37 ∈ lw_all := lw_g (lw_at lw_m14 136 rfl) rfl
theorem layX13_38 : u_lay RX13 TX13 38 ∈ lw_all := lw_g (lw_at lw_m14 138 rfl) rfl
theorem layX13_39 : u_lay RX13 TX13 39 ∈ lw_all := lw_g (lw_at lw_m14 140 rfl) rfl
theorem layX13_40 : u_lay RX13 TX13 40 ∈ lw_all := lw_g (lw_at lw_m14 142 rfl) rfl
theorem layX13_41 : u_lay RX13 TX13 41 ∈ lw_all := lw_g (lw_at lw_m14 144 rfl) rfl
theorem layX13_42 : u_lay RX13 TX13 42 ∈ lw_all := lw_g (lw_at lw_m14 146 rfl) rfl
theorem layX13_43 : u_lay RX13 TX13 43 ∈ lw_all := lw_g (lw_at lw_m14 148 rfl) rfl
theorem layX13_44 : u_lay RX13 TX13 44 ∈ lw_all := lw_g (lw_at lw_m14 150 rfl) rfl
theorem layX13_45 : u_lay RX13 TX13 45 ∈ lw_all := lw_g (lw_at lw_m14 152 rfl) rfl
theorem layX13_46 : u_lay RX13 TX13 46 ∈ lw_all := lw_g (lw_at lw_m14 154 rfl) rfl
theorem layX13_47 : u_lay RX13 TX13 47 ∈ lw_all := lw_g (lw_at lw_m14 156 rfl) rfl
theorem layX13_48 : u_lay RX13 TX13 48 ∈ lw_all := lw_g (lw_at lw_m14 158 rfl) rfl
theorem layX13_49 : u_lay RX13 TX13 49 ∈ lw_all := lw_g (lw_at lw_m14 160 rfl) rfl
theorem layX13_50 : u_lay RX13 TX13 50 ∈ lw_all := lw_g (lw_at lw_m14 162 rfl) rfl
theorem layX13_51 : u_lay RX13 TX13 51 ∈ lw_all := lw_g (lw_at lw_m14 164 rfl) rfl
theorem layX13_52 : u_lay RX13 TX13 52 ∈ lw_all := lw_g (lw_at lw_m14 166 rfl) rfl
theorem layX13_53 : u_lay RX13 TX13 53 ∈ lw_all := lw_g (lw_at lw_m14 168 rfl) rfl
theorem layX13_54 : u_lay RX13 TX13 54 ∈ lw_all := lw_g (lw_at lw_m14 170 rfl) rfl
theorem layX13_55 : u_lay RX13 TX13 55 ∈ lw_all := lw_g (lw_at lw_m14 172 rfl) rfl
theorem layX13_56 : u_lay RX13 TX13 56 ∈ lw_all := lw_g (lw_at lw_m14 174 rfl) rfl
theorem layX13_57 : u_lay RX13 TX13 57 ∈ lw_all := lw_g (lw_at lw_m14 176 rfl) rfl
theorem layX13_58 : u_lay RX13 TX13 58 ∈ lw_all := lw_g (lw_at lw_m14 178 rfl) rfl
theorem layX13_59 : u_lay RX13 TX13 59 ∈ lw_all := lw_g (lw_at lw_m14 180 rfl) rfl
theorem layX13_60 : u_lay RX13 TX13 60 ∈ lw_all := lw_g (lw_at lw_m14 182 rfl) rfl
theorem layX13_61 : u_lay RX13 TX13 61 ∈ lw_all := lw_g (lw_at lw_m14 184 rfl) rfl
theorem layX13_62 : u_lay RX13 TX13 62 ∈ lw_all := lw_g (lw_at lw_m14 186 rfl) rfl
theorem layX13_63 : u_lay RX13 TX13 63 ∈ lw_all := lw_g (lw_at lw_m14 188 rfl) rfl
theorem layX13_64 : u_lay RX13 TX13 64 ∈ lw_all := lw_g (lw_at lw_m14 190 rfl) rfl
theorem layX13_65 : u_lay RX13 TX13 65 ∈ lw_all := lw_g (lw_at lw_m14 192 rfl) rfl
theorem layX13_66 : u_lay RX13 TX13 66 ∈ lw_all := lw_g (lw_at lw_m14 194 rfl) rfl
theorem layX13_67 : u_lay RX13 TX13 67 ∈ lw_all := lw_g (lw_at lw_m14 196 rfl) rfl
theorem layX13_68 : u_lay RX13 TX13 68 ∈ lw_all := lw_g (lw_at lw_m14 198 rfl) rfl
theorem layX13_69 : u_lay RX13 TX13 69 ∈ lw_all := lw_g (lw_at lw_m14 200 rfl) rfl
theorem layX13_70 : u_lay RX13 TX13 70 ∈ lw_all := lw_g (lw_at lw_m14 202 rfl) rfl
theorem layX13_71 : u_lay RX13 TX13 71 ∈ lw_all := lw_g (lw_at lw_m14 204 rfl) rfl
theorem layX13_72 : u_lay RX13 TX13 72 ∈ lw_all := lw_g (lw_at lw_m14 206 rfl) rfl
theorem layX13_73 : u_lay RX13 TX13 73 ∈ lw_all := lw_g (lw_at lw_m14 208 rfl) rfl
theorem layX13_74 : u_lay RX13 TX13 74 ∈ lw_all := lw_g (lw_at lw_m14 210 rfl) rfl
theorem layX13_75 : u_lay RX13 TX13 75 ∈ lw_all := lw_g (lw_at lw_m14 212 rfl) rfl
theorem layX13_76 : u_lay RX13 TX13 76 ∈ lw_all := lw_g (lw_at lw_m14 214 rfl) rfl
theorem layX13_77 : u_lay RX13 TX13 77 ∈ lw_all := lw_g (lw_at lw_m14 216 rfl) rfl
theorem layX13_78 : u_lay RX13 TX13 78 ∈ lw_all := lw_g (lw_at lw_m14 218 rfl) rfl
theorem layX13_79 : u_lay RX13 TX13 79 ∈ lw_all := lw_g (lw_at lw_m14 220 rfl) rfl
theorem layX13_80 : u_lay RX13 TX13 80 ∈ lw_all := lw_g (lw_at lw_m14 222 rfl) rfl
theorem layX13_81 : u_lay RX13 TX13 81 ∈ lw_all := lw_g (lw_at lw_m14 224 rfl) rfl
theorem layX13_82 : u_lay RX13 TX13 82 ∈ lw_all := lw_g (lw_at lw_m14 226 rfl) rfl
theorem layX13_83 : u_lay RX13 TX13 83 ∈ lw_all := lw_g (lw_at lw_m14 228 rfl) rfl
theorem layX13_84 : u_lay RX13 TX13 84 ∈ lw_all := lw_g (lw_at lw_m14 230 rfl) rfl
theorem layX13_85 : u_lay RX13 TX13 85 ∈ lw_all := lw_g (lw_at lw_m14 232 rfl) rfl
theorem layX13_86 : u_lay RX13 TX13 86 ∈ lw_all := lw_g (lw_at lw_m14 234 rfl) rfl
theorem layX13_87 : u_lay RX13 TX13 87 ∈ lw_all := lw_g (lw_at lw_m14 236 rfl) rfl
theorem layX13_88 : u_lay RX13 TX13 88 ∈ lw_all := lw_g (lw_at lw_m14 238 rfl) rfl
theorem layX13_89 : u_lay RX13 TX13 89 ∈ lw_all := lw_g (lw_at lw_m15 0 rfl) rfl
theorem layX13_90 : u_lay RX13 TX13 90 ∈ lw_all := lw_g (lw_at lw_m15 2 rfl) rfl
theorem layX13_91 : u_lay RX13 TX13 91 ∈ lw_all := lw_g (lw_at lw_m15 4 rfl) rfl
theorem layX13_92 : u_lay RX13 TX13 92 ∈ lw_all := lw_g (lw_at lw_m15 6 rfl) rfl
theorem layX13_93 : u_lay RX13 TX13 93 ∈ lw_all := lw_g (lw_at lw_m15 8 rfl) rfl
theorem layX13_94 : u_lay RX13 TX13 94 ∈ lw_all := lw_g (lw_at lw_m15 10 rfl) rfl
theorem layX13_95 : u_lay RX13 TX13 95 ∈ lw_all := lw_g (lw_at lw_m15 12 rfl) rfl
theorem layX13_96 : u_lay RX13 TX13 96 ∈ lw_all := lw_g (lw_at lw_m15 14 rfl) rfl
theorem layX13_97 : u_lay RX13 TX13 97 ∈ lw_all := lw_g (lw_at lw_m15 16 rfl) rfl
theorem layX13_98 : u_lay RX13 TX13 98 ∈ lw_all := lw_g (lw_at lw_m15 18 rfl) rfl
theorem layX13_99 : u_lay RX13 TX13 99 ∈ lw_all := lw_g (lw_at lw_m15 20 rfl) rfl
theorem layX13_100 : u_lay RX13 TX13 100 ∈ lw_all := lw_g (lw_at lw_m15 22 rfl) rfl
theorem layX13_101 : u_lay RX13 TX13 101 ∈ lw_all := lw_g (lw_at lw_m15 24 rfl) rfl
theorem layX13_102 : u_lay RX13 TX13 102 ∈ lw_all := lw_g (lw_at lw_m15 26 rfl) rfl
theorem layX13_103 : u_lay RX13 TX13 103 ∈ lw_all := lw_g (lw_at lw_m15 28 rfl) rfl
theorem layX13_104 : u_lay RX13 TX13 104 ∈ lw_all := lw_g (lw_at lw_m15 30 rfl) rfl
theorem layX13_105 : u_lay RX13 TX13 105 ∈ lw_all := lw_g (lw_at lw_m15 32 rfl) rfl
theorem layX13_106 : u_lay RX13 TX13 106 ∈ lw_all := lw_g (lw_at lw_m15 34 rfl) rfl
theorem layX13_107 : u_lay RX13 TX13 107 ∈ lw_all := lw_g (lw_at lw_m15 36 rfl) rfl
theorem layX13_108 : u_lay RX13 TX13 108 ∈ lw_all := lw_g (lw_at lw_m15 38 rfl) rfl
theorem layX13_109 : u_lay RX13 TX13 109 ∈ lw_all := lw_g (lw_at lw_m15 40 rfl) rfl
theorem layX13_110 : u_lay RX13 TX13 110 ∈ lw_all := lw_g (lw_at lw_m15 42 rfl) rfl
theorem layX13_111 : u_lay RX13 TX13 111 ∈ lw_all := lw_g (lw_at lw_m15 44 rfl) rfl
theorem layX13_112 : u_lay RX13 TX13 112 ∈ lw_all := lw_g (lw_at lw_m15 46 rfl) rfl
theorem layX13_113 : u_lay RX13 TX13 113 ∈ lw_all := lw_g (lw_at lw_m15 48 rfl) rfl
theorem layX13_114 : u_lay RX13 TX13 114 ∈ lw_all := lw_g (lw_at lw_m15 50 rfl) rfl
theorem layX13_115 : u_lay RX13 TX13 115 ∈ lw_all := lw_g (lw_at lw_m15 52 rfl) rfl
theorem layX13_116 : u_lay RX13 TX13 116 ∈ lw_all := lw_g (lw_at lw_m15 54 rfl) rfl
theorem layX13_117 : u_lay RX13 TX13 117 ∈ lw_all := lw_g (lw_at lw_m15 56 rfl) rfl
theorem layX13_118 : u_lay RX13 TX13 118 ∈ lw_all := lw_g (lw_at lw_m15 58 rfl) rfl
theorem layX13_119 : u_lay RX13 TX13 119 ∈ lw_all := lw_g (lw_at lw_m15 60 rfl) rfl
theorem layX13_120 : u_lay RX13 TX13 120 ∈ lw_all := lw_g (lw_at lw_m15 62 rfl) rfl
theorem layX13_121 : u_lay RX13 TX13 121 ∈ lw_all := lw_g (lw_at lw_m15 64 rfl) rfl
theorem layX13_122 : u_lay RX13 TX13 122 ∈ lw_all := lw_g (lw_at lw_m15 66 rfl) rfl
theorem layX13_123 : u_lay RX13 TX13 123 ∈ lw_all := lw_g (lw_at lw_m15 68 rfl) rfl
theorem layX13_124 : u_lay RX13 TX13 124 ∈ lw_all := lw_g (lw_at lw_m15 70 rfl) rfl
theorem layX13_125 : u_lay RX13 TX13 125 ∈ lw_all := lw_g (lw_at lw_m15 72 rfl) rfl
theorem layX13_126 : u_lay RX13 TX13 126 ∈ lw_all := lw_g (lw_at lw_m15 74 rfl) rfl
theorem layX13_127 : u_lay RX13 TX13 127 ∈ lw_all := lw_g (lw_at lw_m15 76 rfl) rfl
theorem layX13_128 : u_lay RX13 TX13 128 ∈ lw_all := lw_g (lw_at lw_m15 78 rfl) rfl
theorem layX13_129 : u_lay RX13 TX13 129 ∈ lw_all := lw_g (lw_at lw_m15 80 rfl) rfl
theorem layX13_130 : u_lay RX13 TX13 130 ∈ lw_all := lw_g (lw_at lw_m15 82 rfl) rfl
theorem layX13_131 : u_lay RX13 TX13 131 ∈ lw_all := lw_g (lw_at lw_m15 84 rfl) rfl
theorem layX13_132 : u_lay RX13 TX13 132 ∈ lw_all := lw_g (lw_at lw_m15 86 rfl) rfl
theorem layX13_133 : u_lay RX13 TX13 133 ∈ lw_all := lw_g (lw_at lw_m15 88 rfl) rfl
theorem layX13_134 : u_lay RX13 TX13 134 ∈ lw_all := lw_g (lw_at lw_m15 90 rfl) rfl
theorem layX13_135 : u_lay RX13 TX13 135 ∈ lw_all := lw_g (lw_at lw_m15 92 rfl) rfl
theorem layX13_136 : u_lay RX13 TX13 136 ∈ lw_all := lw_g (lw_at lw_m15 94 rfl) rfl
theorem layX13_137 : u_lay RX13 TX13 137 ∈ lw_all := lw_g (lw_at lw_m15 96 rfl) rfl
theorem layX13_138 : u_lay RX13 TX13 138 ∈ lw_all := lw_g (lw_at lw_m15 98 rfl) rfl
theorem layX13_139 : u_lay RX13 TX13 139 ∈ lw_all := lw_g (lw_at lw_m15 100 rfl) rfl
theorem layX13_140 : u_lay RX13 TX13 140 ∈ lw_all := lw_g (lw_at lw_m15 102 rfl) rfl
theorem layX13_141 : u_lay RX13 TX13 141 ∈ lw_all := lw_g (lw_at lw_m15 104 rfl) rfl
theorem layX13_142 : u_lay RX13 TX13 142 ∈ lw_all := lw_g (lw_at lw_m15 106 rfl) rfl
theorem layX13_143 : u_lay RX13 TX13 143 ∈ lw_all := lw_g (lw_at lw_m15 108 rfl) rfl
theorem layX13_144 : u_lay RX13 TX13 144 ∈ lw_all := lw_g (lw_at lw_m15 110 rfl) rfl
theorem layX13_145 : u_lay RX13 TX13 145 ∈ lw_all := lw_g (lw_at lw_m15 112 rfl) rfl
theorem layX13_146 : u_lay RX13 TX13 146 ∈ lw_all := lw_g (lw_at lw_m15 114 rfl) rfl
theorem layX13_147 : u_lay RX13 TX13 147 ∈ lw_all := lw_g (lw_at lw_m15 116 rfl) rfl
theorem layX13_148 : u_lay RX13 TX13 148 ∈ lw_all := lw_g (lw_at lw_m15 118 rfl) rfl
theorem layX13_149 : u_lay RX13 TX13 149 ∈ lw_all := lw_g (lw_at lw_m15 120 rfl) rfl
theorem layX13_150 : u_lay RX13 TX13 150 ∈ lw_all := lw_g (lw_at lw_m15 122 rfl) rfl
theorem layX13_151 : u_lay RX13 TX13 151 ∈ lw_all := lw_g (lw_at lw_m15 124 rfl) rfl
theorem layX13_152 : u_lay RX13 TX13 152 ∈ lw_all := lw_g (lw_at lw_m15 126 rfl) rfl
theorem layX13_153 : u_lay RX13 TX13 153 ∈ lw_all := lw_g (lw_at lw_m15 128 rfl) rfl
theorem layX13_154 : u_lay RX13 TX13 154 ∈ lw_all := lw_g (lw_at lw_m15 130 rfl) rfl
theorem layX13_155 : u_lay RX13 TX13 155 ∈ lw_all := lw_g (lw_at lw_m15 132 rfl) rfl
theorem layX13_156 : u_lay RX13 TX13 156 ∈ lw_all := lw_g (lw_at lw_m15 134 rfl) rfl
theorem layX13_157 : u_lay RX13 TX13 157 ∈ lw_all := lw_g (lw_at lw_m15 136 rfl) rfl
theorem layX13_158 : u_lay RX13 TX13 158 ∈ lw_all := lw_g (lw_at lw_m15 138 rfl) rfl
theorem layX13_159 : u_lay RX13 TX13 159 ∈ lw_all := lw_g (lw_at lw_m15 140 rfl) rfl
theorem layX13_160 : u_lay RX13 TX13 160 ∈ lw_all := lw_g (lw_at lw_m15 142 rfl) rfl
theorem layX13_161 : u_lay RX13 TX13 161 ∈ lw_all := lw_g (lw_at lw_m15 144 rfl) rfl
theorem layX13_162 : u_lay RX13 TX13 162 ∈ lw_all := lw_g (lw_at lw_m15 146 rfl) rfl
theorem layX13_163 : u_lay RX13 TX13 163 ∈ lw_all := lw_g (lw_at lw_m15 148 rfl) rfl
theorem layX13_164 : u_lay RX13 TX13 164 ∈ lw_all := lw_g (lw_at lw_m15 150 rfl) rfl
theorem layX13_165 : u_lay RX13 TX13 165 ∈ lw_all := lw_g (lw_at lw_m15 152 rfl) rfl
theorem layX13_166 : u_lay RX13 TX13 166 ∈ lw_all := lw_g (lw_at lw_m15 154 rfl) rfl
theorem layX13_167 : u_lay RX13 TX13 167 ∈ lw_all := lw_g (lw_at lw_m15 156 rfl) rfl
theorem layX13_168 : u_lay RX13 TX13 168 ∈ lw_all := lw_g (lw_at lw_m15 158 rfl) rfl
theorem layX13_169 : u_lay RX13 TX13 169 ∈ lw_all := lw_g (lw_at lw_m15 160 rfl) rfl
theorem layX13_170 : u_lay RX13 TX13 170 ∈ lw_all := lw_g (lw_at lw_m15 162 rfl) rfl
theorem layX13_171 : u_lay RX13 TX13 171 ∈ lw_all := lw_g (lw_at lw_m15 164 rfl) rfl
theorem layX13_172 : u_lay RX13 TX13 172 ∈ lw_all := lw_g (lw_at lw_m15 166 rfl) rfl
theorem layX13_173 : u_lay RX13 TX13 173 ∈ lw_all := lw_g (lw_at lw_m15 168 rfl) rfl
theorem layX13_174 : u_lay RX13 TX13 174 ∈ lw_all := lw_g (lw_at lw_m15 170 rfl) rfl
theorem layX13_175 : u_lay RX13 TX13 175 ∈ lw_all := lw_g (lw_at lw_m15 172 rfl) rfl
theorem layX13_176 : u_lay RX13 TX13 176 ∈ lw_all := lw_g (lw_at lw_m15 174 rfl) rfl
theorem layX13_177 : u_lay RX13 TX13 177 ∈ lw_all := lw_g (lw_at lw_m15 176 rfl) rfl
theorem layX13_178 : u_lay RX13 TX13 178 ∈ lw_all := lw_g (lw_at lw_m15 178 rfl) rfl
theorem layX13_179 : u_lay RX13 TX13 179 ∈ lw_all := lw_g (lw_at lw_m15 180 rfl) rfl
theorem layX13_180 : u_lay RX13 TX13 180 ∈ lw_all := lw_g (lw_at lw_m15 182 rfl) rfl
theorem layX13p0 (k : Nat) (h1 : k < 20) : u_lay RX13 TX13 (0 + k) ∈ lw_all := by
  match k, h1 with
  | 0, _ => exact layX13_0
  | 1, _ => exact layX13_1
  | 2, _ => exact layX13_2
  | 3, _ => exact layX13_3
  | 4, _ => exact layX13_4
  | 5, _ => exact layX13_5
  | 6, _ => exact layX13_6
  | 7, _ => exact layX13_7
  | 8, _ => exact layX13_8
  | 9, _ => exact layX13_9
  | 10, _ => exact layX13_10
  | 11, _ => exact layX13_11
  | 12, _ => exact layX13_12
  | 13, _ => exact layX13_13
  | 14, _ => exact layX13_14
  | 15, _ => exact layX13_15
  | 16, _ => exact layX13_16
  | 17, _ => exact layX13_17
  | 18, _ => exact layX13_18
  | 19, _ => exact layX13_19
  | k + 20, h => exact absurd h (by omega)
theorem layX13p20 (k : Nat) (h1 : k < 20) : u_lay RX13 TX13 (20 + k) ∈ lw_all := by
  match k, h1 with
  | 0, _ => exact layX13_20
  | 1, _ => exact layX13_21
  | 2, _ => exact layX13_22
  | 3, _ => exact layX13_23
  | 4, _ => exact layX13_24
  | 5, _ => exact layX13_25
  | 6, _ => exact layX13_26
  | 7, _ => exact layX13_27
  | 8, _ => exact layX13_28
  | 9, _ => exact layX13_29
  | 10, _ => exact layX13_30
  | 11, _ => exact layX13_31
  | 12, _ => exact layX13_32
  | 13, _ => exact layX13_33
  | 14, _ => exact layX13_34
  | 15, _ => exact layX13_35
  | 16, _ => exact layX13_36
  | 17, _ => exact layX13_37
  | 18, _ => exact layX13_38
  | 19, _ => exact layX13_39
  | k + 20, h => exact absurd h (by omega)
theorem layX13p40 (k : Nat) (h1 : k < 20) : u_lay RX13 TX13 (40 + k) ∈ lw_all := by
  match k, h1 with
  | 0, _ => exact layX13_40
  | 1, _ => exact layX13_41
  | 2, _ => exact layX13_42
  | 3, _ => exact layX13_43
  | 4, _ => exact layX13_44
  | 5, _ => exact layX13_45
  | 6, _ => exact layX13_46
  | 7, _ => exact layX13_47
  | 8, _ => exact layX13_48
  | 9, _ => exact layX13_49
  | 10, _ => exact layX13_50
  | 11, _ => exact layX13_51
  | 12, _ => exact layX13_52
  | 13, _ => exact layX13_53
  | 14, _ => exact layX13_54
  | 15, _ => exact layX13_55
  | 16, _ => exact layX13_56
  | 17, _ => exact layX13_57
  | 18, _ => exact layX13_58
  | 19, _ => exact layX13_59
  | k + 20, h => exact absurd h (by omega)
theorem layX13p60 (k : Nat) (h1 : k < 20) : u_lay RX13 TX13 (60 + k) ∈ lw_all := by
  match k, h1 with
  | 0, _ => exact layX13_60
  | 1, _ => exact layX13_61
  | 2, _ => exact layX13_62
  | 3, _ => exact layX13_63
  | 4, _ => exact layX13_64
  | 5, _ => exact layX13_65
  | 6, _ => exact layX13_66
  | 7, _ => exact layX13_67
  | 8, _ => exact layX13_68
  | 9, _ => exact layX13_69
  | 10, _ => exact layX13_70
  | 11, _ => exact layX13_71
  | 12, _ => exact layX13_72
  | 13, _ => exact layX13_73
  | 14, _ => exact layX13_74
  | 15, _ => exact layX13_75
  | 16, _ => exact layX13_76
  | 17, _ => exact layX13_77
  | 18, _ => exact layX13_78
  | 19, _ => exact layX13_79
  | k + 20, h => exact absurd h (by omega)
theorem layX13p80 (k : Nat) (h1 : k < 20) : u_lay RX13 TX13 (80 + k) ∈ lw_all := by
  match k, h1 with
  | 0, _ => exact layX13_80
  | 1, _ => exact layX13_81
  | 2, _ => exact layX13_82
  | 3, _ => exact layX13_83
  | 4, _ => exact layX13_84
  | 5, _ => exact layX13_85
  | 6, _ => exact layX13_86
  | 7, _ => exact layX13_87
  | 8, _ => exact layX13_88
  | 9, _ => exact layX13_89
  | 10, _ => exact layX13_90
  | 11, _ => exact layX13_91
  | 12, _ => exact layX13_92
  | 13, _ => exact layX13_93
  | 14, _ => exact layX13_94
  | 15, _ => exact layX13_95
  | 16, _ => exact layX13_96
  | 17, _ => exact layX13_97
  | 18, _ => exact layX13_98
  | 19, _ => exact layX13_99
  | k + 20, h => exact absurd h (by omega)
theorem layX13p100 (k : Nat) (h1 : k < 20) : u_lay RX13 TX13 (100 + k) ∈ lw_all := by
  match k, h1 with
  | 0, _ => exact layX13_100
  | 1, _ => exact layX13_101
  | 2, _ => exact layX13_102
  | 3, _ => exact layX13_103
  | 4, _ => exact layX13_104
  | 5, _ => exact layX13_105
  | 6, _ => exact layX13_106
  | 7, _ => exact layX13_107
  | 8, _ => exact layX13_108
  | 9, _ => exact layX13_109
  | 10, _ => exact layX13_110
  | 11, _ => exact layX13_111
  | 12, _ => exact layX13_112
  | 13, _ => exact layX13_113
  | 14, _ => exact layX13_114
  | 15, _ => exact layX13_115
  | 16, _ => exact layX13_116
  | 17, _ => exact layX13_117
  | 18, _ => exact layX13_118
  | 19, _ => exact layX13_119
  | k + 20, h => exact absurd h (by omega)
theorem layX13p120 (k : Nat) (h1 : k < 20) : u_lay RX13 TX13 (120 + k) ∈ lw_all := by
  match k, h1 with
  | 0, _ => exact layX13_120
  | 1, _ => exact layX13_121
  | 2, _ => exact layX13_122
  | 3, _ => exact layX13_123
  | 4, _ => exact layX13_124
  | 5, _ => exact layX13_125
  | 6, _ => exact layX13_126
  | 7, _ => exact layX13_127
  | 8, _ => exact layX13_128
  | 9, _ => exact layX13_129
  | 10, _ => exact layX13_130
  | 11, _ => exact layX13_131
  | 12, _ => exact layX13_132
  | 13, _ => exact layX13_133
  | 14, _ => exact layX13_134
  | 15, _ => exact layX13_135
  | 16, _ => exact layX13_136
  | 17, _ => exact layX13_137
  | 18, _ => exact layX13_138
  | 19, _ => exact layX13_139
  | k + 20, h => exact absurd h (by omega)
theorem layX13p140 (k : Nat) (h1 : k < 20) : u_lay RX13 TX13 (140 + k) ∈ lw_all := by
  match k, h1 with
  | 0, _ => exact layX13_140
  | 1, _ => exact layX13_141
  | 2, _ => exact layX13_142
  | 3, _ => exact layX13_143
  | 4, _ => exact layX13_144
  | 5, _ => exact layX13_145
  | 6, _ => exact layX13_146
  | 7, _ => exact layX13_147
  | 8, _ => exact layX13_148
  | 9, _ => exact layX13_149
  | 10, _ => exact layX13_150
  | 11, _ => exact layX13_151
  | 12, _ => exact layX13_152
  | 13, _ => exact layX13_153
  | 14, _ => exact layX13_154
  | 15, _ => exact layX13_155
  | 16, _ => exact layX13_156
  | 17, _ => exact layX13_157
  | 18, _ => exact layX13_158
  | 19, _ => exact layX13_159
  | k + 20, h => exact absurd h (by omega)
theorem layX13p160 (k : Nat) (h1 : k < 20) : u_lay RX13 TX13 (160 + k) ∈ lw_all := by
  match k, h1 with
  | 0, _ => exact layX13_160
  | 1, _ => exact layX13_161
  | 2, _ => exact layX13_162
  | 3, _ => exact layX13_163
  | 4, _ => exact layX13_164
  | 5, _ => exact layX13_165
  | 6, _ => exact layX13_166
  | 7, _ => exact layX13_167
  | 8, _ => exact layX13_168
  | 9, _ => exact layX13_169
  | 10, _ => exact layX13_170
  | 11, _ => exact layX13_171
  | 12, _ => exact layX13_172
  | 13, _ => exact layX13_173
  | 14, _ => exact layX13_174
  | 15, _ => exact layX13_175
  | 16, _ => exact layX13_176
  | 17, _ => exact layX13_177
  | 18, _ => exact layX13_178
  | 19, _ => exact layX13_179
  | k + 20, h => exact absurd h (by omega)
theorem layX13p180 (k : Nat) (h1 : k < 1) : u_lay RX13 TX13 (180 + k) ∈ lw_all := by
  match k, h1 with
  | 0, _ => exact layX13_180
  | k + 1, h => exact absurd h (by omega)
theorem in_X13 : ∀ w ∈ wsX130, w ∈ lw_all := by
  intro w hw
  obtain ⟨k, hk, rfl⟩ := List.mem_map.mp hw
  have hk : k < 181 := List.mem_range.mp hk
  by_cases c0 : k < 20
  · have := layX13p0 (k - 0) (by omega)
    rwa [show 0 + (k - 0) = k by omega] at this
  by_cases c20 : k < 40
  · have := layX13p20 (k - 20) (by omega)
    rwa [show 20 + (k - 20) = k by omega] at this
  by_cases c40 : k < 60
  · have := layX13p40 (k - 40) (by omega)
    rwa [show 40 + (k - 40) = k by omega] at this
  by_cases c60 : k < 80
  · have := layX13p60 (k - 60) (by omega)
    rwa [show 60 + (k - 60) = k by omega] at this
  by_cases c80 : k < 100
  · have := layX13p80 (k - 80) (by omega)
    rwa [show 80 + (k - 80) = k by omega] at this
  by_cases c100 : k < 120
  · have := layX13p100 (k - 100) (by omega)
    rwa [show 100 + (k - 100) = k by omega] at this
  by_cases c120 : k < 140
  · have := layX13p120 (k - 120) (by omega)
    rwa [show 120 + (k - 120) = k by omega] at this
  by_cases c140 : k < 160
  · have := layX13p140 (k - 140) (by omega)
    rwa [show 140 + (k - 140) = k by omega] at this
  by_cases c160 : k < 180
  · have := layX13p160 (k - 160) (by omega)
    rwa [show 160 + (k - 160) = k by omega] at this
  have := layX13p180 (k - 180) (by omega)
  rwa [show 180 + (k - 180) = k by omega] at this
